/-! Layer B: values of solved trees: both sides alike, for any way to evaluate leaves -/
set_option maxRecDepth 100000
/-- nodes: leaves, and inner ones; relations also those that are made by derivatives -/
def NoX (M0 : CM) (σ0 : TS) (Lf : Nat → Nat → Nat → Prop) (R : Nat → Nat → Nat → Prop) (s a n : Nat) : Prop :=
  Lf s a n ∨ (s = 0 ∧ mI M0 3400 a = 0 ∧ tA σ0 121 n = 0 ∧ mI M0 3401 a = tA σ0 122 n) ∨
  (s = 0 ∧ (mI M0 3400 a, tA σ0 121 n) ∈ unF ∧ ∃ x, tA σ0 122 n = nI x ∧ R 0 (mR M0 3405 a) x) ∨
  (s = 0 ∧ (mI M0 3400 a, tA σ0 121 n) ∈ biF ∧ (∃ x, tA σ0 122 n = nI x ∧ R 0 (mR M0 3405 a) x) ∧ ∃ y, tA σ0 123 n = nI y ∧ R 0 (mR M0 3406 a) y) ∨
  (s = 0 ∧ mI M0 3400 a = 14 ∧ tA σ0 121 n = 16 ∧ (∃ x, tA σ0 122 n = nI x ∧ R 1 (mR M0 3405 a) x) ∧ (∃ y, tA σ0 123 n = nI y ∧ R 0 (mR M0 3406 a) y) ∧ ∃ z, tA σ0 124 n = nI z ∧ R 0 (mR M0 3407 a) z) ∨
  (s = 1 ∧ (tA σ0 121 n = 20 ∨ tA σ0 121 n = 25) ∧ (mI M0 3400 a, tA σ0 122 n) ∈ rlF ∧ (∃ x, tA σ0 123 n = nI x ∧ R 0 (mR M0 3405 a) x) ∧ ∃ y, tA σ0 124 n = nI y ∧ R 0 (mR M0 3406 a) y) ∨
  (s = 1 ∧ (mI M0 3400 a, tA σ0 121 n) ∈ coF ∧ (∃ x, tA σ0 122 n = nI x ∧ R 1 (mR M0 3405 a) x) ∧ ∃ y, tA σ0 123 n = nI y ∧ R 1 (mR M0 3406 a) y) ∨
  (s = 1 ∧ mI M0 3400 a = 28 ∧ tA σ0 121 n = 23 ∧ ∃ x, tA σ0 122 n = nI x ∧ R 1 (mR M0 3405 a) x)
/-- levels the component needs above the height: numbers, conditions -/
def kn (h : Nat) : Nat := (h + 1) / 2
def kc (h : Nat) : Nat := (h + 2) / 2
/-- leaves and relations: what the evaluation does there -/
def LfX (Inv : IvT) (Bad : BdT) (M0 : CM) (σ0 : TS) (R : Nat → Nat → Nat → Nat → Prop) (Lf : Nat → Nat → Nat → Prop) (KV KC : Nat → KVT) (t0 L : Nat) (x2 : Int32) : Prop :=
  (∀ h kf tf s t M σ a n, 2 ≤ kf → t0 ≤ tf → R (h + 1) 0 a n → Lf 0 a n → Inv s t M σ → s ≤ L → VO Inv Bad s t (KV kf a M) (gW tf (nI n) x2 σ)) ∧
  (∀ a n, Lf 0 a n → ¬ (tA σ0 121 n = 5 ∨ tA σ0 121 n = 6 ∨ tA σ0 121 n = 8 ∨ tA σ0 121 n = 9)) ∧
  (∀ h kf tf s t M σ a n, 2 ≤ kf → t0 ≤ tf → R (h + 1) 1 a n → Lf 1 a n → Inv s t M σ → s ≤ L → VO Inv Bad s t (KC kf a M) (gH tf (nI n) x2 σ)) ∧
  ∀ h, EvN Inv Bad R KV (kn h) t0 L x2 h → ∀ kf tf s t M σ a n x z, kn h + h + 2 ≤ kf → t0 + 2 * (h + 1) ≤ tf → R (h + 1) 1 a n → (tA σ0 121 n = 20 ∨ tA σ0 121 n = 25) → (mI M0 3400 a, tA σ0 122 n) ∈ rlF → tA σ0 123 n = nI x → R h 0 (mR M0 3405 a) x → tA σ0 124 n = nI z → R h 0 (mR M0 3406 a) z → Inv s t M σ → s + (h + 1) ≤ L → VO Inv Bad s t (KC kf a M) (gH tf (nI n) x2 σ)
section EVALLX
variable {Inv : IvT} {Bad : BdT} {R : Nat → Nat → Nat → Nat → Prop} {KV KC : Nat → KVT} {k0 k1 t0 L h kf tf d s a n x z q : Nat} {x2 op tok : Int32} {M0 M : CM} {σ0 σ : TS} {t : Nat → Int32} {Lf : Nat → Nat → Nat → Prop}
theorem EvN.up (e : EvN Inv Bad R KV k0 t0 L x2 h) (hk : k0 ≤ k1) : EvN Inv Bad R KV k1 t0 L x2 h := fun kf tf s t M σ a n h1 => e kf tf s t M σ a n (by omega)
theorem ev_allX (hS : Sk Inv Bad M0 σ0 R) (hE : KEq KV KC) (hL : L ≤ 70000) (ht0 : 1 ≤ t0) (hR0 : ∀ s a n, ¬ R 0 s a n) (hR : ∀ h s a n, R (h + 1) s a n → NoX M0 σ0 Lf (R h) s a n) (hLf : LfX Inv Bad M0 σ0 R Lf KV KC t0 L x2) : ∀ h, EvN Inv Bad R KV (kn h) t0 L x2 h ∧ EvC Inv Bad R KC (kc h) t0 L x2 h ∧ SpA Inv Bad R KV (kn h) t0 L x2 h := by
  intro h
  induction h with
  | zero => exact ⟨fun _ _ _ _ _ _ _ _ _ _ r0 => absurd r0 (hR0 _ _ _), fun _ _ _ _ _ _ _ _ _ _ r0 => absurd r0 (hR0 _ _ _), fun _ _ _ _ _ _ _ _ _ _ r0 => absurd r0 (hR0 _ _ _)⟩
  | succ h ih =>
    obtain ⟨evn, evc, spa⟩ := ih
    obtain ⟨l1, l2, l3, l4⟩ := hLf
    have f1 : kn (h + 1) + (h + 1) = kc h + h + 1 := by unfold kn kc; omega
    have f2 : kn h ≤ kc h := by unfold kn kc; omega
    have f3 : kc (h + 1) + (h + 1) = kn h + h + 2 := by unfold kn kc; omega
    have f4 : kc h + h + 1 ≤ kc (h + 1) + (h + 1) := by unfold kc; omega
    have f5 : 2 ≤ kc h + h + 1 := by unfold kc; omega
    have evn' := evn.up f2
    have arith : ∀ a n, (mI M0 3400 a, tA σ0 121 n) ∈ biF → (mI M0 3400 a, tA σ0 121 n) ∈ arP ∨ ((mI M0 3400 a = 10 ∧ tA σ0 121 n = 14) ∨ (mI M0 3400 a = 11 ∧ tA σ0 121 n = 15)) := fun a n hop => by
      simp only [List.mem_cons, List.not_mem_nil, or_false, Prod.mk.injEq] at hop
      simp only [arP, List.mem_cons, List.not_mem_nil, or_false, Prod.mk.injEq]
      rcases hop with z | z | z | z | z | z
      · exact Or.inl (Or.inl z)
      · exact Or.inl (Or.inr (Or.inl z))
      · exact Or.inl (Or.inr (Or.inr (Or.inl z)))
      · exact Or.inl (Or.inr (Or.inr (Or.inr z)))
      · exact Or.inr (Or.inl z)
      · exact Or.inr (Or.inr z)
    have N : EvN Inv Bad R KV (kn (h + 1)) t0 L x2 (h + 1) := by
      intro kf tf s t M σ a n hk ht r0 I hs
      rcases hR h 0 a n r0 with z | ⟨-, z1, z2, z3⟩ | ⟨-, z1, x, z2, z3⟩ | ⟨-, z1, ⟨x, z2, z3⟩, y, z4, z5⟩ | ⟨-, z1, z2, ⟨x, z3, z4⟩, ⟨y, z5, z6⟩, q, z7, z8⟩ | ⟨z, -⟩ | ⟨z, -⟩ | ⟨z, -⟩
      · exact l1 h kf tf s t M σ a n (by omega) (by omega) r0 z I (by omega)
      · exact ev_num hS hE r0 z1 z2 z3 (by omega) (by omega) I
      · exact ev_un hS hE ht0 evn r0 z1 z2 z3 (by omega) ht I hs
      · rcases arith a n z1 with w | w
        · exact ev_ch hS hE hL spa evn r0 w z2 z3 z4 z5 (by omega) ht I hs
        · exact ev_mm hS hE ht0 evn r0 w z2 z3 z4 z5 (by omega) ht I hs
      · exact ev_if hS hE ht0 evn' evc r0 z1 z2 z3 z4 z5 z6 z7 z8 (by omega) ht I hs
      · exact absurd z (by decide)
      · exact absurd z (by decide)
      · exact absurd z (by decide)
    refine ⟨N, ?_, ?_⟩
    · intro kf tf s t M σ a n hk ht r0 I hs
      rcases hR h 1 a n r0 with z | ⟨z, -⟩ | ⟨z, -⟩ | ⟨z, -⟩ | ⟨z, -⟩ | ⟨-, z1, z2, ⟨x, z3, z4⟩, y, z5, z6⟩ | ⟨-, z1, ⟨x, z2, z3⟩, y, z4, z5⟩ | ⟨-, z1, z2, x, z3, z4⟩
      · exact l3 h kf tf s t M σ a n (by omega) (by omega) r0 z I (by omega)
      · exact absurd z (by decide)
      · exact absurd z (by decide)
      · exact absurd z (by decide)
      · exact absurd z (by decide)
      · exact l4 h evn kf tf s t M σ a n x y (by omega) ht r0 z1 z2 z3 z4 z5 z6 I hs
      · exact ev_co hS hE ht0 evc r0 z1 z2 z3 z4 z5 (by omega) ht I hs
      · exact ev_not hS hE evc r0 z1 z2 z3 z4 (by omega) ht I hs
    · intro kf d s t M σ a n hk ht r0 I hs
      have bot : ¬ (tA σ0 121 n = 5 ∨ tA σ0 121 n = 6 ∨ tA σ0 121 n = 8 ∨ tA σ0 121 n = 9) → SpO Inv Bad x2 (h + 1) d s t n (KV kf a M) σ := fun hop => sp_bot hS r0 hop I (N kf d s t M σ a n hk ht r0 I hs)
      rcases hR h 0 a n r0 with z | ⟨-, z1, z2, z3⟩ | ⟨-, z1, x, z2, z3⟩ | ⟨-, z1, ⟨x, z2, z3⟩, y, z4, z5⟩ | ⟨-, z1, z2, ⟨x, z3, z4⟩, ⟨y, z5, z6⟩, q, z7, z8⟩ | ⟨z, -⟩ | ⟨z, -⟩ | ⟨z, -⟩
      · exact bot (l2 a n z)
      · exact bot (by rw [z2]; decide)
      · refine bot ?_
        simp only [List.mem_cons, List.not_mem_nil, or_false, Prod.mk.injEq] at z1
        rcases z1 with ⟨-, q⟩ | ⟨-, q⟩ | ⟨-, q⟩ | ⟨-, q⟩ | ⟨-, q⟩ <;> rw [q] <;> decide
      · rcases arith a n z1 with w | w
        · exact sp_step hS hE hL spa evn r0 w z2 z3 z4 z5 (by omega) (by omega) I hs
        · refine bot ?_
          rcases w with ⟨-, q⟩ | ⟨-, q⟩ <;> rw [q] <;> decide
      · exact bot (by rw [z2]; decide)
      · exact absurd z (by decide)
      · exact absurd z (by decide)
      · exact absurd z (by decide)
theorem NoX.mono {Lf Lf' : Nat → Nat → Nat → Prop} {R R' : Nat → Nat → Nat → Prop} (hL : ∀ s a n, Lf s a n → Lf' s a n) (hR : ∀ s a n, R s a n → R' s a n) (h : NoX M0 σ0 Lf R s a n) : NoX M0 σ0 Lf' R' s a n := by
  rcases h with z | z | ⟨z1, z2, x, z3, z4⟩ | ⟨z1, z2, ⟨x, z3, z4⟩, y, z5, z6⟩ | ⟨z1, z2, z3, ⟨x, z4, z5⟩, ⟨y, z6, z7⟩, w, z8, z9⟩ | ⟨z1, z2, z3, ⟨x, z4, z5⟩, y, z6, z7⟩ | ⟨z1, z2, ⟨x, z3, z4⟩, y, z5, z6⟩ | ⟨z1, z2, z3, x, z4, z5⟩
  · exact Or.inl (hL _ _ _ z)
  · exact Or.inr (Or.inl z)
  · exact Or.inr (Or.inr (Or.inl ⟨z1, z2, x, z3, hR _ _ _ z4⟩))
  · exact Or.inr (Or.inr (Or.inr (Or.inl ⟨z1, z2, ⟨x, z3, hR _ _ _ z4⟩, y, z5, hR _ _ _ z6⟩)))
  · exact Or.inr (Or.inr (Or.inr (Or.inr (Or.inl ⟨z1, z2, z3, ⟨x, z4, hR _ _ _ z5⟩, ⟨y, z6, hR _ _ _ z7⟩, w, z8, hR _ _ _ z9⟩))))
  · exact Or.inr (Or.inr (Or.inr (Or.inr (Or.inr (Or.inl ⟨z1, z2, z3, ⟨x, z4, hR _ _ _ z5⟩, y, z6, hR _ _ _ z7⟩)))))
  · exact Or.inr (Or.inr (Or.inr (Or.inr (Or.inr (Or.inr (Or.inl ⟨z1, z2, ⟨x, z3, hR _ _ _ z4⟩, y, z5, hR _ _ _ z6⟩))))))
  · exact Or.inr (Or.inr (Or.inr (Or.inr (Or.inr (Or.inr (Or.inr ⟨z1, z2, z3, x, z4, hR _ _ _ z5⟩))))))
end EVALLX
