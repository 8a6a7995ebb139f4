/-! Layer B: sample -/
set_option maxRecDepth 100000
section SAMPLE
variable {C : PC} {M : CM} {σ : TS} {i dep c s n : Nat}
/-- a numeral of a least number -/
theorem z_atLeast (P : Pe C M σ i dep c s n) (h1 : 1 ≤ c) (h2 : 8 ≤ s) {lo : Nat} {x1 : Int32} (hx : x1 = nI lo) (hl : lo < 2147483648) : St C M σ i dep c s n (K_X2_atLeast x1 M) (F_sampleNumber x1 σ) (fun x y => ∃ k, x = nI k ∧ y = nI k ∧ lo ≤ k ∧ k ≤ 2147418112) := by
  refine Stq.st P h1 h2 ?_
  subst hx
  have P0 := P.px
  have ht := P.it
  have e405 := P.i5
  obtain ⟨g1, g2⟩ := P0.in1
  obtain ⟨r, p, hr, s1, s2⟩ := y_stop P0 (P.cap h2)
  unfold K_X2_atLeast F_sampleNumber
  rw [ifT g1, g2, ifT g1, s1, ob_some, ifT (wM_k M r p), t_isBad0 P.g0, ob_some, ifT (rfl : (0 : Int32) = 0), s2, ob_some]
  rcases z_num P with ⟨n1, n2, n3, n4, x, n5, n6⟩ | ⟨n1, n2⟩
  · rw [ifT n1, ifT n2, n4, n5]
    by_cases q : lo ≤ x
    · obtain ⟨σ', m1, m2⟩ := y_next P0 n3
      have e : mI (msI M 405 90 (nI (i + 1))) 405 90 - 1 = nI i := by
        rw [mI_msI, ifT ⟨rfl, rfl⟩, show (1 : Int32) = nI 1 from rfl, nI_sub (by omega)]; congr 1
      rw [ifT ((bI_le hl (by omega)).mpr q), nm_eq, e405, nI_addL, e, ifT (inb_nI' (by omega) (by decide)), ix_nI (by omega), mA_msI, n4, n5, ifT ((bI_le hl (by omega)).mpr q), nm_eq, m1, ob_some]
      exact Or.inl ⟨_, _, σ', rfl, rfl, m1, m2, n3, x, rfl, rfl, q, n6⟩
    · rw [ifF (show ¬ nI lo ≤ nI x from by rw [bI_le hl (by omega)]; exact q), ifF (show ¬ nI lo ≤ nI x from by rw [bI_le hl (by omega)]; exact q)]
      exact Or.inr ⟨r, p, 0, hr, rfl, rfl⟩
  · rw [ifF n1, ifF n2]
    exact Or.inr ⟨r, p, 0, hr, rfl, rfl⟩
end SAMPLE
/-- rows of steps of both: a good end, or a fault of both since a base -/
def Rj (C : PC) (M0 : CM) (σ0 : TS) {α β : Type} (G : α → CM → β → TS → Prop) (o : Option ((α ⊕ Nat) × CM)) (p : Option (β × TS)) : Prop := (∃ a M' y σ', o = some (.inl a, M') ∧ p = some (y, σ') ∧ G a M' y σ') ∨ Ko C M0 σ0 o p
def OkG (C : PC) (M0 : CM) (σ0 : TS) (i dep c s n so : Nat) (a : Nat) (M' : CM) (y : Int32) (σ' : TS) : Prop := ∃ x i', y = nI x ∧ Pe C M' σ' i' dep c s n ∧ i < i' ∧ Es M0 σ0 M' σ' ∧ Rs C M0 M' σ' so a x
section RJ
variable {C : PC} {M M' M0 : CM} {σ σ' σ0 : TS} {i dep c s n so i0 dep0 c0 s0 n0 : Nat} {α β γ δ : Type} {G : γ → CM → δ → TS → Prop}
theorem Ok.of {o : Option ((Nat ⊕ Nat) × CM)} {p : Option (Int32 × TS)} (h : Rj C M σ (OkG C M σ i dep c s n so) o p) : Ok C M σ i dep c s n so o p := by
  rcases h with ⟨a, M', y, σ', e1, e2, x, i', e3, e4, e5, e6, e7⟩ | h
  · exact Or.inl ⟨a, M', x, σ', i', e1, by rw [e2, e3], e4, e5, e6, e7⟩
  · exact Or.inr h
theorem Rj.st {Q : α → β → Prop} {oK : Option ((α ⊕ Nat) × CM)} {p : Option (β × TS)} {kK : α → CM → Option ((γ ⊕ Nat) × CM)} {kT : β → TS → Option (δ × TS)} (E : Es M0 σ0 M σ) (h : St C M σ i dep c s n oK p Q) (good : ∀ x y σ', Pe C (msI M 405 90 (nI (i + 1))) σ' (i + 1) dep (c + 16) (s + 2048) (n + 4) → Es M0 σ0 (msI M 405 90 (nI (i + 1))) σ' → i < ct C → Q x y → Rj C M0 σ0 G (kK x (msI M 405 90 (nI (i + 1)))) (kT y σ')) (bad : ∀ σ1 r s, Br C σ1 s → BW C σ1 (kT r s)) : Rj C M0 σ0 G (obS oK (fun w M' => some (.inr w, M')) kK) (ob p kT) := by
  rcases h with ⟨x, y, σ', a1, a2, P, E1, hi, hq, _⟩ | ⟨w, M', y, σ', a1, a2, fb⟩
  · rw [a1, obS_inl, a2, ob_some]; exact good x y σ' P (E.tr E1) hi hq
  · rw [a1, obS_inr, a2, ob_some]; exact Or.inr (FB.ko (fb.tr E) (bad _ _ _ fb.bd))
theorem Rj.st2 {Q : α → β → Prop} {oK : Option ((α ⊕ Nat) × CM)} {p : Option (β × TS)} {kK : α → CM → Option ((γ ⊕ Nat) × CM)} {kT : β → TS → Option (δ × TS)} (E : Es M0 σ0 M σ) (h : St C M σ i dep c s n oK p Q) (good : ∀ x y σ', Pe C (msI M 405 90 (nI (i + 1))) σ' (i + 1) dep (c + 16) (s + 2048) (n + 4) → Es M0 σ0 (msI M 405 90 (nI (i + 1))) σ' → Es M σ (msI M 405 90 (nI (i + 1))) σ' → i < ct C → Q x y → Rj C M0 σ0 G (kK x (msI M 405 90 (nI (i + 1)))) (kT y σ')) (bad : ∀ σ1 r s, Br C σ1 s → BW C σ1 (kT r s)) : Rj C M0 σ0 G (obS oK (fun w M' => some (.inr w, M')) kK) (ob p kT) := by
  rcases h with ⟨x, y, σ', a1, a2, P, E1, hi, hq, _⟩ | ⟨w, M', y, σ', a1, a2, fb⟩
  · rw [a1, obS_inl, a2, ob_some]; exact good x y σ' P (E.tr E1) E1 hi hq
  · rw [a1, obS_inr, a2, ob_some]; exact Or.inr (FB.ko (fb.tr E) (bad _ _ _ fb.bd))
theorem Rj.ok {oK : Option ((Nat ⊕ Nat) × CM)} {p : Option (Int32 × TS)} {kK : Nat → CM → Option ((γ ⊕ Nat) × CM)} {kT : Int32 → TS → Option (δ × TS)} (E : Es M0 σ0 M σ) (h : Ok C M σ i dep c s n so oK p) (good : ∀ a M' x σ' i', Pe C M' σ' i' dep c s n → i < i' → Es M0 σ0 M' σ' → Es M σ M' σ' → Rs C M M' σ' so a x → Rj C M0 σ0 G (kK a M') (kT (nI x) σ')) (bad : ∀ σ1 r s, Br C σ1 s → BW C σ1 (kT r s)) : Rj C M0 σ0 G (obS oK (fun w M' => some (.inr w, M')) kK) (ob p kT) := by
  rcases h with ⟨a, M', x, σ', i', a1, a2, P, hi, E1, R⟩ | ⟨w, M', y, σ', a1, a2, fb⟩
  · rw [a1, obS_inl, a2, ob_some]; exact good a M' x σ' i' P hi (E.tr E1) E1 R
  · rw [a1, obS_inr, a2, ob_some]; exact Or.inr (FB.ko (fb.tr E) (bad _ _ _ fb.bd))
/-- the fault is thrown on, the twin goes on with it -/
theorem Rj.fb {w : Nat} {p : Option (δ × TS)} (fb : FB C M0 σ0 M' w σ') (bad : ∀ σ1 (_ : Unit) s, Br C σ1 s → s = σ' → BW C σ1 p) : Rj C M0 σ0 G (some (.inr w, M')) p := Or.inr (FB.ko fb (bad _ () _ fb.bd rfl))
/-- a new Ast with its parts, and a node -/
theorem new_node (E : Es M0 σ0 M σ) (P : Pe C M σ i dep (c + 1) (s + 8) (n + 1)) (k : Int32) (a b d : Nat) (kt ya yb yd : Int32) : (mn M ≤ 601024 ∧ ms M + 8 ≤ 7293034) ∧ ¬ mn M = 0 ∧ ∃ σ' M', K_X8_init_2 (mn M) k a b d (mnew M 8 0 8) = some ((), M') ∧ F_node kt ya yb yd σ = some (nI (tN σ), σ') ∧ Pe C M' σ' i dep c s n ∧ Es M0 σ0 M' σ' ∧ Es M σ M' σ' ∧ ((mn M0 ≤ mn M ∧ mn M < mn M') ∧ mk M' (mn M) = 8 ∧ Lo C (tN σ) ∧ tN σ < tN σ') ∧ (tA σ' 24 (tN σ) = kt ∧ tA σ' 25 (tN σ) = ya ∧ tA σ' 26 (tN σ) = yb ∧ tA σ' 27 (tN σ) = yd) ∧ mI M' 1400 (mn M) = k ∧ mR M' 1402 (mn M) = a ∧ mR M' 1403 (mn M) = b ∧ mR M' 1404 (mn M) = d := by
  have h167 := P.n167
  have F5 : Fz none_ M (mnew M 8 0 8) := Fz.rf.mnew
  have P5 := P.al F5 (c' := c) (s' := s) (by rw [mn_mnew]; omega) (by rw [ms_mnew]; omega)
  have hk5 : mk (mnew M 8 0 8) (mn M) = 8 := by rw [mk_mnew, ifT rfl]
  obtain ⟨σ4, m1, m2, m3, m4, ⟨m5, m6, m7, m8⟩, mA, -⟩ := mk_node P (Es.al F5 h167) P5 (v := mn M) ⟨Nat.le_refl _, by rw [mn_mnew]; omega⟩ hk5 k a b d kt ya yb yd
  obtain ⟨j1, j2, j3, j4, j5, j6, j7, j8⟩ := iM_ok (mnew M 8 0 8) (mn M) k a b d
  exact ⟨P.cap (by omega), by omega, σ4, _, m1, m2, m3, E.tr m4, m4, ⟨⟨E.1.1, by rw [j2, mn_mnew]; omega⟩, by rw [j4]; exact hk5, m8, by omega⟩, mA, j5, j6, j7, j8⟩
end RJ
section SAMPLE2
variable {C : PC} {M M0 : CM} {σ σ0 : TS} {i dep c s n ib depb cb' sb' nb' i0 v : Nat}
def kSm2 (v70 : Nat) (M89 : CM) : Option ((Nat ⊕ Nat) × CM) :=
  if mk M89 v70 = 8 then obS (K_X2_atLeast 0 M89) (fun w98 M94 => some (.inr w98, M94)) fun r95 M94 => if mk M94 (mR M89 1402 v70) = 8 then nm (msI M94 1401 (mR M89 1402 v70) r95) fun M100 => obS (K_X2_sign 44 M100) (fun w105 M101 => some (.inr w105, M101)) fun _ M101 => if mk M101 v70 = 8 then obS (K_X2_atLeast 1 M101) (fun w111 M107 => some (.inr w111, M107)) fun r108 M107 => if mk M107 (mR M101 1403 v70) = 8 then nm (msI M107 1401 (mR M101 1403 v70) r108) fun M113 => obS (K_X2_closes M113) (fun w118 M114 => some (.inr w118, M114)) fun _ M114 => some (.inl v70, M114) else none else none else none else none
def tSm2 (σ : TS) : Option (Int32 × TS) :=
  ob (F_sampleNumber 0 σ) fun r14 s13 => ob (F_pass 44 s13) fun _ s17 => ob (F_sampleNumber 1 s17) fun r22 s21 => ob (F_pass 41 s21) fun _ s25 => nm (tsI s25 20 ((tI s25 20) - 1)) fun s29 => ob (F_node 24 r14 r22 0 s29) fun r31 s30 => some (r31, s30)
theorem smp2 (Pb : Pe C M0 σ0 ib depb cb' sb' nb') (hcr : car C = 0) (E : Es M0 σ0 M σ) (P : Pe C M σ i (dep + 1) c s n) (hc : 16 ≤ c) (hs : 2048 ≤ s) (hv : mn M0 ≤ v ∧ v + 3 ≤ mn M) (hk : mk M v = 8 ∧ mk M (v + 1) = 8 ∧ mk M (v + 2) = 8) (h0 : mI M 1400 v = 29 ∧ mR M 1402 v = v + 1 ∧ mR M 1403 v = v + 2) (hi0 : i0 < i) : Rj C M0 σ0 (OkG C M0 σ0 i0 dep c s n 1) (kSm2 v M) (tSm2 σ) := by
  obtain ⟨hk0, hk1, hk2⟩ := hk
  obtain ⟨h14, h02, h03⟩ := h0
  have h167 := Pb.n167
  unfold kSm2 tSm2
  rw [ifT hk0, h02]
  refine Rj.st E (z_atLeast P (by omega) (by omega) (lo := 0) rfl (by decide)) (fun x y σ1 P1 E1 hi1 ⟨k, hx, hy, _, hkk⟩ => ?_) (by intro σ1 r s hb; repeat' (first | exact BW.sm hb | (refine BW.bo (bw_next hb) ?_; intro r s hb) | (refine BW.bo (bw_ref hb) ?_; intro r s hb) | (refine BW.bo (bw_passName hb) ?_; intro r s hb) | (refine BW.bo (bw_pass hb _) ?_; intro r s hb) | (refine BW.bo (bw_isSign hb _) ?_; intro r s hb) | (refine BW.bo (bw_passWhole hb _) ?_; intro r s hb) | (refine BW.bo (bw_sampleNumber hb _) ?_; intro r s hb) | (refine BW.bo (bw_expression hb _) ?_; intro r s hb) | (refine BW.bo (bw_condition hb _) ?_; intro r s hb) | (refine BW.bo (bw_sum hb _) ?_; intro r s hb) | (refine BW.bo (bw_test hb _) ?_; intro r s hb) | (refine BW.bo (bw_term hb _) ?_; intro r s hb) | (refine BW.bo (bw_ands hb _) ?_; intro r s hb) | (refine BW.bo (bw_passWord hb _) ?_; intro r s hb) | (refine BW.bo (bw_isWord hb _) ?_; intro r s hb) | (refine BW.bo (bw_factor hb _) ?_; intro r s hb) | (refine BW.bo (bw_node hb _ _ _ _) ?_; intro r s hb) | (refine BW.nm20 hb ?_; intro s hb) | refine BW.isBad hb ?_ | refine BW.ite ?_ ?_))
  rw [ifT (show mk (msI M 405 90 (nI (i + 1))) (v + 1) = 8 from hk1), nm_eq]
  obtain ⟨P2, E2⟩ := Pb.re E1 P1 (X := fun o => o = v + 1) (M' := msI (msI M 405 90 (nI (i + 1))) 1401 (v + 1) x) (Fz.rf.msI (fun _ => rfl)) (fun o z => by omega) (c' := c + 16) (s' := s + 2048) (Nat.le_refl _) (Nat.le_refl _)
  refine Rj.st E2 (z_pass P2 (by omega) (by omega) (x := 44) (by decide)) (fun _ _ σ3 P3 E3 hi3 _ => ?_) (by intro σ1 r s hb; repeat' (first | exact BW.sm hb | (refine BW.bo (bw_next hb) ?_; intro r s hb) | (refine BW.bo (bw_ref hb) ?_; intro r s hb) | (refine BW.bo (bw_passName hb) ?_; intro r s hb) | (refine BW.bo (bw_pass hb _) ?_; intro r s hb) | (refine BW.bo (bw_isSign hb _) ?_; intro r s hb) | (refine BW.bo (bw_passWhole hb _) ?_; intro r s hb) | (refine BW.bo (bw_sampleNumber hb _) ?_; intro r s hb) | (refine BW.bo (bw_expression hb _) ?_; intro r s hb) | (refine BW.bo (bw_condition hb _) ?_; intro r s hb) | (refine BW.bo (bw_sum hb _) ?_; intro r s hb) | (refine BW.bo (bw_test hb _) ?_; intro r s hb) | (refine BW.bo (bw_term hb _) ?_; intro r s hb) | (refine BW.bo (bw_ands hb _) ?_; intro r s hb) | (refine BW.bo (bw_passWord hb _) ?_; intro r s hb) | (refine BW.bo (bw_isWord hb _) ?_; intro r s hb) | (refine BW.bo (bw_factor hb _) ?_; intro r s hb) | (refine BW.bo (bw_node hb _ _ _ _) ?_; intro r s hb) | (refine BW.nm20 hb ?_; intro s hb) | refine BW.isBad hb ?_ | refine BW.ite ?_ ?_))
  rw [ifT (show mk (msI (msI (msI M 405 90 (nI (i + 1))) 1401 (v + 1) x) 405 90 (nI (i + 1 + 1))) v = 8 from hk0), show mR (msI (msI (msI M 405 90 (nI (i + 1))) 1401 (v + 1) x) 405 90 (nI (i + 1 + 1))) 1403 v = v + 2 from h03]
  refine Rj.st E3 (z_atLeast P3 (by omega) (by omega) (lo := 1) rfl (by decide)) (fun x' y' σ4 P4 E4 hi4 ⟨k', hx', hy', hk1', hkk'⟩ => ?_) (by intro σ1 r s hb; repeat' (first | exact BW.sm hb | (refine BW.bo (bw_next hb) ?_; intro r s hb) | (refine BW.bo (bw_ref hb) ?_; intro r s hb) | (refine BW.bo (bw_passName hb) ?_; intro r s hb) | (refine BW.bo (bw_pass hb _) ?_; intro r s hb) | (refine BW.bo (bw_isSign hb _) ?_; intro r s hb) | (refine BW.bo (bw_passWhole hb _) ?_; intro r s hb) | (refine BW.bo (bw_sampleNumber hb _) ?_; intro r s hb) | (refine BW.bo (bw_expression hb _) ?_; intro r s hb) | (refine BW.bo (bw_condition hb _) ?_; intro r s hb) | (refine BW.bo (bw_sum hb _) ?_; intro r s hb) | (refine BW.bo (bw_test hb _) ?_; intro r s hb) | (refine BW.bo (bw_term hb _) ?_; intro r s hb) | (refine BW.bo (bw_ands hb _) ?_; intro r s hb) | (refine BW.bo (bw_passWord hb _) ?_; intro r s hb) | (refine BW.bo (bw_isWord hb _) ?_; intro r s hb) | (refine BW.bo (bw_factor hb _) ?_; intro r s hb) | (refine BW.bo (bw_node hb _ _ _ _) ?_; intro r s hb) | (refine BW.nm20 hb ?_; intro s hb) | refine BW.isBad hb ?_ | refine BW.ite ?_ ?_))
  have hM : ∀ (g : Nat), g ≠ 1401 → g ≠ 405 → mI (msI (msI (msI (msI (msI M 405 90 (nI (i + 1))) 1401 (v + 1) x) 405 90 (nI (i + 1 + 1))) 405 90 (nI (i + 1 + 1 + 1))) 1401 (v + 2) x') g v = mI M g v := fun g a b => by
    rw [mI_msI, ifF (fun z => a z.1), mI_msI, ifF (fun z => b z.1), mI_msI, ifF (fun z => b z.1), mI_msI, ifF (fun z => a z.1), mI_msI, ifF (fun z => b z.1)]
  have hM1 : mI (msI (msI (msI (msI (msI M 405 90 (nI (i + 1))) 1401 (v + 1) x) 405 90 (nI (i + 1 + 1))) 405 90 (nI (i + 1 + 1 + 1))) 1401 (v + 2) x') 1401 (v + 1) = x := by
    rw [mI_msI, ifF (fun z => by omega), mI_msI, ifF (fun z => by omega), mI_msI, ifF (fun z => by omega), mI_msI, ifT ⟨rfl, rfl⟩]
  have hM2 : mI (msI (msI (msI (msI (msI M 405 90 (nI (i + 1))) 1401 (v + 1) x) 405 90 (nI (i + 1 + 1))) 405 90 (nI (i + 1 + 1 + 1))) 1401 (v + 2) x') 1401 (v + 2) = x' := by
    rw [mI_msI, ifT ⟨rfl, rfl⟩]
  rw [ifT (show mk (msI (msI (msI (msI M 405 90 (nI (i + 1))) 1401 (v + 1) x) 405 90 (nI (i + 1 + 1))) 405 90 (nI (i + 1 + 1 + 1))) (v + 2) = 8 from hk2), nm_eq]
  obtain ⟨P5, E5⟩ := Pb.re E4 P4 (X := fun o => o = v + 2) (M' := msI (msI (msI (msI (msI M 405 90 (nI (i + 1))) 1401 (v + 1) x) 405 90 (nI (i + 1 + 1))) 405 90 (nI (i + 1 + 1 + 1))) 1401 (v + 2) x') (Fz.rf.msI (fun _ => rfl)) (fun o z => by omega) (c' := c + 16 + 16 + 16) (s' := s + 2048 + 2048 + 2048) (Nat.le_refl _) (Nat.le_refl _)
  generalize hN : msI (msI (msI (msI (msI M 405 90 (nI (i + 1))) 1401 (v + 1) x) 405 90 (nI (i + 1 + 1))) 405 90 (nI (i + 1 + 1 + 1))) 1401 (v + 2) x' = N at *
  have hNk : ∀ o, mk N o = mk M o := fun o => by rw [← hN]; rfl
  have hNr : ∀ g o, mR N g o = mR M g o := fun g o => by rw [← hN]; rfl
  have hNn : mn N = mn M := by rw [← hN]; rfl
  rcases z_closes P5 (by omega) (by omega) with ⟨M6, σ5, σ6, q1, q2, q3, P6, E6, hi6, hm6⟩ | ⟨w, M', σ', q1, q2, fb⟩
  · rw [q1, obS_inl, q2, ob_some, nm_eq, ← q3]
    obtain ⟨σ7, n1, n2, n3, n4, n5, ⟨n6, n7, n8, n9⟩, n10, n11⟩ := y_node (n := n + 4 + 4 + 4 + 3) P6 24 y y' 0
    rw [n1, ob_some]
    refine Or.inl ⟨_, _, _, _, rfl, rfl, tN σ6, _, rfl, n10.wk (by omega) (by omega) (by omega), by omega, (E5.tr E6).tr n11, 1, ?_⟩
    have so : ∀ o, mn M0 ≤ o → o < mn M → So N M6 o := fun o h1 h2 => E6.1.so (by omega) (by omega)
    have s0 := so v (by omega) (by omega)
    have s1 := so (v + 1) (by omega) (by omega)
    have s2 := so (v + 2) (by omega) (by omega)
    have l1 : mR M6 1402 v = v + 1 := by rw [s0.r, hNr]; exact h02
    have l2 : mR M6 1403 v = v + 2 := by rw [s0.r, hNr]; exact h03
    refine ⟨⟨⟨hv.1, by omega⟩, by rw [s0.k, hNk]; exact hk0, n5, by omega⟩, Or.inr (Or.inr (Or.inr (Or.inr (Or.inr (Or.inr (Or.inr (Or.inr (Or.inr (Or.inr (Or.inr (Or.inr (Or.inr ⟨rfl, hcr, by rw [s0.i, hM _ (by decide) (by decide)]; exact h14, n6, ?_, ?_, ?_, ?_, ?_, ?_, k, k', ?_, ?_, hkk, hk1', hkk'⟩))))))))))))⟩
    · rw [l1]; exact ⟨by omega, by omega⟩
    · rw [l2]; exact ⟨by omega, by omega⟩
    · rw [l1, s1.k, hNk]; exact hk1
    · rw [l2, s2.k, hNk]; exact hk2
    · rw [l1, s1.i, hM1, n7, hx, hy]
    · rw [l2, s2.i, hM2, n8, hx', hy']
    · rw [n7]; exact hy
    · rw [n8]; exact hy'
  · rw [q1, obS_inr, q2, ob_some]
    exact Or.inr (FB.ko (fb.tr E5) (BW.nm20 fb.bd fun s hs => BW.bo (bw_node hs _ _ _ _) fun r s hs => BW.sm hs))
end SAMPLE2

