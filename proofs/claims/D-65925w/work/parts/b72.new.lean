/-! Layer B: equations: new ones; results piece by piece -/
set_option maxRecDepth 100000
def liM (M : CM) (l : Nat) : CM := msR (msI M 4200 l 0) 4201 l 4398046511104
def eqM1 (M : CM) : CM := msR (liM (mnew (mnew M 13 0 8) 22 0 3) (mn M + 1)) 2406 (mn M) (mn M + 1)
/-- a new Equation with its two rows -/
def eqM (M : CM) (k : Int32) : CM := msI (msR (liM (mnew (eqM1 M) 22 0 3) (mn M + 2)) 2407 (mn M) (mn M + 2)) 2400 (mn M) k
def Rje (C : PC) (M0 : CM) (σ0 : TS) {α β : Type} (G : α → CM → β → TS → Prop) (o : Option ((α ⊕ Nat) × CM)) (p : Option (β × TS)) : Prop := (∃ a M' y σ', o = some (.inl a, M') ∧ p = some (y, σ') ∧ G a M' y σ') ∨ Koe C M0 σ0 o p
def PE (C : PC) (M : CM) (σ : TS) (i dep c s n : Nat) : Prop := Pe C M σ i dep c s n ∧ Me C M σ i dep
section NEWEQ
variable {C : PC} {M M' M0 Mb : CM} {σ σ' σ0 σb s1 : TS} {i dep c s n i' dep' c' s' n' d0 w so : Nat} {α β γ δ : Type} {G : γ → CM → δ → TS → Prop}
theorem eqM_ok (M : CM) (k : Int32) (h6 : mn M ≤ 601024) : Fz none_ M (eqM M k) ∧ mn (eqM M k) = mn M + 3 ∧ ms (eqM M k) = ms M + 14 ∧ (mk (eqM M k) (mn M) = 13 ∧ mk (eqM M k) (mn M + 1) = 22 ∧ mk (eqM M k) (mn M + 2) = 22) ∧ (mR (eqM M k) 2406 (mn M) = mn M + 1 ∧ mR (eqM M k) 2407 (mn M) = mn M + 2 ∧ mI (eqM M k) 2400 (mn M) = k) ∧ (LsB M (eqM M k) (mn M + 1) [] ∧ mR (eqM M k) 4201 (mn M + 1) = 4398046511104) ∧ LsB M (eqM M k) (mn M + 2) [] ∧ mR (eqM M k) 4201 (mn M + 2) = 4398046511104 := by
  have kk : ∀ o, mk (eqM M k) o = mk (mnew (mnew (mnew M 13 0 8) 22 0 3) 22 0 3) o := fun _ => rfl
  have n1 : mn (mnew M 13 0 8) = mn M + 1 := rfl
  have n2 : mn (mnew (mnew M 13 0 8) 22 0 3) = mn M + 2 := rfl
  have n3 : mn (eqM1 M) = mn M + 2 := rfl
  have k0 : mk (eqM M k) (mn M) = 13 := by rw [kk, mk_mnew, ifF (by omega), mk_mnew, ifF (by omega), mk_mnew, ifT rfl]
  have k1 : mk (eqM M k) (mn M + 1) = 22 := by rw [kk, mk_mnew, ifF (by omega), mk_mnew, ifT (by omega)]
  have k2 : mk (eqM M k) (mn M + 2) = 22 := by rw [kk, mk_mnew, ifT (by omega)]
  have F1 : Fz none_ M (eqM1 M) := ((((Fz.rf (X := none_)).mnew.mnew.msI (fun z => by omega)).msR (fun z => by omega))).msR (fun z => by omega)
  have F : Fz none_ M (eqM M k) := ((((F1.mnew).msI (fun z => by omega)).msR (fun z => by omega)).msR (fun z => by omega)).msI (fun z => by omega)
  have r1 : mR (eqM M k) 4201 (mn M + 1) = 4398046511104 := by
    unfold eqM liM
    rw [mR_msI, mR_msR, ifF (by omega), mR_msR, ifF (by omega), mR_msI, mR_mnew, ifF (by omega)]
    unfold eqM1 liM
    rw [mR_msR, ifF (by omega), mR_msR, ifT ⟨rfl, rfl⟩]
  have r2 : mR (eqM M k) 4201 (mn M + 2) = 4398046511104 := by
    unfold eqM liM
    rw [mR_msI, mR_msR, ifF (by omega), mR_msR, ifT ⟨rfl, rfl⟩]
  have z1 : mI (eqM M k) 4202 (mn M + 1) = 0 := by
    unfold eqM liM
    rw [mI_msI, ifF (by omega), mI_msR, mI_msR, mI_msI, ifF (by omega), mI_mnew, ifF (by omega)]
    unfold eqM1 liM
    rw [mI_msR, mI_msR, mI_msI, ifF (by omega), mI_mnew, ifT (by omega)]
  have z2 : mI (eqM M k) 4202 (mn M + 2) = 0 := by
    unfold eqM liM
    rw [mI_msI, ifF (by omega), mI_msR, mI_msR, mI_msI, ifF (by omega), mI_mnew, ifT (by omega)]
  have hn : mn (eqM M k) = mn M + 3 := rfl
  refine ⟨F, hn, rfl, ⟨k0, k1, k2⟩, ⟨?_, ?_, ?_⟩, ⟨⟨⟨k1, z1, by decide, fun i hi => absurd hi (Nat.not_lt_zero _), Or.inl ⟨r1, rfl⟩⟩, ⟨by omega, by omega⟩, by rw [r1]; omega, fun z => absurd r1 z⟩, r1⟩, ⟨⟨k2, z2, by decide, fun i hi => absurd hi (Nat.not_lt_zero _), Or.inl ⟨r2, rfl⟩⟩, ⟨by omega, by omega⟩, by rw [r2]; omega, fun z => absurd r2 z⟩, r2⟩
  · unfold eqM liM
    rw [mR_msI, mR_msR, ifF (by omega), mR_msR, ifF (by omega), mR_msI, mR_mnew, ifF (by omega)]
    unfold eqM1
    rw [mR_msR, ifT ⟨rfl, rfl⟩]
  · unfold eqM
    rw [mR_msI, mR_msR, ifT ⟨rfl, rfl⟩]
  · unfold eqM
    rw [mI_msI, ifT ⟨rfl, rfl⟩]
theorem eq_al {γ : Type} (M : CM) (k : Int32) (K : Nat → CM → Option γ) (hc : mn M + 3 ≤ 601024 ∧ ms M + 24 ≤ 7293034) (h0 : 167 ≤ mn M) : (if mn M ≤ 601024 ∧ ms M + 8 ≤ 7293034 then nm (mn M) fun v6 => nm (mnew M 13 0 8) fun M7 => if ¬ v6 = 0 then ob (K_X13_init v6 k M7) fun _ M9 => K v6 M9 else none else none) = K (mn M) (eqM M k) := by
  have n1 : mn (mnew M 13 0 8) = mn M + 1 := rfl
  have s1 : ms (mnew M 13 0 8) = ms M + 8 := rfl
  have n2 : mn (eqM1 M) = mn M + 2 := rfl
  have s2 : ms (eqM1 M) = ms M + 11 := rfl
  have k1 : mk (mnew (mnew M 13 0 8) 22 0 3) (mn M + 1) = 22 := by rw [mk_mnew, ifT (by omega)]
  have i1 : mI (mnew (mnew M 13 0 8) 22 0 3) 4202 (mn M + 1) = 0 := by rw [mI_mnew, ifT (by omega)]
  have a1 := (ls_init k1 (by omega) i1).1
  have k2 : mk (mnew (eqM1 M) 22 0 3) (mn M + 2) = 22 := by rw [mk_mnew, ifT (by omega)]
  have i2 : mI (mnew (eqM1 M) 22 0 3) 4202 (mn M + 2) = 0 := by rw [mI_mnew, ifT (by omega)]
  have a2 := (ls_init k2 (by omega) i2).1
  have kv1 : mk (msR (msI (mnew (mnew M 13 0 8) 22 0 3) 4200 (mn M + 1) 0) 4201 (mn M + 1) 4398046511104) (mn M) = 13 := by
    show mk (mnew (mnew M 13 0 8) 22 0 3) (mn M) = 13
    rw [mk_mnew, ifF (by omega), mk_mnew, ifT rfl]
  have kv2 : mk (msR (msI (mnew (eqM1 M) 22 0 3) 4200 (mn M + 2) 0) 4201 (mn M + 2) 4398046511104) (mn M) = 13 := by
    show mk (mnew (eqM1 M) 22 0 3) (mn M) = 13
    rw [mk_mnew, ifF (by omega)]; exact kv1
  unfold K_X13_init
  rw [ifT ⟨by omega, by omega⟩, nm_eq, nm_eq, ifT (by omega), ifT (by omega), ifT ⟨by omega, by omega⟩, nm_eq, nm_eq, n1, ifT (by omega), a1, ob_some, ifT kv1, nm_eq]
  rw [show msR (msR (msI (mnew (mnew M 13 0 8) 22 0 3) 4200 (mn M + 1) 0) 4201 (mn M + 1) 4398046511104) 2406 (mn M) (mn M + 1) = eqM1 M from rfl, ifT ⟨by omega, by omega⟩, nm_eq, nm_eq, n2, ifT (by omega), a2, ob_some, ifT kv2, nm_eq, ifT (show mk (msR (msR (msI (mnew (eqM1 M) 22 0 3) 4200 (mn M + 2) 0) 4201 (mn M + 2) 4398046511104) 2407 (mn M) (mn M + 2)) (mn M) = 13 from kv2), nm_eq, ob_some]
  rfl
theorem FB.fe (h : FB C M σ M' w σ') (P : Pe C M σ i dep c s n) (hM : Me C M σ i d0) : FBe C M σ M' w σ' := by
  have h167 := P.n167
  obtain ⟨bs, l95⟩ := P.l95
  obtain ⟨E, e1, e2, e3⟩ := hM.2.2.1
  have hcx := cX_le C
  obtain ⟨h1, h2, h3, h4⟩ := h
  refine ⟨h1, ⟨h2.ek h167, bs, l95.so2 h2.1 (h2.1.so (by omega) (by decide)) (fun z => h2.1.so z (fun q => ?_))⟩, ⟨h2.2.2.2.2.mono (by decide), h2.2.2.2.1, (Qz.ft h2.2.2.2.2 (by decide)).b⟩, h3, h4, E, by rw [(h2.2.2.2.2 72 rfl).1]; exact e1, e2, by omega⟩
  have := l95.k55 P.c6 z
  rw [q, P.en.1] at this
  exact absurd this (by decide)
theorem PE.es (P : PE C M σ i dep c s n) (E : Es M σ M' σ') (P' : Pe C M' σ' i' dep c' s' n') (hi : i ≤ i') : PE C M' σ' i' dep c' s' n' := ⟨P', P.2.es P.1 E hi P.2.2.2.2.1.1⟩
theorem Rje.st {Q : α → β → Prop} {oK : Option ((α ⊕ Nat) × CM)} {p : Option (β × TS)} {kK : α → CM → Option ((γ ⊕ Nat) × CM)} {kT : β → TS → Option (δ × TS)} (E : Ee M0 σ0 M σ) (P : PE C M σ i dep c s n) (h : St C M σ i dep c s n oK p Q) (good : ∀ x y σ', PE C (msI M 405 90 (nI (i + 1))) σ' (i + 1) dep (c + 16) (s + 2048) (n + 4) → Ee M0 σ0 (msI M 405 90 (nI (i + 1))) σ' → Es M σ (msI M 405 90 (nI (i + 1))) σ' → i < ct C → Q x y → Rje C M0 σ0 G (kK x (msI M 405 90 (nI (i + 1)))) (kT y σ')) (bad : ∀ σ1 r s, Bre C σ1 s → BWe C σ1 (kT r s)) : Rje C M0 σ0 G (obS oK (fun w M' => some (.inr w, M')) kK) (ob p kT) := by
  rcases h with ⟨x, y, σ', a1, a2, P1, E1, hi, hq, _⟩ | ⟨w, M', y, σ', a1, a2, fb⟩
  · rw [a1, obS_inl, a2, ob_some]; exact good x y σ' (P.es E1 P1 (Nat.le_succ _)) (E.tr (E1.ee P.1.n167)) E1 hi hq
  · rw [a1, obS_inr, a2, ob_some]; exact Or.inr (FBe.ko ((fb.fe P.1 P.2).tr E) (bad _ _ _ (fb.fe P.1 P.2).bd))
theorem Rje.ok {oK : Option ((Nat ⊕ Nat) × CM)} {p : Option (Int32 × TS)} {kK : Nat → CM → Option ((γ ⊕ Nat) × CM)} {kT : Int32 → TS → Option (δ × TS)} (E : Ee M0 σ0 M σ) (P : PE C M σ i dep c s n) (h : Ok C M σ i dep c s n so oK p) (good : ∀ a M' x σ' i', PE C M' σ' i' dep c s n → i < i' → Ee M0 σ0 M' σ' → Es M σ M' σ' → Rs C M M' σ' so a x → Rje C M0 σ0 G (kK a M') (kT (nI x) σ')) (bad : ∀ σ1 r s, Bre C σ1 s → BWe C σ1 (kT r s)) : Rje C M0 σ0 G (obS oK (fun w M' => some (.inr w, M')) kK) (ob p kT) := by
  rcases h with ⟨a, M', x, σ', i', a1, a2, P1, hi, E1, R⟩ | ⟨w, M', y, σ', a1, a2, fb⟩
  · rw [a1, obS_inl, a2, ob_some]; exact good a M' x σ' i' (P.es E1 P1 (Nat.le_of_lt hi)) hi (E.tr (E1.ee P.1.n167)) E1 R
  · rw [a1, obS_inr, a2, ob_some]; exact Or.inr (FBe.ko ((fb.fe P.1 P.2).tr E) (bad _ _ _ (fb.fe P.1 P.2).bd))
theorem Rje.rf {kK : Nat → CM → Option ((γ ⊕ Nat) × CM)} {kT : Int32 → TS → Option (δ × TS)} (E : Ee M0 σ0 M σ) (P : PE C M σ i dep c s n) (hc : 8 ≤ c) (hs : 32 ≤ s) (hn : 4 ≤ n) (good : ∀ a M' q σ' i', PE C M' σ' i' dep c s n → i < i' → Ee M0 σ0 M' σ' → Es M σ M' σ' → RfR (fun x => mn M ≤ x ∧ x < mn M') (tQ σ') (cm C) M' σ' a q → q < 7000 → Rje C M0 σ0 G (kK a M') (kT (nI q) σ')) (bad : ∀ σ1 r s, Bre C σ1 s → BWe C σ1 (kT r s)) : Rje C M0 σ0 G (obS (K_X2_ref M) (fun w M' => some (.inr w, M')) kK) (ob (F_ref σ) kT) := by
  rcases z_ref P.1 hc hs hn with ⟨M', σ', i', o, q, a1, a2, P1, hi, E1, R, hq⟩ | ⟨w, M', y, σ', a1, a2, fb⟩
  · rw [a1, obS_inl, a2, ob_some]; exact good o M' q σ' i' (P.es E1 (P1.wk (by omega) (by omega) (by omega)) (Nat.le_of_lt hi)) hi (E.tr (E1.ee P.1.n167)) E1 R hq
  · rw [a1, obS_inr, a2, ob_some]; exact Or.inr (FBe.ko ((fb.fe P.1 P.2).tr E) (bad _ _ _ (fb.fe P.1 P.2).bd))
theorem BWe.nmI {k : Nat} {u : Int32} {f : TS → Option (β × TS)} (h : Bre C σ s1) (hk : [20, 35, 37, 73].contains k = true) (g : ∀ s', Bre C σ s' → BWe C σ (f s')) : BWe C σ (nm (tsI s1 k u) f) := g _ (h.ft (S := [k]) ((Ft.rf _ _).p_tsI (by simp)) (by simp only [List.all_cons, List.all_nil, hk, Bool.and_self]))
theorem BWe.nmB {j : Nat} {u : Int64} {f : TS → Option (β × TS)} (h : Bre C σ s1) (h1 : j < 3000) (hj : ∀ m, m ≤ 2400 → m ≤ tE σ → m ≤ j) (g : ∀ s', Bre C σ s' → BWe C σ (f s')) : BWe C σ (nm (tsB s1 71 (ix (nI j)) u) f) := by
  rw [ix_nI (by omega)]
  exact g _ (h.b71 hj)
theorem BWe.itT {c : Prop} [Decidable c] {a b : Option (α × TS)} (hc : c) (h1 : BWe C σ a) : BWe C σ (if c then a else b) := by
  rw [ifT hc]; exact h1
end NEWEQ
