/-! Layer B: values of nodes: both sides alike, for any way to evaluate leaves -/
set_option maxRecDepth 100000
abbrev KVT : Type := Nat → CM → Option ((Int32 ⊕ Nat) × CM)
def eTwo (kv : KVT) (a : Nat) (M : CM) : Option ((Int32 ⊕ Nat) × CM) := obS (kv (mR M 3405 a) M) (fun w M => some (.inr w, M)) fun r M1 => if mk M1 a = 18 then if mk M1 a = 18 then obS (kv (mR M1 3406 a) M1) (fun w M => some (.inr w, M)) fun r2 M2 => obS (K_X0_two (mI M1 3400 a) r r2 M2) (fun w M => some (.inr w, M)) fun r M => some (.inl r, M) else none else none
def eOne (kv : KVT) (a : Nat) (M : CM) : Option ((Int32 ⊕ Nat) × CM) := obS (kv (mR M 3405 a) M) (fun w M => some (.inr w, M)) fun r M1 => obS (K_X0_one (mI M 3400 a) r M1) (fun w M => some (.inr w, M)) fun r M => some (.inl r, M)
def eIf (kv kc : KVT) (a : Nat) (M : CM) : Option ((Int32 ⊕ Nat) × CM) := obS (kc (mR M 3405 a) M) (fun w M => some (.inr w, M)) fun r M1 => if r = 0 then if mk M1 a = 18 then kv (mR M1 3407 a) M1 else none else if mk M1 a = 18 then kv (mR M1 3406 a) M1 else none
def eAnd (kc : KVT) (a : Nat) (M : CM) : Option ((Int32 ⊕ Nat) × CM) := obS (kc (mR M 3405 a) M) (fun w M => some (.inr w, M)) fun r M1 => if mk M1 a = 18 then obS (kc (mR M1 3406 a) M1) (fun w M => some (.inr w, M)) fun r2 M2 => if r2 = 0 then some (.inl 0, M2) else if r = 0 then some (.inl 0, M2) else some (.inl 1, M2) else none
def eOr (kc : KVT) (a : Nat) (M : CM) : Option ((Int32 ⊕ Nat) × CM) := obS (kc (mR M 3405 a) M) (fun w M => some (.inr w, M)) fun r M1 => if mk M1 a = 18 then obS (kc (mR M1 3406 a) M1) (fun w M => some (.inr w, M)) fun r2 M2 => if r2 = 0 then if r = 0 then some (.inl 0, M2) else some (.inl 1, M2) else some (.inl 1, M2) else none
def eNot (kc : KVT) (a : Nat) (M : CM) : Option ((Int32 ⊕ Nat) × CM) := obS (kc (mR M 3405 a) M) (fun w M => some (.inr w, M)) fun r M1 => if r = 0 then some (.inl 1, M1) else some (.inl 0, M1)
def eLive (kv : KVT) (a : Nat) (M : CM) : Option ((Int32 ⊕ Nat) × CM) := obS (kv (mR M 3405 a) M) (fun w M => some (.inr w, M)) fun r M1 => if mk M1 a = 18 then if mk M1 a = 18 then obS (kv (mR M1 3406 a) M1) (fun w M => some (.inr w, M)) fun r2 M2 => ob (K_X0_compare (mI M1 3400 a) r r2 M2) fun q M => some (.inl q, M) else none else none
/-- what the component's evaluation does with inner nodes -/
def KEq (KV KC : Nat → KVT) : Prop := ∀ d a M, mk M a = 18 →
  (mI M 3400 a = 0 → KV (d + 1) a M = some (.inl (mI M 3401 a), M)) ∧
  (mI M 3400 a ∈ ([3, 4, 5, 6, 10, 11] : List Int32) → KV (d + 1) a M = eTwo (KV d) a M) ∧
  (mI M 3400 a ∈ ([7, 8, 9, 12, 13] : List Int32) → KV (d + 1) a M = eOne (KV d) a M) ∧
  (mI M 3400 a = 14 → KV (d + 1) a M = eIf (KV d) (KC d) a M) ∧
  (mI M 3400 a = 26 → KC (d + 1) a M = eAnd (KC d) a M) ∧ (mI M 3400 a = 27 → KC (d + 1) a M = eOr (KC d) a M) ∧ (mI M 3400 a = 28 → KC (d + 1) a M = eNot (KC d) a M)
/-- nodes: leaves, and inner ones -/
def NoC (M0 : CM) (σ0 : TS) (Lf : Nat → Nat → Nat → Prop) (R : Nat → Nat → Nat → Prop) (s a n : Nat) : Prop :=
  Lf s a n ∨ (s = 0 ∧ mI M0 3400 a = 0 ∧ tA σ0 121 n = 0 ∧ mI M0 3401 a = tA σ0 122 n) ∨
  (s = 0 ∧ (mI M0 3400 a, tA σ0 121 n) ∈ unF ∧ ∃ x, tA σ0 122 n = nI x ∧ R 0 (mR M0 3405 a) x) ∨
  (s = 0 ∧ (mI M0 3400 a, tA σ0 121 n) ∈ biF ∧ (∃ x, tA σ0 122 n = nI x ∧ R 0 (mR M0 3405 a) x) ∧ ∃ y, tA σ0 123 n = nI y ∧ R 0 (mR M0 3406 a) y) ∨
  (s = 0 ∧ mI M0 3400 a = 14 ∧ tA σ0 121 n = 16 ∧ (∃ x, tA σ0 122 n = nI x ∧ R 1 (mR M0 3405 a) x) ∧ (∃ y, tA σ0 123 n = nI y ∧ R 0 (mR M0 3406 a) y) ∧ ∃ z, tA σ0 124 n = nI z ∧ R 0 (mR M0 3407 a) z) ∨
  (s = 1 ∧ tA σ0 121 n = 20 ∧ (mI M0 3400 a, tA σ0 122 n) ∈ rlF ∧ (∃ x, tA σ0 123 n = nI x ∧ R 0 (mR M0 3405 a) x) ∧ ∃ y, tA σ0 124 n = nI y ∧ R 0 (mR M0 3406 a) y) ∨
  (s = 1 ∧ (mI M0 3400 a, tA σ0 121 n) ∈ coF ∧ (∃ x, tA σ0 122 n = nI x ∧ R 1 (mR M0 3405 a) x) ∧ ∃ y, tA σ0 123 n = nI y ∧ R 1 (mR M0 3406 a) y) ∨
  (s = 1 ∧ mI M0 3400 a = 28 ∧ tA σ0 121 n = 23 ∧ ∃ x, tA σ0 122 n = nI x ∧ R 1 (mR M0 3405 a) x)
abbrev IvT : Type := Nat → (Nat → Int32) → CM → TS → Prop
abbrev BdT : Type := Nat → (Nat → Int32) → CM → TS → Nat → Prop
/-- states: the twin's stack has s places in use, with t; what holds in each -/
def Sk (Inv : IvT) (Bad : BdT) (M0 : CM) (σ0 : TS) (R : Nat → Nat → Nat → Nat → Prop) : Prop :=
  (∀ s t M σ, Inv s t M σ → (tI σ 0 = 0 ∧ tI σ 171 = nI s ∧ ∀ j, j < s → tA σ 170 j = t j) ∧ ((mn M ≤ 601024 ∧ ms M + 8 ≤ 7293034) ∧ mn M ≠ 0) ∧ ∀ h s' a n, R h s' a n → (mk M a = 18 ∧ n < 70000) ∧ (mI M 3400 a = mI M0 3400 a ∧ mI M 3401 a = mI M0 3401 a ∧ mR M 3405 a = mR M0 3405 a ∧ mR M 3406 a = mR M0 3406 a ∧ mR M 3407 a = mR M0 3407 a) ∧ tA σ 121 n = tA σ0 121 n ∧ tA σ 122 n = tA σ0 122 n ∧ tA σ 123 n = tA σ0 123 n ∧ tA σ 124 n = tA σ0 124 n) ∧
  (∀ s t M σ x, Inv s t M σ → s < 70000 → Inv (s + 1) (fun j => if j = s then x else t j) M (tsI (tsA σ 170 s x) 171 (nI (s + 1)))) ∧
  (∀ s t M σ x, Inv (s + 1) (fun j => if j = s then x else t j) M σ → Inv s t M (tsI σ 171 (nI s))) ∧
  (∀ s t M σ w, Bad s t M σ w → tI σ 0 ≠ 0 ∧ tI σ 171 = nI s) ∧
  (∀ s t M σ w x, Bad (s + 1) (fun j => if j = s then x else t j) M σ w → Bad s t M (tsI σ 171 (nI s)) w) ∧
  (∀ s t M σ r, Inv s t M σ → r ≠ 0 → Bad s t (wM M r 0) (badT σ r) (mn M))
/-- a value, or a fault, of both sides -/
def VO (Inv : IvT) (Bad : BdT) (s : Nat) (t : Nat → Int32) (kr : Option ((Int32 ⊕ Nat) × CM)) (tr : Option (Int32 × TS)) : Prop :=
  (∃ M' σ' w y, kr = some (.inr w, M') ∧ tr = some (y, σ') ∧ Bad s t M' σ' w) ∨ ∃ v M' σ', kr = some (.inl v, M') ∧ tr = some (v, σ') ∧ Inv s t M' σ'
def EvN (Inv : IvT) (Bad : BdT) (R : Nat → Nat → Nat → Nat → Prop) (KV : Nat → KVT) (k0 t0 L : Nat) (x2 : Int32) (h : Nat) : Prop := ∀ kf tf s t M σ a n, k0 + h ≤ kf → t0 + 2 * h ≤ tf → R h 0 a n → Inv s t M σ → s + h ≤ L → VO Inv Bad s t (KV kf a M) (gW tf (nI n) x2 σ)
def EvC (Inv : IvT) (Bad : BdT) (R : Nat → Nat → Nat → Nat → Prop) (KC : Nat → KVT) (k0 t0 L : Nat) (x2 : Int32) (h : Nat) : Prop := ∀ kf tf s t M σ a n, k0 + h ≤ kf → t0 + 2 * h ≤ tf → R h 1 a n → Inv s t M σ → s + h ≤ L → VO Inv Bad s t (KC kf a M) (gH tf (nI n) x2 σ)
/-- the twin walks down a chain and up again -/
def spn (d f g base n : Nat) (x2 : Int32) (σ : TS) : Option (Int32 × TS) := ob (L_chainValue_8 (gW d) f x2 (nI base) (nI n) σ) fun q s => ob (gW d q x2 s) fun r s => L_chainValue_63 (gW d) g x2 (nI base) r s
def SpO (Inv : IvT) (Bad : BdT) (x2 : Int32) (h d s : Nat) (t : Nat → Int32) (n : Nat) (kr : Option ((Int32 ⊕ Nat) × CM)) (σ : TS) : Prop := ∃ m, m ≤ h ∧ ((∃ M' σ' w y, kr = some (.inr w, M') ∧ Bad s t M' σ' w ∧ ∀ base f g, base ≤ s → h < f → spn d f (g + m) base n x2 σ = L_chainValue_63 (gW d) g x2 (nI base) y σ') ∨ ∃ v M' σ', kr = some (.inl v, M') ∧ Inv s t M' σ' ∧ ∀ base f g, base ≤ s → h < f → spn d f (g + m) base n x2 σ = L_chainValue_63 (gW d) g x2 (nI base) v σ')
def SpA (Inv : IvT) (Bad : BdT) (R : Nat → Nat → Nat → Nat → Prop) (KV : Nat → KVT) (k0 t0 L : Nat) (x2 : Int32) (h : Nat) : Prop := ∀ kf d s t M σ a n, k0 + h ≤ kf → t0 + 2 * h ≤ d → R h 0 a n → Inv s t M σ → s + h ≤ L → SpO Inv Bad x2 h d s t n (KV kf a M) σ
section SPINE
variable {Inv : IvT} {Bad : BdT} {R : Nat → Nat → Nat → Nat → Prop} {KV KC : Nat → KVT} {k0 t0 L h kf d s a n x z : Nat} {x2 op tok : Int32} {M0 M : CM} {σ0 σ : TS} {t : Nat → Int32}
def arP : List (Int32 × Int32) := [(3, 5), (4, 6), (5, 8), (6, 9)]
theorem t_arith (q : Int32) : F_isArithmetic q σ = some (if q = 5 ∨ q = 6 ∨ q = 8 ∨ q = 9 then 1 else 0, σ) := by
  unfold F_isArithmetic
  by_cases h1 : q = 5
  · rw [ifT h1, if_pos (Or.inl h1)]
  · rw [ifF h1]
    by_cases h2 : q = 6
    · rw [ifT h2, if_pos (Or.inr (Or.inl h2))]
    · rw [ifF h2]
      by_cases h3 : q = 8
      · rw [ifT h3, if_pos (Or.inr (Or.inr (Or.inl h3)))]
      · rw [ifF h3]
        by_cases h4 : q = 9
        · rw [ifT h4, if_pos (Or.inr (Or.inr (Or.inr h4)))]
        · rw [ifF h4, if_neg (by rintro (q | q | q | q) <;> contradiction)]
/-- one step up -/
theorem t_63 {f : Nat} {y : Int32} (h171 : tI σ 171 = nI (s + 1)) (hs : s < 70000) {base : Nat} (hb : base ≤ s) : L_chainValue_63 (gW d) (f + 1) x2 (nI base) y σ = ob (F_isBad (tsI σ 171 (nI s))) fun r s1 => if r = 0 then if inb (tA (tsI σ 171 (nI s)) 170 s) 70000 then ob (gW d (tA s1 123 (ix (tA (tsI σ 171 (nI s)) 170 s))) x2 s1) fun r29 s28 => ob (F_isBad s28) fun r33 s32 => if r33 = 0 then if inb (tA (tsI σ 171 (nI s)) 170 s) 70000 then ob (tTwo (tA s32 121 (ix (tA (tsI σ 171 (nI s)) 170 s))) y r29 s32) fun r s => L_chainValue_63 (gW d) f x2 (nI base) r s else none else L_chainValue_63 (gW d) f x2 (nI base) y s32 else none else L_chainValue_63 (gW d) f x2 (nI base) y s1 := by
  have e1 : tI (tsI σ 171 (nI s)) 171 = nI s := rfl
  rw [L_chainValue_63, h171, ifF (fun q => by have := (bI_le (by omega) (by omega)).mp q; omega), nI_subL _ _ (show 1 ≤ s + 1 by omega), show s + 1 - 1 = s from rfl, nm_eq, e1, ifT (inb_nI' hs (by decide)), ix_nI (by omega), nm_eq]
  congr 1
  funext r s1
  by_cases q : r = 0
  · rw [ifT q, ifT q]
    by_cases q2 : inb (tA (tsI σ 171 (nI s)) 170 s) 70000
    · rw [ifT q2, ifT q2]
      congr 1
      funext r29 s28
      congr 1
      funext r33 s32
      by_cases q3 : r33 = 0
      · rw [ifT q3, ifT q3, ifT q2, ifT q2, nm_eq]
        unfold tTwo
        by_cases a1 : tA s32 121 (ix (tA (tsI σ 171 (nI s)) 170 s)) = 5
        · rw [ifT a1, ifT a1]
        · rw [ifF a1, ifF a1]
          by_cases a2 : tA s32 121 (ix (tA (tsI σ 171 (nI s)) 170 s)) = 6
          · rw [ifT a2, ifT a2]
          · rw [ifF a2, ifF a2]
            by_cases a3 : tA s32 121 (ix (tA (tsI σ 171 (nI s)) 170 s)) = 8
            · rw [ifT a3, ifT a3]
            · rw [ifF a3, ifF a3]
      · rw [ifF q3, ifF q3]
    · rw [ifF q2, ifF q2]
  · rw [ifF q, ifF q]
/-- a chain's node -/
theorem sp_step (hS : Sk Inv Bad M0 σ0 R) (hE : KEq KV KC) (hL : L ≤ 70000) (sp : SpA Inv Bad R KV k0 t0 L x2 h) (ev : EvN Inv Bad R KV k0 t0 L x2 h) (r0 : R (h + 1) 0 a n) (hop : (mI M0 3400 a, tA σ0 121 n) ∈ arP) (hx : tA σ0 122 n = nI x) (rx : R h 0 (mR M0 3405 a) x) (hz : tA σ0 123 n = nI z) (rz : R h 0 (mR M0 3406 a) z) (hk : k0 + (h + 1) ≤ kf) (ht : t0 + 2 * h ≤ d) (I : Inv s t M σ) (hs : s + (h + 1) ≤ L) : SpO Inv Bad x2 (h + 1) d s t n (KV kf a M) σ := by
  obtain ⟨kf, rfl⟩ : ∃ g, kf = g + 1 := ⟨kf - 1, by omega⟩
  obtain ⟨hS1, push, pop, bad, bpop, mkb⟩ := hS
  obtain ⟨⟨i1, i2, i3⟩, ⟨i4, i5⟩, i6⟩ := hS1 s t M σ I
  obtain ⟨⟨n1, n2⟩, ⟨n3, n4, n5, n6, n7⟩, n8, n9, n10, n11⟩ := i6 _ _ _ _ r0
  have ar : (tA σ0 121 n = 5 ∨ tA σ0 121 n = 6 ∨ tA σ0 121 n = 8 ∨ tA σ0 121 n = 9) ∧ mI M0 3400 a ∈ ([3, 4, 5, 6, 10, 11] : List Int32) := by
    simp only [arP, List.mem_cons, List.not_mem_nil, or_false, Prod.mk.injEq] at hop
    rcases hop with ⟨q1, q2⟩ | ⟨q1, q2⟩ | ⟨q1, q2⟩ | ⟨q1, q2⟩ <;> rw [q1, q2] <;> decide
  have i7 : inb (nI n) 70000 := inb_nI' n2 (by decide)
  have x7 : ix (nI n) = n := ix_nI (by omega)
  have kk : KV (kf + 1) a M = eTwo (KV kf) a M := (hE kf a M n1).2.1 (by rw [n3]; exact ar.2)
  have I1 := push s t M σ (nI n) I (by omega)
  obtain ⟨t', ht'⟩ : ∃ t', t' = fun j => if j = s then nI n else t j := ⟨_, rfl⟩
  obtain ⟨σ1, hσ1⟩ : ∃ s1, s1 = tsI (tsA σ 170 s (nI n)) 171 (nI (s + 1)) := ⟨_, rfl⟩
  rw [← hσ1] at I1
  rw [← ht'] at I1
  have down : ∀ base f g, base ≤ s → spn d (f + 1) g base n x2 σ = spn d f g base x x2 σ1 := fun base f g hb => by
    unfold spn
    have e122 : tA (tsI (tsA σ 170 s (nI n)) 171 (nI (s + 1))) 122 n = nI x := by rw [← hx, ← n9]; rfl
    have e171 : tI (tsA σ 170 s (nI n)) 171 = nI s := i2
    rw [L_chainValue_8, ifT i7, x7, t_arith, ob_some, n8, if_pos ar.1, ifF (show ¬ (1 : Int32) = 0 by decide), i2, ifT (inb_nI' (by omega) (by decide)), ix_nI (show s < 2147483648 by omega), nm_eq, e171, nI_addL, nm_eq, ifT i7, e122, nm_eq, ← hσ1]
  obtain ⟨m, m1, m2⟩ := sp kf d (s + 1) t' M σ1 (mR M0 3405 a) x (by omega) ht rx I1 (by omega)
  refine ⟨m + 1, by omega, ?_⟩
  have kk1 : KV (kf + 1) a M = obS (KV kf (mR M0 3405 a) M) (fun w M => some (.inr w, M)) fun r M1 => if mk M1 a = 18 then if mk M1 a = 18 then obS (KV kf (mR M1 3406 a) M1) (fun w M => some (.inr w, M)) fun r2 M2 => K_X0_two (mI M1 3400 a) r r2 M2 else none else none := by
    rw [kk]
    unfold eTwo
    simp only [obS_id]
    rw [n5]
  rcases m2 with ⟨M', σ', w, y, b1, b2, b3⟩ | ⟨v, M', σ', b1, b2, b3⟩
  · left
    rw [ht'] at b2
    obtain ⟨c1, c2⟩ := bad _ _ _ _ _ b2
    have b4 := bpop _ _ _ _ _ _ b2
    refine ⟨M', _, w, y, by rw [kk1, b1, obS_inr], b4, fun base f g hb hf => ?_⟩
    obtain ⟨f, rfl⟩ : ∃ g, f = g + 1 := ⟨f - 1, by omega⟩
    have c3 : tI (tsI σ' 171 (nI s)) 0 ≠ 0 := c1
    rw [down base f _ hb, show g + (m + 1) = (g + 1) + m by omega, b3 base f (g + 1) (by omega) (by omega), t_63 c2 (by omega) hb, t_isBad1 c3, ob_some, ifF (show ¬ (1 : Int32) = 0 by decide)]
  · rw [ht'] at b2
    obtain ⟨⟨j1, j2, j3⟩, -, -⟩ := hS1 _ _ _ _ b2
    have I2 := pop _ _ _ _ _ b2
    obtain ⟨σ2, hσ2⟩ : ∃ s2, s2 = tsI σ' 171 (nI s) := ⟨_, rfl⟩
    rw [← hσ2] at I2
    have ent : tA σ2 170 s = nI n := by
      have := j3 s (Nat.lt_succ_self s)
      rw [hσ2]
      show tA σ' 170 s = nI n
      rw [this]
      exact ifT rfl
    obtain ⟨⟨l1, l2, l3⟩, -, l6⟩ := hS1 s t M' σ2 I2
    obtain ⟨⟨p1, p2⟩, ⟨p3, p4, p5, p6, p7⟩, p8, p9, p10, p11⟩ := l6 _ _ _ _ r0
    have up : ∀ base g, base ≤ s → L_chainValue_63 (gW d) (g + 1) x2 (nI base) v σ' = ob (gW d (nI z) x2 σ2) fun r29 s28 => ob (F_isBad s28) fun r33 s32 => if r33 = 0 then ob (tTwo (tA s32 121 n) v r29 s32) fun r s => L_chainValue_63 (gW d) g x2 (nI base) r s else L_chainValue_63 (gW d) g x2 (nI base) v s32 := fun base g hb => by
      rw [t_63 j2 (by omega) hb, ← hσ2, ent, t_isBad0 l1, ob_some, ifT (rfl : (0 : Int32) = 0), ifT i7, x7, p10, hz]
      congr 1
      funext r29 s28
      congr 1
      funext r33 s32
      rw [ifT i7]
    have kk2 : KV (kf + 1) a M = obS (KV kf (mR M0 3406 a) M') (fun w M => some (.inr w, M)) fun r2 M2 => K_X0_two (mI M0 3400 a) v r2 M2 := by
      rw [kk1, b1, obS_inl, ifT p1, ifT p1, p6, p3]
    rcases ev kf d s t M' σ2 _ z (by omega) ht rz I2 (by omega) with ⟨M3, σ3, w, y, d1, d2, d3⟩ | ⟨v2, M3, σ3, d1, d2, d3⟩
    · left
      obtain ⟨c1, c2⟩ := bad _ _ _ _ _ d3
      refine ⟨M3, σ3, w, v, by rw [kk2, d1, obS_inr], d3, fun base f g hb hf => ?_⟩
      obtain ⟨f, rfl⟩ : ∃ g, f = g + 1 := ⟨f - 1, by omega⟩
      rw [down base f _ hb, show g + (m + 1) = (g + 1) + m by omega, b3 base f (g + 1) (by omega) (by omega), up base g hb, d2, ob_some, t_isBad1 c1, ob_some, ifF (show ¬ (1 : Int32) = 0 by decide)]
    · obtain ⟨⟨u1, u2, u3⟩, ⟨u4, u5⟩, u6⟩ := hS1 s t M3 σ3 d3
      obtain ⟨-, -, u8, -⟩ := u6 _ _ _ _ r0
      have fin : ∀ base f g, base ≤ s → h + 1 < f → spn d f (g + (m + 1)) base n x2 σ = ob (tTwo (tA σ0 121 n) v v2 σ3) fun r s => L_chainValue_63 (gW d) g x2 (nI base) r s := fun base f g hb hf => by
        obtain ⟨f, rfl⟩ : ∃ g, f = g + 1 := ⟨f - 1, by omega⟩
        rw [down base f _ hb, show g + (m + 1) = (g + 1) + m by omega, b3 base f (g + 1) (by omega) (by omega), up base g hb, d2, ob_some, t_isBad0 u1, ob_some, ifT (rfl : (0 : Int32) = 0), u8]
      rw [kk2, d1, obS_inl]
      rcases n_two (a := v) (b := v2) u4 u5 u1 (by
        simp only [arP, List.mem_cons, List.not_mem_nil, or_false] at hop
        exact hop) with ⟨r, r1, r2, r3⟩ | ⟨v3, r2, r3⟩
      · left
        refine ⟨_, _, _, 0, r2, mkb s t M3 σ3 r d3 r1, fun base f g hb hf => ?_⟩
        rw [fin base f g hb hf, r3, ob_some]
      · right
        refine ⟨v3, M3, σ3, r2, d3, fun base f g hb hf => ?_⟩
        rw [fin base f g hb hf, r3, ob_some]
end SPINE
