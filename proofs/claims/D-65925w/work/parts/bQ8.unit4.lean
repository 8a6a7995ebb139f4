/-! Layer B: units: the component's row of exponents -/
set_option maxRecDepth 100000
def eZ : UV → E3
  | some (some e) => e
  | _ => (0, 0, 0)
def V3 (M : CM) (p : Nat) (e : E3) : Prop := mA M 116 p = iI e.1 ∧ mA M 116 (p + 1) = iI e.2.1 ∧ mA M 116 (p + 2) = iI e.2.2
/-- what judging writes -/
def Ku (M0 M : CM) : Prop := Fz (fun o => o = 1 ∨ o = 116) M0 M ∧ (mn M = mn M0 ∧ ms M = ms M0) ∧ (∀ f o, ¬ (f = 45 ∧ o = 1) → mI M f o = mI M0 f o) ∧ (∀ f o, mR M f o = mR M0 f o) ∧ (∀ o j, o ≠ 116 → mA M o j = mA M0 o j) ∧ (∀ o, mk M o = mk M0 o ∧ ml M o = ml M0 o) ∧ (mI M 45 1 = 0 ∨ mI M 45 1 = 1)
def K8 (M : CM) : Prop := (mk M 116 = 50 ∧ ml M 116 = 700) ∧ (mI M 45 1 = 0 ∨ mI M 45 1 = 1)
/-- what the component finds of a node -/
def UR (u : UV) (p : Nat) (r : Int32) (M M' : CM) : Prop := (u = none → mI M' 45 1 = 0) ∧ (mI M 45 1 = 0 → mI M' 45 1 = 0) ∧ (u ≠ none → mI M' 45 1 = mI M 45 1 ∧ r = (if u = some none then 1 else 0) ∧ V3 M' p (eZ u))
def CU (M0 : CM) (h a : Nat) (u : UV) : Prop := ∀ kf p M, 2 * h ≤ kf → p + 3 * h + 3 ≤ 700 → Ku M0 M → ∃ r M', (KG_X0_alike kf).2 a (nI p) M = some (r, M') ∧ Ku M M' ∧ (∀ j, j < p → mA M' 116 j = mA M 116 j) ∧ UR u p r M M'
section UNIT4
variable {M M0 M' M1 M2 : CM} {i j k p q d f a b n h kf : Nat} {x y r r2 : Int32} {u w : UV} {e e2 : E3} {S : Int} {cu : Nat → Int32 → CM → Option (Int32 × CM)} {ca : Nat → Nat → Int32 → CM → Option (Int32 × CM)}
theorem Ku.rf (h : mI M 45 1 = 0 ∨ mI M 45 1 = 1) : Ku M M := ⟨Fz.rf, ⟨rfl, rfl⟩, fun _ _ _ => rfl, fun _ _ => rfl, fun _ _ _ => rfl, fun _ => ⟨rfl, rfl⟩, h⟩
theorem Ku.tr (h : Ku M0 M) (g : Ku M M') : Ku M0 M' := ⟨h.1.tr g.1, ⟨g.2.1.1.trans h.2.1.1, g.2.1.2.trans h.2.1.2⟩, fun f o z => (g.2.2.1 f o z).trans (h.2.2.1 f o z), fun f o => (g.2.2.2.1 f o).trans (h.2.2.2.1 f o), fun o j z => (g.2.2.2.2.1 o j z).trans (h.2.2.2.2.1 o j z), fun o => ⟨(g.2.2.2.2.2.1 o).1.trans (h.2.2.2.2.2.1 o).1, (g.2.2.2.2.2.1 o).2.trans (h.2.2.2.2.2.1 o).2⟩, g.2.2.2.2.2.2⟩
theorem Ku.wa (h : Ku M0 M) : Ku M0 (mwA M 116 i x) := ⟨h.1.mwA (fun _ => Or.inr rfl), h.2.1, h.2.2.1, h.2.2.2.1, fun o j z => by
  rw [show mA (mwA M 116 i x) o j = mA M o j from if_neg (fun y => z y.1)]
  exact h.2.2.2.2.1 o j z, h.2.2.2.2.2.1, h.2.2.2.2.2.2⟩
theorem Ku.cp (h : Ku M0 M) : Ku M0 (mcA M i j 116 k n) := ⟨h.1.mcA (fun _ => Or.inr rfl), h.2.1, h.2.2.1, h.2.2.2.1, fun o j' z => by
  rw [show mA (mcA M i j 116 k n) o j' = mA M o j' from if_neg (fun y => z y.1)]
  exact h.2.2.2.2.1 o j' z, h.2.2.2.2.2.1, h.2.2.2.2.2.2⟩
theorem Ku.fl (h : Ku M0 M) (hy : y = 0 ∨ y = 1) : Ku M0 (msI M 45 1 y) := ⟨h.1.msI (fun _ => Or.inl rfl), h.2.1, fun f o z => by
  rw [mI_msI, ifF z]; exact h.2.2.1 f o z, h.2.2.2.1, h.2.2.2.2.1, h.2.2.2.2.2.1, by rw [mI_msI, ifT ⟨rfl, rfl⟩]; exact hy⟩
theorem Ku.k8 (h : Ku M0 M) (g : K8 M0) : K8 M := ⟨⟨(h.2.2.2.2.2.1 116).1.trans g.1.1, (h.2.2.2.2.2.1 116).2.trans g.1.2⟩, h.2.2.2.2.2.2⟩
theorem K8.ib (g : K8 M) (h : j < 700) : mk M 116 = 50 ∧ inb (nI j) (ml M 116) := ⟨g.1.1, by rw [g.1.2]; exact inb_nI' h (by decide)⟩
theorem and1 (h : x = 0 ∨ x = 1) : x &&& 1 = x ∧ x &&& 0 = 0 := by rcases h with rfl | rfl <;> decide
theorem mA_w116 : mA (mwA M 116 i x) 116 j = if j = i then x else mA M 116 j := by
  by_cases z : j = i
  · rw [ifT z]; exact if_pos ⟨rfl, z⟩
  · rw [ifF z]; exact if_neg (fun y => z y.2)
/-- three places become 0 -/
theorem kz8 (hp : p + 3 ≤ 700) : ∀ (d j f : Nat) (M : CM), j + d = p + 3 → d < f → K8 M → ∃ M', KL_X0_unit_8 cu ca f a (nI p) 116 (nI j) M = some ((), M') ∧ Ku M M' ∧ mI M' 45 1 = mI M 45 1 ∧ (∀ i, i < j → mA M' 116 i = mA M 116 i) ∧ ∀ i, j ≤ i → i < p + 3 → mA M' 116 i = 0 := by
  intro d
  induction d with
  | zero =>
    intro j f M hj hf g
    obtain ⟨f, rfl⟩ : ∃ q, f = q + 1 := ⟨f - 1, by omega⟩
    refine ⟨M, ?_, Ku.rf g.2, rfl, fun _ _ => rfl, fun i h1 h2 => by omega⟩
    rw [KL_X0_unit_8, nI_addL, ifT ((bI_le (by omega) (by omega)).mpr (by omega))]
  | succ d ih =>
    intro j f M hj hf g
    obtain ⟨f, rfl⟩ : ∃ q, f = q + 1 := ⟨f - 1, by omega⟩
    have k1 : Ku M (mwA M 116 j 0) := (Ku.rf g.2).wa
    obtain ⟨M', a1, a2, a3, a4, a5⟩ := ih (j + 1) f (mwA M 116 j 0) (by omega) (by omega) (k1.k8 g)
    refine ⟨M', ?_, k1.tr a2, a3, fun i hi => ?_, fun i h1 h2 => ?_⟩
    · rw [KL_X0_unit_8, nI_addL, ifF (fun z => by have := (bI_le (by omega) (by omega)).mp z; omega), ifT (g.ib (by omega)), ix_nI (by omega), nm_eq, nI_addL, nm_eq]
      exact a1
    · rw [a4 i (by omega), mA_w116, ifF (by omega)]
    · by_cases z : i = j
      · rw [a4 i (by omega), mA_w116, ifT z]
      · exact a5 i (by omega) h2
/-- three places become 0 -/
theorem kz193 (hp : p + 3 ≤ 700) : ∀ (d j f : Nat) (M : CM), j + d = p + 3 → d < f → K8 M → ∃ M', KL_X0_unit_193 cu ca f (nI p) 116 (nI j) M = some ((), M') ∧ Ku M M' ∧ mI M' 45 1 = mI M 45 1 ∧ (∀ i, i < j → mA M' 116 i = mA M 116 i) ∧ ∀ i, j ≤ i → i < p + 3 → mA M' 116 i = 0 := by
  intro d
  induction d with
  | zero =>
    intro j f M hj hf g
    obtain ⟨f, rfl⟩ : ∃ q, f = q + 1 := ⟨f - 1, by omega⟩
    refine ⟨M, ?_, Ku.rf g.2, rfl, fun _ _ => rfl, fun i h1 h2 => by omega⟩
    rw [KL_X0_unit_193, nI_addL, ifT ((bI_le (by omega) (by omega)).mpr (by omega))]
  | succ d ih =>
    intro j f M hj hf g
    obtain ⟨f, rfl⟩ : ∃ q, f = q + 1 := ⟨f - 1, by omega⟩
    have k1 : Ku M (mwA M 116 j 0) := (Ku.rf g.2).wa
    obtain ⟨M', a1, a2, a3, a4, a5⟩ := ih (j + 1) f (mwA M 116 j 0) (by omega) (by omega) (k1.k8 g)
    refine ⟨M', ?_, k1.tr a2, a3, fun i hi => ?_, fun i h1 h2 => ?_⟩
    · rw [KL_X0_unit_193, nI_addL, ifF (fun z => by have := (bI_le (by omega) (by omega)).mp z; omega), ifT (g.ib (by omega)), ix_nI (by omega), nm_eq, nI_addL, nm_eq]
      exact a1
    · rw [a4 i (by omega), mA_w116, ifF (by omega)]
    · by_cases z : i = j
      · rw [a4 i (by omega), mA_w116, ifT z]
      · exact a5 i (by omega) h2
/-- exponents are added -/
theorem k303 (hp : p + 6 ≤ 700) {x5 x6 : Int32} {op : Int32} : ∀ (d j f : Nat) (M : CM), j + d = p + 3 → p ≤ j → d < f → K8 M → mk M a = 18 → mI M 3400 a = op → ∃ M', KL_X0_unit_303 cu ca f a (nI p) 116 x5 x6 (nI j) M = some ((), M') ∧ Ku M M' ∧ mI M' 45 1 = mI M 45 1 ∧ (∀ i, (i < j ∨ p + 3 ≤ i) → mA M' 116 i = mA M 116 i) ∧ ∀ i, j ≤ i → i < p + 3 → mA M' 116 i = mA M 116 i + (if op = 5 then mA M 116 (i + 3) else - mA M 116 (i + 3)) := by
  intro d
  induction d with
  | zero =>
    intro j f M hj hpj hf g ka ho
    obtain ⟨f, rfl⟩ : ∃ q, f = q + 1 := ⟨f - 1, by omega⟩
    refine ⟨M, ?_, Ku.rf g.2, rfl, fun _ _ => rfl, fun i h1 h2 => by omega⟩
    rw [KL_X0_unit_303, nI_addL, ifT ((bI_le (by omega) (by omega)).mpr (by omega))]
  | succ d ih =>
    intro j f M hj hpj hf g ka ho
    obtain ⟨f, rfl⟩ : ∃ q, f = q + 1 := ⟨f - 1, by omega⟩
    obtain ⟨v, hv⟩ : ∃ q, q = mA M 116 j + (if op = 5 then mA M 116 (j + 3) else - mA M 116 (j + 3)) := ⟨_, rfl⟩
    have k1 : Ku M (mwA M 116 j v) := (Ku.rf g.2).wa
    obtain ⟨M', a1, a2, a3, a4, a5⟩ := ih (j + 1) f (mwA M 116 j v) (by omega) (by omega) (by omega) (k1.k8 g) ka ho
    refine ⟨M', ?_, k1.tr a2, a3, fun i hi => ?_, fun i h1 h2 => ?_⟩
    · rw [KL_X0_unit_303, nI_addL, ifF (fun z => by have := (bI_le (by omega) (by omega)).mp z; omega), ifT (g.ib (by omega)), ifT ka, ho]
      by_cases z : op = 5
      · rw [ifT z] at hv
        rw [ifT z, nI_addL, ifT (g.ib (by omega)), ifT (g.ib (by omega)), ix_nI (by omega), ix_nI (by omega), ← hv, nm_eq, nI_addL, nm_eq]
        exact a1
      · rw [ifF z] at hv
        rw [ifF z, nI_addL, ifT (g.ib (by omega)), ifT (g.ib (by omega)), ix_nI (by omega), ix_nI (by omega), ← hv, nm_eq, nI_addL, nm_eq]
        exact a1
    · rw [a4 i (by omega), mA_w116, ifF (by omega)]
    · by_cases z : i = j
      · rw [a4 i (by omega), mA_w116, ifT z, hv, z]
      · have e3 : mA (mwA M 116 j v) 116 (i + 3) = mA M 116 (i + 3) := by rw [mA_w116, ifF (by omega)]
        rw [a5 i (by omega) h2, e3, mA_w116, ifF z]
/-- exponents are halved -/
theorem k228 (hp : p + 3 ≤ 700) {x6 : Int32} : ∀ (d j f : Nat) (M : CM), j + d = p + 3 → d < f → K8 M → ∃ M', KL_X0_unit_228 cu ca f (nI p) 116 x6 (nI j) M = some ((), M') ∧ Ku M M' ∧ ((∀ i, j ≤ i → i < p + 3 → mA M 116 i - mA M 116 i / 2 * 2 = 0) → mI M' 45 1 = mI M 45 1) ∧ ((∃ i, j ≤ i ∧ i < p + 3 ∧ ¬ mA M 116 i - mA M 116 i / 2 * 2 = 0) → mI M' 45 1 = 0) ∧ (mI M 45 1 = 0 → mI M' 45 1 = 0) ∧ (∀ i, i < j → mA M' 116 i = mA M 116 i) ∧ ∀ i, j ≤ i → i < p + 3 → mA M' 116 i = mA M 116 i / 2 := by
  intro d
  induction d with
  | zero =>
    intro j f M hj hf g
    obtain ⟨f, rfl⟩ : ∃ q, f = q + 1 := ⟨f - 1, by omega⟩
    refine ⟨M, ?_, Ku.rf g.2, fun _ => rfl, fun ⟨i, h1, h2, _⟩ => by omega, id, fun _ _ => rfl, fun i h1 h2 => by omega⟩
    rw [KL_X0_unit_228, nI_addL, ifT ((bI_le (by omega) (by omega)).mpr (by omega))]
  | succ d ih =>
    intro j f M hj hf g
    obtain ⟨f, rfl⟩ : ∃ q, f = q + 1 := ⟨f - 1, by omega⟩
    obtain ⟨n1, n0⟩ := and1 g.2
    obtain ⟨v, hv⟩ : ∃ q, q = mA M 116 j / 2 := ⟨_, rfl⟩
    by_cases z : mA M 116 j - mA M 116 j / 2 * 2 = 0
    · have k1 : Ku M (mwA (msI M 45 1 (mI M 45 1)) 116 j v) := ((Ku.rf g.2).fl g.2).wa
      obtain ⟨M', a1, a2, a3, a3b, a3c, a4, a5⟩ := ih (j + 1) f _ (by omega) (by omega) (k1.k8 g)
      have e45 : mI (mwA (msI M 45 1 (mI M 45 1)) 116 j v) 45 1 = mI M 45 1 := by show mI (msI M 45 1 (mI M 45 1)) 45 1 = _; rw [mI_msI, ifT ⟨rfl, rfl⟩]
      rw [e45] at a3 a3c
      have eA : ∀ i, j + 1 ≤ i → mA (mwA (msI M 45 1 (mI M 45 1)) 116 j v) 116 i = mA M 116 i := fun i hi => by rw [mA_w116, ifF (by omega)]; rfl
      refine ⟨M', ?_, k1.tr a2, fun hh => a3 (fun i h1 h2 => by rw [eA i h1]; exact hh i (by omega) h2), fun ⟨i, h1, h2, h3⟩ => a3b ⟨i, ?_, h2, ?_⟩, a3c, fun i hi => ?_, fun i h1 h2 => ?_⟩
      · rw [KL_X0_unit_228, nI_addL, ifF (fun z => by have := (bI_le (by omega) (by omega)).mp z; omega), ifT (g.ib (by omega)), ix_nI (by omega), ifT z, n1, nm_eq]
        have g1 := ((Ku.rf g.2).fl g.2).k8 g
        rw [ifT (g1.ib (by omega)), ifT (g1.ib (by omega)), show mA (msI M 45 1 (mI M 45 1)) 116 j = mA M 116 j from rfl, ← hv, nm_eq, nI_addL, nm_eq]
        exact a1
      · by_cases y : i = j
        · rw [y] at h3; exact absurd z h3
        · omega
      · by_cases y : i = j
        · rw [y] at h3; exact absurd z h3
        · rw [eA i (by omega)]; exact h3
      · rw [a4 i (by omega), mA_w116, ifF (by omega)]; rfl
      · by_cases y : i = j
        · rw [a4 i (by omega), mA_w116, ifT y, hv, y]
        · rw [a5 i (by omega) h2, eA i (by omega)]
    · have k1 : Ku M (mwA (msI M 45 1 0) 116 j v) := ((Ku.rf g.2).fl (Or.inl rfl)).wa
      obtain ⟨M', a1, a2, a3, a3b, a3c, a4, a5⟩ := ih (j + 1) f _ (by omega) (by omega) (k1.k8 g)
      have e45 : mI (mwA (msI M 45 1 0) 116 j v) 45 1 = 0 := by show mI (msI M 45 1 0) 45 1 = _; rw [mI_msI, ifT ⟨rfl, rfl⟩]
      have eA : ∀ i, j + 1 ≤ i → mA (mwA (msI M 45 1 0) 116 j v) 116 i = mA M 116 i := fun i hi => by rw [mA_w116, ifF (by omega)]; rfl
      refine ⟨M', ?_, k1.tr a2, fun hh => absurd (hh j (Nat.le_refl _) (by omega)) z, fun _ => a3c e45, fun _ => a3c e45, fun i hi => ?_, fun i h1 h2 => ?_⟩
      · rw [KL_X0_unit_228, nI_addL, ifF (fun z => by have := (bI_le (by omega) (by omega)).mp z; omega), ifT (g.ib (by omega)), ix_nI (by omega), ifF z, n0, nm_eq]
        have g1 := ((Ku.rf g.2).fl (Or.inl rfl : (0 : Int32) = 0 ∨ (0 : Int32) = 1)).k8 g
        rw [ifT (g1.ib (by omega)), ifT (g1.ib (by omega)), show mA (msI M 45 1 0) 116 j = mA M 116 j from rfl, ← hv, nm_eq, nI_addL, nm_eq]
        exact a1
      · rw [a4 i (by omega), mA_w116, ifF (by omega)]; rfl
      · by_cases y : i = j
        · rw [a4 i (by omega), mA_w116, ifT y, hv, y]
        · rw [a5 i (by omega) h2, eA i (by omega)]
/-- two rows of three are compared -/
theorem k45 (hp : p + 6 ≤ 700) : ∀ (d j f : Nat) (M : CM), j + d = p + 3 → d < f → K8 M → ∃ M', KL_X0_alike_45 cu f (nI p) 0 (nI j) M = some ((), M') ∧ Ku M M' ∧ ((∀ i, j ≤ i → i < p + 3 → mA M 116 i = mA M 116 (i + 3)) → mI M' 45 1 = mI M 45 1) ∧ ((∃ i, j ≤ i ∧ i < p + 3 ∧ ¬ mA M 116 i = mA M 116 (i + 3)) → mI M' 45 1 = 0) ∧ (mI M 45 1 = 0 → mI M' 45 1 = 0) ∧ (∀ i, mA M' 116 i = mA M 116 i) := by
  intro d
  induction d with
  | zero =>
    intro j f M hj hf g
    obtain ⟨f, rfl⟩ : ∃ q, f = q + 1 := ⟨f - 1, by omega⟩
    refine ⟨M, ?_, Ku.rf g.2, fun _ => rfl, fun ⟨i, h1, h2, _⟩ => by omega, id, fun _ => rfl⟩
    rw [KL_X0_alike_45, nI_addL, ifT ((bI_le (by omega) (by omega)).mpr (by omega))]
  | succ d ih =>
    intro j f M hj hf g
    obtain ⟨f, rfl⟩ : ∃ q, f = q + 1 := ⟨f - 1, by omega⟩
    obtain ⟨n1, n0⟩ := and1 g.2
    have i7 : ∀ j, j < 700 → inb (nI j) 700 := fun j h => inb_nI' h (by decide)
    by_cases z : mA M 116 j = mA M 116 (j + 3)
    · have k1 : Ku M (msI M 45 1 (mI M 45 1)) := (Ku.rf g.2).fl g.2
      obtain ⟨M', a1, a2, a3, a3b, a3c, a4⟩ := ih (j + 1) f _ (by omega) (by omega) (k1.k8 g)
      have e45 : mI (msI M 45 1 (mI M 45 1)) 45 1 = mI M 45 1 := by rw [mI_msI, ifT ⟨rfl, rfl⟩]
      rw [e45] at a3 a3c
      refine ⟨M', ?_, k1.tr a2, fun hh => a3 (fun i h1 h2 => hh i (by omega) h2), fun ⟨i, h1, h2, h3⟩ => a3b ⟨i, ?_, h2, h3⟩, a3c, a4⟩
      · rw [KL_X0_alike_45, nI_addL, ifF (fun z => by have := (bI_le (by omega) (by omega)).mp z; omega), ifT rfl, ifT (i7 _ (by omega)), nI_addL, ifT (i7 _ (by omega)), ix_nI (by omega), ix_nI (by omega), ifT z, n1, nm_eq, nI_addL, nm_eq]
        exact a1
      · by_cases y : i = j
        · rw [y] at h3; exact absurd z h3
        · omega
    · have k1 : Ku M (msI M 45 1 0) := (Ku.rf g.2).fl (Or.inl rfl)
      obtain ⟨M', a1, a2, a3, a3b, a3c, a4⟩ := ih (j + 1) f _ (by omega) (by omega) (k1.k8 g)
      have e45 : mI (msI M 45 1 0) 45 1 = 0 := by rw [mI_msI, ifT ⟨rfl, rfl⟩]
      refine ⟨M', ?_, k1.tr a2, fun hh => absurd (hh j (Nat.le_refl _) (by omega)) z, fun _ => a3c e45, fun _ => a3c e45, a4⟩
      rw [KL_X0_alike_45, nI_addL, ifF (fun z => by have := (bI_le (by omega) (by omega)).mp z; omega), ifT rfl, ifT (i7 _ (by omega)), nI_addL, ifT (i7 _ (by omega)), ix_nI (by omega), ix_nI (by omega), ifF z, n0, nm_eq, nI_addL, nm_eq]
      exact a1
end UNIT4
