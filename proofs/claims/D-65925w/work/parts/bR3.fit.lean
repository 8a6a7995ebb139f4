/-! Layer B: judging: one test, both sides -/
set_option maxRecDepth 100000
/-- what the twin writes while it judges -/
def JWf (σ0 σ : TS) : Prop := Ft FJ σ0 σ ∧ tI σ 171 = nI 0
/-- a test of the component -/
def TsK (M0 : CM) (f : CM → Option (Int32 × CM)) (b : Bool) : Prop := ∀ M, Ku M0 M → ∃ M', f M = some (if b then 0 else 1, M') ∧ Ku M0 M'
/-- two expressions, the twin -/
def TsT (σ0 : TS) (n m : Nat) (b : Bool) : Prop := ∀ σ, JWf σ0 σ → ∃ r1 r2 s1 s2, F_unit (nI n) σ = some (r1, s1) ∧ F_unit (nI m) s1 = some (r2, s2) ∧ F_isUnlike r1 r2 s2 = some (if b then 1 else 0, s2) ∧ Ft [170, 171] σ s1 ∧ Ft [170, 171] σ s2 ∧ tI s2 171 = nI 0
/-- a variable and an expression, the twin -/
def TsV (σ0 : TS) (v m : Nat) (b : Bool) : Prop := ∀ σ, JWf σ0 σ → ∃ r1 r2 s2, F_unitOf (nI v) σ = some (r1, σ) ∧ F_unit (nI m) σ = some (r2, s2) ∧ F_isUnlike r1 r2 s2 = some (if b then 1 else 0, s2) ∧ Ft [170, 171] σ s2 ∧ tI s2 171 = nI 0
section FIT
variable {M M0 M' M1 M2 : CM} {σ σ0 σ' : TS} {i j k p q d f a b n m h kf v vo x y c : Nat} {r r2 : Int32} {u w : UV} {e e2 : E3}
theorem t_isU (hu : bV 400000 u) (hw : bV 400000 w) : F_isUnlike (eUV u) (eUV w) σ = some (if (uAl u w).isNone then 1 else 0, σ) := by
  have bb : bV (400000 + 400000) (uAl u w) := hu.al hw
  unfold F_isUnlike
  rw [t_alike hu hw, ob_some]
  have e4 : lg_cmp (eUV (uAl u w)) (-1) = 0 ↔ uAl u w = none := by
    refine e_un ?_
    cases u with
    | none => trivial
    | some u =>
      cases w with
      | none => cases u <;> trivial
      | some w =>
        cases u with
        | none => exact hw
        | some x =>
          cases w with
          | none => exact hu
          | some y =>
            show bV 400000 (if x = y then some (some x) else none)
            by_cases q : x = y
            · rw [ifT q]; exact hu
            · rw [ifF q]; trivial
  by_cases q : uAl u w = none
  · rw [ifT (e4.mpr q), q]; rfl
  · rw [ifF (fun z => q (e4.mp z))]
    cases z : uAl u w with
    | none => exact absurd z q
    | some x => rfl
theorem k_fit (g0 : K8 M0) (A : CU M0 100 a u) (B : CU M0 100 b w) (hu : bV 100000 u) (hw : bV 100000 w) : TsK M0 (K_X0_fit a b) (uAl u w).isNone := fun M K => by
  obtain ⟨r, M', a1, a2, a3, a4, a5, a6⟩ := CA (p := 0) (kf := 299) g0 A B hu hw (by decide) (by decide) (K.fl (Or.inr rfl : (1 : Int32) = 0 ∨ (1 : Int32) = 1))
  have e1 : mI (msI M 45 1 1) 45 1 = 1 := by rw [mI_msI, ifT ⟨rfl, rfl⟩]
  refine ⟨M', ?_, (K.fl (Or.inr rfl)).tr a2⟩
  unfold K_X0_fit
  rw [nm_eq, show K_X0_alike a b 0 (msI M 45 1 1) = _ from a1, ob_some]
  cases z : uAl u w with
  | none => rw [a4 z]; rfl
  | some t => rw [(a6 (by rw [z]; intro y; cases y)).1, e1]; rfl
theorem t_fit (T : TU σ0 100 n u) (T2 : TU σ0 100 m w) (hu : bV 100000 u) (hw : bV 100000 w) : TsT σ0 n m (uAl u w).isNone := fun σ J => by
  obtain ⟨s1, a1, a2, a3, -⟩ := T 300 0 σ (by decide) J.1 J.2 (by decide)
  obtain ⟨s2, b1, b2, b3, -⟩ := T2 300 0 s1 (by decide) (J.1.tr a2) a3 (by decide)
  have f1 := fS_F_unit _ _ _ _ a1
  have f2 := fS_F_unit _ _ _ _ b1
  exact ⟨_, _, s1, s2, a1, b1, t_isU (hu.mono (by decide)) (hw.mono (by decide)), f1, f1.tr f2, b3⟩
theorem t_fitV (hv : UnH M0 σ0 v) (T2 : TU σ0 100 m w) (hw : bV 100000 w) : ∃ e, bU 7 e ∧ TsV σ0 v m (uAl (some (some e)) w).isNone := by
  obtain ⟨e, vo, q1, q2, -⟩ := hv
  refine ⟨e, q1, fun σ J => ?_⟩
  obtain ⟨s2, b1, b2, b3, -⟩ := T2 300 0 σ (by decide) J.1 J.2 (by decide)
  exact ⟨pU e, _, s2, q2 σ J.1, b1, t_isU (u := some (some e)) (q1.mono (by decide)) (hw.mono (by decide)), fS_F_unit _ _ _ _ b1, b3⟩
/-- a row of three against a variable's -/
theorem k15 (g0 : K8 M0) (hg : ∀ M, Ku M0 M → K_J2_get 98 (nI v) M = some (vo, M)) (h17 : mk M0 vo = 17) (hA : mk M0 (mR M0 3204 vo) = 50 ∧ ml M0 (mR M0 3204 vo) = 3) (hn : mR M0 3204 vo ≠ 116) : ∀ (d j f : Nat) (M : CM), j + d = 3 → d < f → Ku M0 M → ∃ M', KL_X0_fitsVar_15 f (nI v) 0 (nI j) M = some ((), M') ∧ Ku M0 M' ∧ ((∀ i, j ≤ i → i < 3 → mA M 116 i = mA M0 (mR M0 3204 vo) i) → mI M' 45 1 = mI M 45 1) ∧ ((∃ i, j ≤ i ∧ i < 3 ∧ ¬ mA M 116 i = mA M0 (mR M0 3204 vo) i) → mI M' 45 1 = 0) ∧ (mI M 45 1 = 0 → mI M' 45 1 = 0) := by
  intro d
  induction d with
  | zero =>
    intro j f M hj hf K
    obtain ⟨f, rfl⟩ : ∃ q, f = q + 1 := ⟨f - 1, by omega⟩
    refine ⟨M, ?_, K, fun _ => rfl, fun ⟨i, h1, h2, _⟩ => by omega, id⟩
    rw [KL_X0_fitsVar_15, ifT (by rw [show (3 : Int32) = nI 3 from rfl, bI_le (by decide) (by omega)]; omega)]
  | succ d ih =>
    intro j f M hj hf K
    obtain ⟨f, rfl⟩ : ∃ q, f = q + 1 := ⟨f - 1, by omega⟩
    obtain ⟨n1, n0⟩ := and1 K.2.2.2.2.2.2
    have rv : mR M 3204 vo = mR M0 3204 vo := K.2.2.2.1 3204 vo
    obtain ⟨ro, hro⟩ : ∃ q, q = mR M0 3204 vo := ⟨_, rfl⟩
    rw [← hro] at rv hA hn ih ⊢
    have kv : mk M vo = 17 := (K.2.2.2.2.2.1 vo).1.trans h17
    have kr : mk M ro = 50 ∧ inb (nI j) (ml M ro) := ⟨(K.2.2.2.2.2.1 ro).1.trans hA.1, by rw [(K.2.2.2.2.2.1 ro).2, hA.2]; exact inb_nI' (by omega) (by decide)⟩
    have va : mA M ro j = mA M0 ro j := K.2.2.2.2.1 ro j hn
    have st : KL_X0_fitsVar_15 (f + 1) (nI v) 0 (nI j) M = if mA M 116 j = mA M0 ro j then KL_X0_fitsVar_15 f (nI v) 0 (nI (j + 1)) (msI M 45 1 (mI M 45 1)) else KL_X0_fitsVar_15 f (nI v) 0 (nI (j + 1)) (msI M 45 1 0) := by
      rw [KL_X0_fitsVar_15, ifF (fun z => by rw [show (3 : Int32) = nI 3 from rfl, bI_le (by decide) (by omega)] at z; omega), ifT rfl, ifT (inb_nI' (by omega) (by decide)), hg M K, ob_some, ifT (Or.inr kv), ifT kv, rv, ifT kr, ix_nI (by omega), va, n1, n0, nm_eq, nm_eq, nm_eq, nm_eq, nI_addL]
    rw [st]
    by_cases z : mA M 116 j = mA M0 ro j
    · rw [ifT z]
      obtain ⟨M', a1, a2, a3, a3b, a3c⟩ := ih (j + 1) f _ (by omega) (by omega) (K.fl K.2.2.2.2.2.2)
      have e45 : mI (msI M 45 1 (mI M 45 1)) 45 1 = mI M 45 1 := by rw [mI_msI, ifT ⟨rfl, rfl⟩]
      rw [e45] at a3 a3c
      refine ⟨M', a1, a2, fun hh => a3 (fun i h1 h2 => hh i (by omega) h2), fun ⟨i, h1, h2, h3⟩ => a3b ⟨i, ?_, h2, h3⟩, a3c⟩
      by_cases y : i = j
      · rw [y] at h3; exact absurd z h3
      · omega
    · rw [ifF z]
      obtain ⟨M', a1, a2, a3, a3b, a3c⟩ := ih (j + 1) f _ (by omega) (by omega) (K.fl (Or.inl rfl : (0 : Int32) = 0 ∨ (0 : Int32) = 1))
      have e45 : mI (msI M 45 1 0) 45 1 = 0 := by rw [mI_msI, ifT ⟨rfl, rfl⟩]
      exact ⟨M', a1, a2, fun hh => absurd (hh j (Nat.le_refl _) (by omega)) z, fun _ => a3c e45, fun _ => a3c e45⟩
theorem k_fitV (g0 : K8 M0) (hv : UnH M0 σ0 v) (T2 : TU σ0 100 m w) (A : CU M0 100 a w) (hw : bV 100000 w) : ∃ b : Bool, TsK M0 (K_X0_fitsVar a (nI v)) b ∧ TsV σ0 v m b := by
  obtain ⟨e, vo, q1, q2, q3, q4, q5, q6, q7⟩ := hv
  have tv : TsV σ0 v m (uAl (some (some e)) w).isNone := fun σ J => by
    obtain ⟨s2, b1, b2, b3, -⟩ := T2 300 0 σ (by decide) J.1 J.2 (by decide)
    exact ⟨pU e, _, s2, q2 σ J.1, b1, t_isU (u := some (some e)) (q1.mono (by decide)) (hw.mono (by decide)), fS_F_unit _ _ _ _ b1, b3⟩
  refine ⟨_, fun M K => ?_, tv⟩
  have K1 := K.fl (Or.inr rfl : (1 : Int32) = 0 ∨ (1 : Int32) = 1)
  obtain ⟨r, M2, a1, a2, a3, a4, a5, a6⟩ := A 300 0 _ (by decide) (by decide) K1
  have e1 : mI (msI M 45 1 1) 45 1 = 1 := by rw [mI_msI, ifT ⟨rfl, rfl⟩]
  have K2 := K1.tr a2
  have st : K_X0_fitsVar a (nI v) M = ob (KL_X0_fitsVar_15 FU (nI v) r 0 M2) fun q22 M23 => some (mI M23 45 1, M23) := by
    unfold K_X0_fitsVar
    rw [nm_eq, show K_X0_unit a 0 (msI M 45 1 1) = _ from a1, ob_some]
  have fu := fu2
  rw [st]
  have imm : r ≠ 0 → KL_X0_fitsVar_15 FU (nI v) r 0 M2 = some ((), M2) := fun hr => by
    obtain ⟨g, hg⟩ := fu1
    rw [hg, KL_X0_fitsVar_15, ifF (by decide), ifF hr]
  cases w with
  | none =>
    have z0 := a4 rfl
    by_cases y : r = 0
    · rw [y]
      obtain ⟨M3, c1, c2, c3, c4, c5⟩ := k15 g0 q3 q4 q5 q6 3 0 FU M2 rfl (by omega) K2
      rw [show KL_X0_fitsVar_15 FU (nI v) 0 0 M2 = _ from c1, ob_some, c5 z0]
      exact ⟨M3, rfl, c2⟩
    · rw [imm y, ob_some, z0]
      exact ⟨M2, rfl, K2⟩
  | some w =>
    obtain ⟨t1, t2, t3⟩ := a6 (by intro z; cases z)
    cases w with
    | none =>
      rw [ifT rfl] at t2
      rw [imm (by rw [t2]; decide), ob_some, t1, e1]
      exact ⟨M2, rfl, K2⟩
    | some e' =>
      rw [ifF (by intro z; cases z)] at t2
      rw [t2]
      obtain ⟨M3, c1, c2, c3, c4, c5⟩ := k15 g0 q3 q4 q5 q6 3 0 FU M2 rfl (by omega) K2
      rw [show KL_X0_fitsVar_15 FU (nI v) 0 0 M2 = _ from c1, ob_some]
      refine ⟨M3, ?_, c2⟩
      have hw' : bU 100000 e' := hw
      obtain ⟨⟨d1, d2⟩, ⟨d3, d4⟩, d5, d6⟩ := hw'
      obtain ⟨⟨f1, f2⟩, ⟨f3, f4⟩, f5, f6⟩ := q1
      have t3 : mA M2 116 0 = iI e'.1 ∧ mA M2 116 1 = iI e'.2.1 ∧ mA M2 116 2 = iI e'.2.2 := t3
      have eu : uAl (some (some e)) (some (some e')) = if e = e' then some (some e) else none := rfl
      rw [eu]
      by_cases y : e = e'
      · subst y
        rw [ifT rfl, c3 (fun i _ h2 => by
          have : i = 0 ∨ i = 1 ∨ i = 2 := by omega
          rcases this with rfl | rfl | rfl
          · rw [t3.1, q7.1]
          · rw [t3.2.1, q7.2.1]
          · rw [t3.2.2, q7.2.2]), t1, e1]
        rfl
      · rw [ifF y, c4 ?_]
        · rfl
        · by_cases y1 : e.1 = e'.1
          · by_cases y2 : e.2.1 = e'.2.1
            · by_cases y3 : e.2.2 = e'.2.2
              · exact absurd (Prod.ext y1 (Prod.ext y2 y3)) y
              · exact ⟨2, by omega, by omega, fun z => y3 (by rw [t3.2.2, q7.2.2] at z; exact ((iI_eq (by omega) (by omega)).mp z).symm)⟩
            · exact ⟨1, by omega, by omega, fun z => y2 (by rw [t3.2.1, q7.2.1] at z; exact ((iI_eq (by omega) (by omega)).mp z).symm)⟩
          · exact ⟨0, by omega, by omega, fun z => y1 (by rw [t3.1, q7.1] at z; exact ((iI_eq (by omega) (by omega)).mp z).symm)⟩
end FIT
