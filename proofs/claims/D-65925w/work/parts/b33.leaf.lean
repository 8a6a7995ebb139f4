/-! Layer B: names, numbers, signs that must stand here; faults -/
set_option maxRecDepth 100000
/-- a fault of the component -/
def wM (M : CM) (r p : Int32) : CM := msI (msI (mnew M 7 0 8) 1200 (mn M) r) 1201 (mn M) p
/-- a fault of both -/
def Flt (M : CM) (w : Nat) (σ : TS) : Prop := w < mn M ∧ mk M w = 7 ∧ mI M 1200 w = tI σ 0 ∧ mI M 1201 w = tI σ 1 ∧ tI σ 0 ≠ 0
section LEAF
variable {M M' : CM} {σ σ' : TS} {b : Nat → Int32} {len m t i : Nat} {pos : Nat → Nat}
theorem k_wrong (hc : mn M ≤ 601024 ∧ ms M + 8 ≤ 7293034) (h0 : mn M ≠ 0) (r p : Int32) : K_X0_wrong r p M = some (mn M, wM M r p) := by
  have h1 : mk (mnew M 7 0 8) (mn M) = 7 := by rw [mk_mnew, ifT rfl]
  have h2 : mR (mnew M 7 0 8) 1202 (mn M) = 0 := by rw [mR_mnew, ifT rfl]
  unfold K_X0_wrong K_X7_init
  rw [ifT hc, nm_eq, nm_eq, ifT h0, ifT ⟨h1, h2⟩, ifT h1, nm_eq, ifT (show mk (msI (mnew M 7 0 8) 1200 (mn M) r) (mn M) = 7 from h1), nm_eq, ob_some]
  rfl
theorem wM_k (M : CM) (r p : Int32) : mk (wM M r p) (mn M) = 7 := by show mk (mnew M 7 0 8) (mn M) = 7; rw [mk_mnew, ifT rfl]
theorem wM_f (M : CM) (r p : Int32) : Fz none_ M (wM M r p) := (Fz.rf.mnew.msI (fun z => absurd z (Nat.lt_irrefl _))).msI (fun z => absurd z (Nat.lt_irrefl _))
theorem wM_n (M : CM) (r p : Int32) : mn (wM M r p) = mn M + 1 ∧ ms (wM M r p) = ms M + 8 := ⟨rfl, rfl⟩
theorem wM_v (M : CM) (r p : Int32) : mI (wM M r p) 1200 (mn M) = r ∧ mI (wM M r p) 1201 (mn M) = p := by
  constructor
  · show mI (msI (msI (mnew M 7 0 8) 1200 (mn M) r) 1201 (mn M) p) 1200 (mn M) = r
    rw [mI_msI, ifF (by omega), mI_msI, ifT ⟨rfl, rfl⟩]
  · show mI (msI (msI (mnew M 7 0 8) 1200 (mn M) r) 1201 (mn M) p) 1201 (mn M) = p
    rw [mI_msI, ifT ⟨rfl, rfl⟩]
theorem t_bad (h : tI σ 0 = 0) (r p : Int32) : F_bad r p σ = some ((), tsI (tsI σ 0 r) 1 p) := by
  unfold F_bad
  rw [ifT h, nm_eq, nm_eq]
theorem flt_w {r p : Int32} (h : r ≠ 0) : Flt (wM M r p) (mn M) (tsI (tsI σ 0 r) 1 p) := ⟨by rw [(wM_n M r p).1]; omega, wM_k M r p, (wM_v M r p).1, (wM_v M r p).2, h⟩
theorem t_isBad0 (h : tI σ 0 = 0) : F_isBad σ = some (0, σ) := by unfold F_isBad; rw [ifT h]
theorem t_isBad1 (h : tI σ 0 ≠ 0) : F_isBad σ = some (1, σ) := by unfold F_isBad; rw [ifF h]
/-- nothing may stand here: a fault, the same for both -/
theorem y_stop (P : Px M σ b len m t pos i) (hc : mn M ≤ 601024 ∧ ms M + 8 ≤ 7293034) : ∃ r p, (r = 1 ∨ r = 2) ∧ K_X2_stop M = some (mn M, wM M r p) ∧ F_cantStand σ = some ((), tsI (tsI σ 0 r) 1 p) := by
  obtain ⟨g1, g2⟩ := P.in1
  have h0 : mn M ≠ 0 := by have := P.1.2.2.2; omega
  obtain ⟨-, -, -, ⟨-, -, h0b, -⟩, ⟨kd, s, ⟨b1, b2, b3, b4, b5, b6⟩, b7⟩, -⟩ := P
  unfold K_X2_stop F_cantStand
  rw [ifT g1, g2, b4, b1, b3]
  have no : ¬ mA M 91 i = 3 → ¬ nI kd = 4 → ∃ r p, (r = 1 ∨ r = 2) ∧ (if mA M 91 i = 3 then if inb (mI M 405 90) 2001 then ob (K_X0_wrong 1 (nI s) M) fun r9 M8 => some (r9, M8) else none else if inb (mI M 405 90) 2001 then ob (K_X0_wrong 2 (nI s) M) fun r4 M3 => some (r4, M3) else none) = some (mn M, wM M r p) ∧ (if nI kd = 4 then ob (F_bad 1 (nI s) σ) fun _ s5 => some ((), s5) else ob (F_bad 2 (nI s) σ) fun _ s1 => some ((), s1)) = some ((), tsI (tsI σ 0 r) 1 p) := by
    intro e1 e2
    refine ⟨2, nI s, Or.inr rfl, ?_, ?_⟩
    · rw [ifF e1, ifT g1, k_wrong hc h0, ob_some]
    · rw [ifF e2, t_bad h0b, ob_some]
  rcases b7 with ⟨q, q2⟩ | ⟨q, q2, _⟩ | ⟨q, q2, _⟩ | ⟨q, q2, q3⟩ | ⟨q, q2⟩
  · subst q; exact no (by rw [q2]; decide) (by decide)
  · subst q; exact no (by rw [q2]; decide) (by decide)
  · subst q; exact no (by rw [q2]; decide) (by decide)
  · subst q
    refine no (fun z => ?_) (by decide)
    rw [q2] at z
    rw [z] at q3
    rcases q3 with h | h | h | h | h
    · rcases h with h | h | h | h | h | h | h | h | h | h | h | h | h | h | h <;> exact absurd h (by decide)
    all_goals exact absurd h (by decide)
  · subst q
    refine ⟨1, nI s, Or.inl rfl, ?_, ?_⟩
    · rw [ifT q2, ifT g1, k_wrong hc h0, ob_some]
    · rw [ifT (by decide), t_bad h0b, ob_some]
theorem px_hi (b : Nat → Int32) (p : Nat) : ∀ n, px b p (n + 1) < (by8 (b p) + 1) * 256 ^ n
  | 0 => by show 0 * 256 + by8 (b (p + 0)) < _; rw [Nat.add_zero]; omega
  | n + 1 => by
    have h1 := px_hi b p n
    have h2 := by8_lt (b (p + (n + 1)))
    show px b p (n + 1) * 256 + by8 (b (p + (n + 1))) < _
    rw [Nat.pow_succ, ← Nat.mul_assoc]
    omega
theorem nm_pos {v : Int64} (h : nmOK v) : ¬ v < 0 := by
  obtain ⟨⟨n, b, h1, h2, h3, h4, rfl⟩, -⟩ := h
  have hu := u64_pk b 0 n h2
  obtain ⟨n, rfl⟩ : ∃ n', n = n' + 1 := ⟨n - 1, by omega⟩
  have h5 := px_hi b 0 n
  have h6 := (ch_by8 (h3 0 (by omega))).2.2.1
  have h7 : 256 ^ n ≤ 256 ^ 7 := Nat.pow_le_pow_right (by decide) (by omega)
  have h8 : (256 : Nat) ^ 7 = 72057594037927936 := by decide
  have h9 : (by8 (b 0) + 1) * 256 ^ n ≤ 123 * 256 ^ 7 := Nat.mul_le_mul (by omega) h7
  intro hn
  have h10 := Int64.lt_iff_toInt_lt.mp hn
  have h11 : (pk b 0 (n + 1)).toInt = (u64 (pk b 0 (n + 1)) : Int) := by
    unfold u64 at hu ⊢
    rw [← Int64.toInt_toBitVec, BitVec.toInt_eq_toNat_of_lt (by omega)]
  rw [h11] at h10
  have h12 : (0 : Int64).toInt = 0 := by decide
  omega
theorem t_keyLoop (K : KeysT σ) : ∀ (d k f : Nat), k + d = 38 → d < f → (∃ j, k ≤ j ∧ j < 38 ∧ tB σ 23 j = tL σ 16 ∧ L_isKey_13 f (nI k) σ = some (.inr 1, σ)) ∨ ((∀ j, k ≤ j → j < 38 → tB σ 23 j ≠ tL σ 16) ∧ L_isKey_13 f (nI k) σ = some (.inl (), σ))
  | d, k, 0, _, hf => absurd hf (Nat.not_lt_zero _)
  | 0, k, f + 1, hd, _ => by
    right
    rw [L_isKey_13, K.1, ifT (show (38 : Int32) ≤ nI k from (nI_Lle (by omega) (by decide)).mpr (by show 38 ≤ k; omega))]
    exact ⟨fun j h1 h2 => by omega, rfl⟩
  | d + 1, k, f + 1, hd, hf => by
    rw [L_isKey_13, K.1, ifF (show ¬ (38 : Int32) ≤ nI k from by rw [nI_Lle (by omega) (by decide)]; show ¬ 38 ≤ k; omega), ifT (inb_nI' (by omega) (by decide)), ix_nI (by omega)]
    by_cases e : tB σ 23 k = tL σ 16
    · left
      rw [ifT (lg_eq.mpr e)]
      exact ⟨k, Nat.le_refl _, by omega, e, rfl⟩
    · rw [ifF (fun z => e (lg_eq.mp z)), nm_eq, nI_addL]
      rcases t_keyLoop K d (k + 1) f (by omega) (by omega) with ⟨j, a1, a2, a3, a4⟩ | ⟨a1, a2⟩
      · left; exact ⟨j, by omega, a2, a3, a4⟩
      · right
        refine ⟨fun j h1 h2 => ?_, a2⟩
        by_cases ej : j = k
        · subst ej; exact e
        · exact a1 j (by omega) h2
theorem kco_neg : ∀ j, j < 38 → ¬ klen j ≤ 8 → kco j < 0 := by decide +kernel
theorem t_isKey1 (K : KeysT σ) {w : Nat} (hw : w < 38) (h : tL σ 16 = kco w) : F_isKey σ = some (1, σ) := by
  unfold F_isKey
  by_cases c : 0 ≤ lg_cmp (tL σ 16) 0
  · rw [ifT c]
    rcases t_keyLoop K 38 0 FU (by omega) (by decide) with ⟨j, a1, a2, a3, a4⟩ | ⟨a1, a2⟩
    · rw [show (0 : Int32) = nI 0 from rfl, a4, obS_inr]
    · exfalso
      by_cases c8 : klen w ≤ 8
      · exact a1 w (by omega) hw (by rw [K.2 w hw, ifT c8, h])
      · exact lg_ge.mp c (by rw [h]; exact kco_neg w hw c8)
  · rw [ifF c]
theorem t_isKey0 (K : KeysT σ) (h : nmOK (tL σ 16)) : F_isKey σ = some (0, σ) := by
  unfold F_isKey
  rw [ifT (lg_ge.mpr (nm_pos h))]
  rcases t_keyLoop K 38 0 FU (by omega) (by decide) with ⟨j, a1, a2, a3, a4⟩ | ⟨a1, a2⟩
  · exfalso
    rw [K.2 j a2] at a3
    by_cases c8 : klen j ≤ 8
    · rw [ifT c8] at a3; exact h.2 j a2 a3.symm
    · rw [ifF c8] at a3
      exact nm_pos h (by rw [← a3]; decide)
  · rw [show (0 : Int32) = nI 0 from rfl, a2, obS_inl]
/-- a name stands here -/
theorem y_name0 (P : Px M σ b len m t pos i) : (∃ w, K_X2_isName M = some (1, M) ∧ F_isName σ = some (1, σ) ∧ F_isKey σ = some (0, σ) ∧ i < t ∧ tI σ 11 = 1 ∧ mA M 91 i = 1 ∧ mA M 92 i = nI w ∧ 38 ≤ w ∧ w < 38 + m ∧ wc M w = tL σ 16) ∨ (K_X2_isName M = some (0, M) ∧ F_isName σ = some (0, σ) ∧ (tI σ 11 = 1 → F_isKey σ = some (1, σ) ∧ ∃ w, w < 38 ∧ mA M 92 i = nI w ∧ mA M 91 i = 1)) := by
  obtain ⟨g1, g2⟩ := P.in1
  obtain ⟨⟨hK, ⟨L, W⟩, -⟩, -, -, ⟨-, hKT, -⟩, ⟨kd, s, ⟨b1, b2, b3, b4, b5, b6⟩, b7⟩, -⟩ := P
  unfold K_X2_isName F_isName K_X1_isKey
  rw [ifT g1, g2, b4, ifT g1, k_size5 hK, ob_some]
  rcases b7 with ⟨q, q2⟩ | ⟨q, q2, w, q3, q4, q5⟩ | ⟨q, q2, _⟩ | ⟨q, q2, q3⟩ | ⟨q, q2⟩
  · right; subst q; rw [q2, ifF (by decide), ifF (by decide)]; exact ⟨rfl, rfl, fun z => absurd z (by decide)⟩
  · subst q
    have hm : w < 2147483648 := by have := W.2.2.2.1; have := W.2.2.2.2.2.1; omega
    rw [q2, ifT rfl, q3, ifT (show nI 1 = (1 : Int32) from rfl)]
    by_cases c : w < 38
    · right
      have e : F_isKey σ = some (1, σ) := t_isKey1 hKT c (by rw [← q5]; unfold wc; rw [ifT c])
      rw [ifF (by rw [nI_Lle hm (by decide)]; show ¬ 38 ≤ w; omega), ob_some, ifF (by decide), e, ob_some, ifF (by decide)]
      exact ⟨rfl, rfl, fun _ => ⟨rfl, w, c, rfl, rfl⟩⟩
    · left
      have e : F_isKey σ = some (0, σ) := t_isKey0 hKT (by
        rw [← q5]; unfold wc; rw [ifF c]
        exact W.2.2.2.2.2.2.2.2.1 (w - 38) (by omega))
      rw [ifT ((nI_Lle hm (by decide)).mpr (by show 38 ≤ w; omega)), ob_some, ifT rfl, e, ob_some, ifT rfl]
      exact ⟨w, rfl, rfl, rfl, b6.mpr (Or.inl rfl), rfl, rfl, rfl, by omega, q4, q5⟩
  · right; subst q; rw [q2, ifF (by decide), ifF (by decide)]; exact ⟨rfl, rfl, fun z => absurd z (by decide)⟩
  · right; subst q
    have : ¬ tI σ 14 = 1 := fun z => by
      rw [z] at q3
      rcases q3 with h | h | h | h | h
      · rcases h with h | h | h | h | h | h | h | h | h | h | h | h | h | h | h <;> exact absurd h (by decide)
      all_goals exact absurd h (by decide)
    rw [q2, ifF this, ifF (by decide)]; exact ⟨rfl, rfl, fun z => absurd z (by decide)⟩
  · right; subst q; rw [q2, ifF (by decide), ifF (by decide)]; exact ⟨rfl, rfl, fun z => absurd z (by decide)⟩
/-- what a step of both may end as: it went to the next token, or it is a fault -/
def Stq (M : CM) (σ : TS) (b : Nat → Int32) (len m t : Nat) (pos : Nat → Nat) (i : Nat) {α β : Type} (o : Option ((α ⊕ Nat) × CM)) (p : Option (β × TS)) (Q : α → β → Prop) : Prop := (∃ x y σ', o = some (.inl x, msI M 405 90 (nI (i + 1))) ∧ p = some (y, σ') ∧ F_next σ = some ((), σ') ∧ Px (msI M 405 90 (nI (i + 1))) σ' b len m t pos (i + 1) ∧ i < t ∧ Q x y) ∨ ∃ r q y, (r = 1 ∨ r = 2) ∧ o = some (.inr (mn M), wM M r q) ∧ p = some (y, tsI (tsI σ 0 r) 1 q)
theorem y_name (P : Px M σ b len m t pos i) (hc : mn M ≤ 601024 ∧ ms M + 8 ≤ 7293034) : Stq M σ b len m t pos i (K_X2_name M) (F_passName σ) (fun x y => ∃ w, x = nI w ∧ 38 ≤ w ∧ w < 38 + m ∧ y = wc M w) := by
  unfold K_X2_name F_passName
  rw [t_isBad0 P.2.2.2.1.2.2.1, ob_some, ifT rfl]
  rcases y_name0 P with ⟨w, e1, e2, _, hi, _, _, h92, h38, hw, hwc⟩ | ⟨e1, e2, _⟩
  · obtain ⟨σ', n1, n2⟩ := y_next P hi
    have ht := P.2.1.1
    have e405 : mI M 405 90 = nI i := P.2.2.1.2.1
    rw [e1, ob_some, ifF (by decide), nm_eq, e405, nI_addL]
    have e : mI (msI M 405 90 (nI (i + 1))) 405 90 - 1 = nI i := by
      rw [mI_msI, ifT ⟨rfl, rfl⟩]
      rw [show (1 : Int32) = nI 1 from rfl, nI_sub (by omega)]; congr 1
    rw [e, ifT (inb_nI' (by omega) (by decide)), ix_nI (by omega), e2, ob_some, ifF (by decide), nm_eq, n1, ob_some]
    exact Or.inl ⟨nI w, tL σ 16, σ', by rw [mA_msI, h92], rfl, n1, n2, hi, w, rfl, h38, hw, hwc.symm⟩
  · obtain ⟨r, p, hr, s1, s2⟩ := y_stop P hc
    rw [e1, ob_some, ifT rfl, s1, ob_some, ifT (wM_k M r p), e2, ob_some, ifT rfl, s2, ob_some]
    exact Or.inr ⟨r, p, 0, hr, rfl, rfl⟩
theorem y_pass (P : Px M σ b len m t pos i) (hc : mn M ≤ 601024 ∧ ms M + 8 ≤ 7293034) {c : Int32} (h : c ≠ 1 ∧ c ≠ 2 ∧ c ≠ 3 ∧ c ≠ 4) : Stq M σ b len m t pos i (K_X2_sign c M) (F_pass c σ) (fun _ _ => True) := by
  unfold K_X2_sign K_X2_take F_pass
  rw [t_isBad0 P.2.2.2.1.2.2.1, ob_some, ifT rfl]
  rcases y_sign P h with ⟨e1, e2, hi, _, _⟩ | ⟨e1, e2, _⟩
  · obtain ⟨σ', n1, n2⟩ := y_next P hi
    have e405 : mI M 405 90 = nI i := P.2.2.1.2.1
    rw [e1, ob_some, ifF (by decide), nm_eq, e405, nI_addL, ob_some, ifF (by decide), e2, ob_some, ifF (by decide), n1, ob_some]
    exact Or.inl ⟨(), (), σ', rfl, rfl, n1, n2, hi, trivial⟩
  · obtain ⟨r, p, hr, s1, s2⟩ := y_stop P hc
    rw [e1, ob_some, ifT rfl, ob_some, ifT rfl, s1, ob_some, ifT (wM_k M r p), e2, ob_some, ifT rfl, s2, ob_some]
    exact Or.inr ⟨r, p, (), hr, rfl, rfl⟩
theorem y_passKey (P : Px M σ b len m t pos i) (hc : mn M ≤ 601024 ∧ ms M + 8 ≤ 7293034) {j : Nat} {x : Int32} {c : Int64} (hx : x = nI j) (hj : j < 38) (hcc : c = kco j) : Stq M σ b len m t pos i (K_X2_key x M) (F_passWord c σ) (fun _ _ => True) := by
  unfold K_X2_key K_X2_takeKey F_passWord
  rw [t_isBad0 P.2.2.2.1.2.2.1, ob_some, ifT rfl]
  rcases y_key P hx hj hcc with ⟨e1, e2, hi, _, _⟩ | ⟨e1, e2, _⟩
  · obtain ⟨σ', n1, n2⟩ := y_next P hi
    have e405 : mI M 405 90 = nI i := P.2.2.1.2.1
    rw [e1, ob_some, ifF (by decide), nm_eq, e405, nI_addL, ob_some, ifF (by decide), e2, ob_some, ifF (by decide), n1, ob_some]
    exact Or.inl ⟨(), (), σ', rfl, rfl, n1, n2, hi, trivial⟩
  · obtain ⟨r, p, hr, s1, s2⟩ := y_stop P hc
    rw [e1, ob_some, ifT rfl, ob_some, ifT rfl, s1, ob_some, ifT (wM_k M r p), e2, ob_some, ifT rfl, s2, ob_some]
    exact Or.inr ⟨r, p, (), hr, rfl, rfl⟩
/-- a sign or word of the language, taken if it stands here -/
theorem y_take (P : Px M σ b len m t pos i) {c : Int32} (h : c ≠ 1 ∧ c ≠ 2 ∧ c ≠ 3 ∧ c ≠ 4) : (∃ σ', K_X2_take c M = some (1, msI M 405 90 (nI (i + 1))) ∧ F_isSign c σ = some (1, σ) ∧ F_next σ = some ((), σ') ∧ Px (msI M 405 90 (nI (i + 1))) σ' b len m t pos (i + 1) ∧ i < t) ∨ (K_X2_take c M = some (0, M) ∧ F_isSign c σ = some (0, σ)) := by
  unfold K_X2_take
  rcases y_sign P h with ⟨e1, e2, hi, _, _⟩ | ⟨e1, e2, _⟩
  · obtain ⟨σ', n1, n2⟩ := y_next P hi
    have e405 : mI M 405 90 = nI i := P.2.2.1.2.1
    rw [e1, ob_some, ifF (by decide), nm_eq, e405, nI_addL]
    exact Or.inl ⟨σ', rfl, e2, n1, n2, hi⟩
  · rw [e1, ob_some, ifT rfl]
    exact Or.inr ⟨rfl, e2⟩
theorem y_takeKey (P : Px M σ b len m t pos i) {j : Nat} {x : Int32} {c : Int64} (hx : x = nI j) (hj : j < 38) (hcc : c = kco j) : (∃ σ', K_X2_takeKey x M = some (1, msI M 405 90 (nI (i + 1))) ∧ F_isWord c σ = some (1, σ) ∧ F_next σ = some ((), σ') ∧ Px (msI M 405 90 (nI (i + 1))) σ' b len m t pos (i + 1) ∧ i < t) ∨ (K_X2_takeKey x M = some (0, M) ∧ F_isWord c σ = some (0, σ) ∧ ¬ (tI σ 11 = 1 ∧ tL σ 16 = c)) := by
  unfold K_X2_takeKey
  rcases y_key P hx hj hcc with ⟨e1, e2, hi, _, _⟩ | ⟨e1, e2, e3⟩
  · obtain ⟨σ', n1, n2⟩ := y_next P hi
    have e405 : mI M 405 90 = nI i := P.2.2.1.2.1
    rw [e1, ob_some, ifF (by decide), nm_eq, e405, nI_addL]
    exact Or.inl ⟨σ', rfl, e2, n1, n2, hi⟩
  · rw [e1, ob_some, ifT rfl]
    exact Or.inr ⟨rfl, e2, e3⟩
theorem nI_div {a c : Nat} (ha : a < 2147483648) (hc : c < 2147483648) : nI a / nI c = nI (a / c) := by
  apply Int32.toInt_inj.mp
  have h : a / c ≤ a := Nat.div_le_self a c
  rw [bI_toInt (by omega), Int32.toInt_div, bI_toInt ha, bI_toInt hc, ← Int.ofNat_tdiv]
  generalize a / c = q at h
  rw [Int.bmod_eq_of_le] <;> omega
theorem nI_shr16 {c : Nat} (h : c < 2147483648) : nI c >>> ((16 : Int32) &&& 31) = nI (c / 65536) := by
  apply Int32.toBitVec_inj.mp
  have e : (nI c >>> ((16 : Int32) &&& 31)).toBitVec = (nI c).toBitVec.sshiftRight 16 := rfl
  rw [e]
  have hb : ∀ k : Nat, k < 4294967296 → (nI k).toBitVec.toNat = k := fun k hk => by
    show (Int32.ofNat k).toBitVec.toNat = k
    rw [Int32.toBitVec_ofNat', BitVec.toNat_ofNat]; omega
  have hm : (nI c).toBitVec.msb = false := by
    rw [BitVec.msb_eq_false_iff_two_mul_lt, hb c (by omega)]; omega
  rw [BitVec.sshiftRight_eq_of_msb_false hm]
  apply BitVec.eq_of_toNat_eq
  rw [BitVec.toNat_ushiftRight, hb c (by omega), hb _ (by omega), Nat.shiftRight_eq_div_pow]
/-- a whole number of at most hi -/
theorem y_number (P : Px M σ b len m t pos i) (hc : mn M ≤ 601024 ∧ ms M + 8 ≤ 7293034) {hi : Nat} {x2 : Int32} (h2 : x2 = nI hi) (hh : hi < 2147483648) : Stq M σ b len m t pos i (K_X2_number 0 x2 M) (F_passWhole x2 σ) (fun x y => ∃ k, x = nI k ∧ y = nI k ∧ k ≤ hi) := by
  subst h2
  have P0 := P
  obtain ⟨g1, g2⟩ := P.in1
  have ht := P.2.1.1
  have hit : i ≤ t := P.2.2.1.2.2
  have e405 : mI M 405 90 = nI i := P.2.2.1.2.1
  obtain ⟨-, -, -, ⟨-, hKT, h00, -⟩, ⟨kd, s, ⟨b1, b2, b3, b4, b5, b6⟩, b7⟩, -⟩ := P
  obtain ⟨r, p, hr, s1, s2⟩ := y_stop P0 hc
  unfold K_X2_number F_passWhole
  rw [t_isBad0 h00, ob_some, ifT rfl, ifT g1, g2, b4, ifT g1, ifT g1, ifT g1, s1, ob_some, ifT (wM_k M r p), s2, ob_some]
  have no : ∀ (A : Option ((Int32 ⊕ Nat) × CM)) (B : Option (Int32 × TS)), ¬ mA M 91 i = 2 → ¬ nI kd = 2 → Stq M σ b len m t pos i (if mA M 91 i = 2 then A else some (.inr (mn M), wM M r p)) (if nI kd = 2 then B else some (0, tsI (tsI σ 0 r) 1 p)) (fun (x y : Int32) => ∃ k, x = nI k ∧ y = nI k ∧ k ≤ hi) := by
    intro _ _ e1 e2
    rw [ifF e1, ifF e2]
    exact Or.inr ⟨r, p, 0, hr, rfl, rfl⟩
  rcases b7 with ⟨q, q2⟩ | ⟨q, q2, _⟩ | ⟨q, q2, q3, q4, x, q5, q6, q7⟩ | ⟨q, q2, q3⟩ | ⟨q, q2⟩
  · subst q; exact no _ _ (by rw [q2]; decide) (by decide)
  · subst q; exact no _ _ (by rw [q2]; decide) (by decide)
  · subst q
    rw [ifT q2, ifT (show nI 2 = (2 : Int32) from rfl), q4, q3, q5, show (65536 : Int32) = nI 65536 from rfl, nI_div (by omega) (by decide), nI_shr16 (by omega)]
    rcases q7 with q7 | q7
    · rw [q7, ifT rfl, ifT rfl]
      exact Or.inr ⟨r, p, 0, hr, rfl, rfl⟩
    · rw [q7, ifF (show ¬ (1 : Int32) = 0 from by decide), ifF (show ¬ nI (x / 65536) < 0 from by rw [show (0 : Int32) = nI 0 from rfl, bI_lt (by omega) (by decide)]; omega)]
      by_cases c : x / 65536 ≤ hi
      · obtain ⟨σ', n1, n2⟩ := y_next P0 (b6.mpr (by decide))
        have hit : i < t := b6.mpr (by decide)
        have e : mI (msI M 405 90 (nI (i + 1))) 405 90 - 1 = nI i := by
          rw [mI_msI, ifT ⟨rfl, rfl⟩, show (1 : Int32) = nI 1 from rfl, nI_sub (by omega)]; congr 1
        rw [ifT ((bI_le (by omega) hh).mpr c), nm_eq, e405, nI_addL, e, ifT (inb_nI' (by omega) (by decide)), ix_nI (by omega), mA_msI, q3, q5, nI_div (by omega) (by decide), ifF (show ¬ (1 : Int32) = 0 from by decide), ifT ((bI_le (by omega) hh).mpr c), nm_eq, n1, ob_some]
        exact Or.inl ⟨_, _, σ', rfl, rfl, n1, n2, hit, x / 65536, rfl, rfl, c⟩
      · rw [ifF (show ¬ nI (x / 65536) ≤ nI hi from by rw [bI_le (by omega) hh]; exact c), ifF (show ¬ (1 : Int32) = 0 from by decide), ifF (show ¬ nI (x / 65536) ≤ nI hi from by rw [bI_le (by omega) hh]; exact c)]
        exact Or.inr ⟨r, p, 0, hr, rfl, rfl⟩
  · subst q
    refine no _ _ (fun z => ?_) (by decide)
    rw [q2] at z
    rw [z] at q3
    rcases q3 with h | h | h | h | h
    · rcases h with h | h | h | h | h | h | h | h | h | h | h | h | h | h | h <;> exact absurd h (by decide)
    all_goals exact absurd h (by decide)
  · subst q; exact no _ _ (by rw [q2]; decide) (by decide)
end LEAF
