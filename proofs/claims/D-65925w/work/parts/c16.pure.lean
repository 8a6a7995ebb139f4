/-! Layer B: steps: numbers as they are, loops that may fail -/
set_option maxRecDepth 100000
/-- a number that fits -/
def fitV (x : Int64) : Option Int32 := if 0 < lg_cmp x 2147483647 then none else if 0 ≤ lg_cmp x (-2147483647) then some x.toInt32 else none
def timV (a b : Int32) : Option Int32 := fitV ((a.toInt64 * b.toInt64) >>> (((16 : Int32)).toInt64 &&& 63))
def ovV (a : Int32) : Option Int32 := fitV ((a.toInt64 <<< (((16 : Int32)).toInt64 &&& 63)) / ((393216 : Int32)).toInt64)
def addV (a b : Int32) : Option Int32 := fitV (a.toInt64 + b.toInt64)
/-- a place moved -/
def mvV (h x k : Int32) : Option Int32 := (timV h k).bind (addV x)
section PUREV
variable {M : CM} {σ : TS} {a b v : Int32} {x : Int64}
theorem k_in1 (h : fitV x = some v) : K_X19_in x M = some (.inl v, M) := by
  unfold fitV at h
  unfold K_X19_in
  by_cases q : 0 < lg_cmp x 2147483647
  · rw [ifT q] at h; cases h
  · rw [ifF q] at h ⊢
    by_cases q2 : 0 ≤ lg_cmp x (-2147483647)
    · rw [ifT q2] at h ⊢; cases h; rfl
    · rw [ifF q2] at h; cases h
theorem k_in0 (hc : mn M ≤ 601024 ∧ ms M + 8 ≤ 7293034) (hn : mn M ≠ 0) (h : fitV x = none) : K_X19_in x M = some (.inr (mn M), wM M 41 0) := by
  unfold fitV at h
  unfold K_X19_in
  by_cases q : 0 < lg_cmp x 2147483647
  · rw [ifT q, k_wrong hc hn, ob_some, ifT (wM_k M 41 0)]
  · rw [ifF q] at h ⊢
    by_cases q2 : 0 ≤ lg_cmp x (-2147483647)
    · rw [ifT q2] at h; cases h
    · rw [ifF q2, k_wrong hc hn, ob_some, ifT (wM_k M 41 0)]
theorem t_fit1 (h : fitV x = some v) : F_fit x σ = some (v, σ) := by
  unfold fitV at h
  unfold F_fit
  by_cases q : 0 < lg_cmp x 2147483647
  · rw [ifT q] at h; cases h
  · rw [ifF q] at h ⊢
    by_cases q2 : 0 ≤ lg_cmp x (-2147483647)
    · rw [ifT q2] at h ⊢; cases h; rfl
    · rw [ifF q2] at h; cases h
theorem t_fit0 (h0 : tI σ 0 = 0) (h : fitV x = none) : F_fit x σ = some (0, badT σ 41) := by
  unfold fitV at h
  unfold F_fit
  by_cases q : 0 < lg_cmp x 2147483647
  · rw [ifT q, t_badT h0, ob_some]
  · rw [ifF q] at h ⊢
    by_cases q2 : 0 ≤ lg_cmp x (-2147483647)
    · rw [ifT q2] at h; cases h
    · rw [ifF q2, t_badT h0, ob_some]
theorem k_tim1 (h : timV a b = some v) : K_X19_times a b M = some (.inl v, M) := by
  unfold K_X19_times
  rw [obS_id]; exact k_in1 h
theorem k_tim0 (hc : mn M ≤ 601024 ∧ ms M + 8 ≤ 7293034) (hn : mn M ≠ 0) (h : timV a b = none) : K_X19_times a b M = some (.inr (mn M), wM M 41 0) := by
  unfold K_X19_times
  rw [obS_id]; exact k_in0 hc hn h
theorem t_tim1 (h : timV a b = some v) : F_times a b σ = some (v, σ) := by
  unfold F_times
  rw [ob_id]; exact t_fit1 h
theorem t_tim0 (h0 : tI σ 0 = 0) (h : timV a b = none) : F_times a b σ = some (0, badT σ 41) := by
  unfold F_times
  rw [ob_id]; exact t_fit0 h0 h
theorem k_ov1 (h : ovV a = some v) : K_X19_over a 393216 M = some (.inl v, M) := by
  unfold K_X19_over
  rw [ifF (by decide), ifT (by decide), obS_id]; exact k_in1 h
theorem k_ov0 (hc : mn M ≤ 601024 ∧ ms M + 8 ≤ 7293034) (hn : mn M ≠ 0) (h : ovV a = none) : K_X19_over a 393216 M = some (.inr (mn M), wM M 41 0) := by
  unfold K_X19_over
  rw [ifF (by decide), ifT (by decide), obS_id]; exact k_in0 hc hn h
theorem t_ov1 (h : ovV a = some v) : F_over a 393216 σ = some (v, σ) := by
  unfold F_over
  rw [ifF (by decide), ifT (by decide), ob_id]; exact t_fit1 h
theorem t_ov0 (h0 : tI σ 0 = 0) (h : ovV a = none) : F_over a 393216 σ = some (0, badT σ 41) := by
  unfold F_over
  rw [ifF (by decide), ifT (by decide), ob_id]; exact t_fit0 h0 h
/-- what comes of writes, in order -/
def wrS (u : Nat → Nat) (v : Nat → Int32) : Nat → (Nat → Int32) → Nat → Int32
  | 0, f => f
  | n + 1, f => fun j => if j = u n then v n else wrS u v n f j
theorem wrS_eq {u : Nat → Nat} {v w : Nat → Int32} {f g : Nat → Int32} {j : Nat} (h : f j = g j) : ∀ n, (∀ i, i < n → v i = w i) → wrS u v n f j = wrS u w n g j
  | 0, _ => h
  | n + 1, e => by
    show (if j = u n then v n else wrS u v n f j) = if j = u n then w n else wrS u w n g j
    rw [wrS_eq h n (fun i hi => e i (by omega)), e n (by omega)]
theorem wrS_id {u : Nat → Nat} {v : Nat → Int32} {f : Nat → Int32} {j : Nat} : ∀ n, (∀ i, i < n → v i = f (u i)) → wrS u v n f j = f j
  | 0, _ => rfl
  | n + 1, e => by
    show (if j = u n then v n else wrS u v n f j) = f j
    by_cases z : j = u n
    · rw [ifT z, e n (by omega), z]
    · rw [ifF z]; exact wrS_id n (fun i hi => e i (by omega))
/-- a loop of the component that may fail -/
theorem loopKV {L : Nat → Int32 → CM → Option ((Unit ⊕ (Unit ⊕ Nat)) × CM)} {X : Nat} (g : Nat → Option Int32) (J : Nat → CM → Prop) (hE : ∀ n M, J X M → L (n + 1) (nI X) M = some (.inl (), M)) (hS : ∀ n i M v, i < X → J i M → g i = some v → ∃ M', L (n + 1) (nI i) M = L n (nI (i + 1)) M' ∧ J (i + 1) M') (hB : ∀ n i M, i < X → J i M → g i = none → L (n + 1) (nI i) M = some (.inr (.inr (mn M)), wM M 41 0)) : ∀ (m i kf : Nat) (M : CM), i + m = X → m < kf → J i M →
    ((∀ j, i ≤ j → j < X → g j ≠ none) ∧ ∃ M', L kf (nI i) M = some (.inl (), M') ∧ J X M') ∨ ((∃ j, (i ≤ j ∧ j < X) ∧ g j = none) ∧ ∃ k M1, L kf (nI i) M = some (.inr (.inr (mn M1)), wM M1 41 0) ∧ J k M1) := by
  intro m
  induction m with
  | zero =>
    intro i kf M e hk h
    obtain ⟨kf, rfl⟩ : ∃ g, kf = g + 1 := ⟨kf - 1, by omega⟩
    have : i = X := by omega
    subst this
    exact Or.inl ⟨fun j h1 h2 => by omega, M, hE kf M h, h⟩
  | succ m ih =>
    intro i kf M e hk h
    obtain ⟨kf, rfl⟩ : ∃ g, kf = g + 1 := ⟨kf - 1, by omega⟩
    cases eg : g i with
    | none => exact Or.inr ⟨⟨i, ⟨by omega, by omega⟩, eg⟩, i, M, hB kf i M (by omega) h eg, h⟩
    | some v =>
      obtain ⟨M', e1, h1⟩ := hS kf i M v (by omega) h eg
      rw [e1]
      rcases ih (i + 1) kf M' (by omega) (by omega) h1 with ⟨a1, a2⟩ | ⟨⟨j, ⟨j1, j2⟩, j3⟩, a2⟩
      · refine Or.inl ⟨fun j h1 h2 => ?_, a2⟩
        by_cases z : j = i
        · rw [z, eg]; exact fun y => by cases y
        · exact a1 j (by omega) h2
      · exact Or.inr ⟨⟨j, ⟨by omega, j2⟩, j3⟩, a2⟩
/-- a loop of the twin that may fail -/
theorem loopTV {L : Nat → Int32 → TS → Option (Unit × TS)} {X : Nat} (g : Nat → Option Int32) (J : Nat → TS → Prop) (Bd : TS → Prop) (hE : ∀ n σ, J X σ → L (n + 1) (nI X) σ = some ((), σ)) (hS : ∀ n i σ v, i < X → J i σ → g i = some v → ∃ σ', L (n + 1) (nI i) σ = L n (nI (i + 1)) σ' ∧ J (i + 1) σ') (hB : ∀ n i σ, i < X → J i σ → g i = none → ∃ σ1, L (n + 2) (nI i) σ = some ((), σ1) ∧ Bd σ1) : ∀ (m i tf : Nat) (σ : TS), i + m = X → m + 1 < tf → J i σ →
    ((∀ j, i ≤ j → j < X → g j ≠ none) ∧ ∃ σ', L tf (nI i) σ = some ((), σ') ∧ J X σ') ∨ ((∃ j, (i ≤ j ∧ j < X) ∧ g j = none) ∧ ∃ σ1, L tf (nI i) σ = some ((), σ1) ∧ Bd σ1) := by
  intro m
  induction m with
  | zero =>
    intro i tf σ e hk h
    obtain ⟨tf, rfl⟩ : ∃ g, tf = g + 1 := ⟨tf - 1, by omega⟩
    have : i = X := by omega
    subst this
    exact Or.inl ⟨fun j h1 h2 => by omega, σ, hE tf σ h, h⟩
  | succ m ih =>
    intro i tf σ e hk h
    obtain ⟨tf, rfl⟩ : ∃ g, tf = g + 2 := ⟨tf - 2, by omega⟩
    cases eg : g i with
    | none => exact Or.inr ⟨⟨i, ⟨by omega, by omega⟩, eg⟩, hB tf i σ (by omega) h eg⟩
    | some v =>
      obtain ⟨σ', e1, h1⟩ := hS (tf + 1) i σ v (by omega) h eg
      rw [show tf + 2 = tf + 1 + 1 from rfl, e1]
      rcases ih (i + 1) (tf + 1) σ' (by omega) (by omega) h1 with ⟨a1, a2⟩ | ⟨⟨j, ⟨j1, j2⟩, j3⟩, a2⟩
      · refine Or.inl ⟨fun j h1 h2 => ?_, a2⟩
        by_cases z : j = i
        · rw [z, eg]; exact fun y => by cases y
        · exact a1 j (by omega) h2
      · exact Or.inr ⟨⟨j, ⟨by omega, j2⟩, j3⟩, a2⟩
end PUREV
