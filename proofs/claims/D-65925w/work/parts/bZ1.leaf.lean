/-! Layer B: values of solved trees: the leaves, both sides -/
set_option maxRecDepth 100000
abbrev isV (d : Nat) : KVT := (KG_X0_is d).2.2
abbrev isC (d : Nat) : KVT := (KG_X0_is d).1
abbrev isLv (d : Nat) : KVT := (KG_X0_is d).2.1
section RLEAF
variable {M : CM} {σ : TS} {d a n o u v w : Nat} {x x2 y : Int32}
theorem isV_s : isV (d + 1) = KB_X0_val (isC d) (isV d) := rfl
theorem isC_s : isC (d + 1) = KB_X0_is (isC d) (isLv d) := rfl
theorem isLv_s : isLv (d + 1) = KB_X0_live (isV d) := rfl
theorem is_keq : KEq isV isC := by
  intro d a M ko
  rw [isV_s, isC_s]
  refine ⟨fun h => ?_, fun h => ?_, fun h => ?_, fun h => ?_, fun h => ?_, fun h => ?_, fun h => ?_⟩
  · unfold KB_X0_val
    rw [h]; simp +decide only [ko, ↓reduceIte]
  · unfold KB_X0_val eTwo
    simp only [List.mem_cons, List.not_mem_nil, or_false] at h
    rcases h with h | h | h | h | h | h <;> (rw [h]; simp +decide only [ko, ↓reduceIte])
  · unfold KB_X0_val eOne
    simp only [List.mem_cons, List.not_mem_nil, or_false] at h
    rcases h with h | h | h | h | h <;> (rw [h]; simp +decide only [ko, ↓reduceIte])
  · unfold KB_X0_val eIf
    simp only [obS_id]
    rw [h]; simp +decide only [ko, ↓reduceIte]
  · unfold KB_X0_is eAnd
    rw [h]; simp +decide only [ko, ↓reduceIte]
  · unfold KB_X0_is eOr
    rw [h]; simp +decide only [ko, ↓reduceIte]
  · unfold KB_X0_is eNot
    rw [h]; simp +decide only [ko, ↓reduceIte]
theorem is_live (ko : mk M a = 18) : isLv (d + 1) a M = eLive (isV d) a M := by
  rw [isLv_s]
  unfold KB_X0_live eLive
  simp only [ko, ↓reduceIte]
/-- a relation as it is held -/
theorem is_held (ko : mk M a = 18) (h : ¬ mI M 3400 a = 26 ∧ ¬ mI M 3400 a = 27 ∧ ¬ mI M 3400 a = 28 ∧ ¬ mI M 3400 a = 29) (hh : ¬ mI M 86 1 = 0) (hr : mI M 3403 a = nI u) (hu : u < 24) : isC (d + 1) a M = some (.inl (mA M 148 u), M) := by
  have n0 : ¬ nI u < 0 := fun z => by
    rw [show (0 : Int32) = nI 0 from rfl, bI_lt (by omega) (by decide)] at z; omega
  rw [isC_s]
  unfold KB_X0_is
  rw [ifT ko, ifF h.1, ifF h.2.1, ifF h.2.2.1, ifF h.2.2.2, ifF hh, ifT ko, hr, ifF n0, ifT ko, ifT (inb_nI' hu (by decide)), ix_nI (by omega)]
/-- a relation as the values are -/
theorem is_lv (ko : mk M a = 18) (h : ¬ mI M 3400 a = 26 ∧ ¬ mI M 3400 a = 27 ∧ ¬ mI M 3400 a = 28 ∧ ¬ mI M 3400 a = 29) (hh : mI M 86 1 = 0 ∨ mI M 3403 a = -1) : isC (d + 2) a M = eLive (isV d) a M := by
  rw [show d + 2 = d + 1 + 1 from rfl, isC_s]
  unfold KB_X0_is
  rw [ifT ko, ifF h.1, ifF h.2.1, ifF h.2.2.1, ifF h.2.2.2, is_live ko]
  simp only [obS_id]
  by_cases z : mI M 86 1 = 0
  · rw [ifT z]
  · rw [ifF z, ifT ko, hh.resolve_left z, ifT (show (-1 : Int32) < 0 by decide)]
theorem is_smp (ko : mk M a = 18) (h : mI M 3400 a = 29) (hr : mI M 3403 a = nI u) (hu : u < 24) : isC (d + 1) a M = some (.inl (mA M 148 u), M) := by
  rw [isC_s]
  unfold KB_X0_is
  rw [h, hr]
  simp +decide only [ko, ↓reduceIte]
  rw [ifT (inb_nI' hu (by decide)), ix_nI (by omega)]
theorem iv_var (ko : mk M a = 18) (h : mI M 3400 a = 1) (hv : mI M 3401 a = nI v) (g : K_J2_get 98 (nI v) M = some (o, M)) (k : mk M o = 17) : isV (d + 1) a M = some (.inl (mI M 3213 o), M) := by
  rw [isV_s]
  unfold KB_X0_val
  rw [h, hv]; simp +decide only [ko, ↓reduceIte]
  rw [g, ob_some, ifT (Or.inr k), ifT k]
theorem iv_time (ko : mk M a = 18) (h : mI M 3400 a = 2) : isV (d + 1) a M = some (.inl (mI M 85 1), M) := by
  rw [isV_s]
  unfold KB_X0_val
  rw [h]; simp +decide only [ko, ↓reduceIte]
theorem iv_pre (ko : mk M a = 18) (h : mI M 3400 a = 16) (hv : mI M 3401 a = nI v) (g : K_J2_get 98 (nI v) M = some (o, M)) (k : mk M o = 17) : isV (d + 1) a M = some (.inl (mI M 3214 o), M) := by
  rw [isV_s]
  unfold KB_X0_val
  rw [h, hv]; simp +decide only [ko, ↓reduceIte]
  rw [g, ob_some, ifT (Or.inr k), ifT k]
theorem iv_unk (ko : mk M a = 18) (h : mI M 3400 a = 17) (hv : mI M 3401 a = nI u) (hu : u < 180) : isV (d + 1) a M = some (.inl (mA M 124 u), M) := by
  rw [isV_s]
  unfold KB_X0_val
  rw [h, hv]; simp +decide only [ko, ↓reduceIte]
  rw [ifT (inb_nI' hu (by decide)), ix_nI (by omega)]
theorem iv_bef (ko : mk M a = 18) (h : mI M 3400 a = 18) (hv : mI M 3401 a = nI u) (hu : u < 180) : isV (d + 1) a M = some (.inl (mA M 125 u), M) := by
  rw [isV_s]
  unfold KB_X0_val
  rw [h, hv]; simp +decide only [ko, ↓reduceIte]
  rw [ifT (inb_nI' hu (by decide)), ix_nI (by omega)]
theorem iv_rate (ko : mk M a = 18) (h : mI M 3400 a = 19) (hv : mI M 3401 a = nI u) (hu : u < 180) (hw : mA M 121 u = -1 ∨ ∃ w, w < 180 ∧ mA M 121 u = nI w) : isV (d + 1) a M = some (.inl (if 0 ≤ mA M 121 u then mA M 124 (ix (mA M 121 u)) else 0), M) := by
  rw [isV_s]
  unfold KB_X0_val
  rw [h, hv]; simp +decide only [ko, ↓reduceIte]
  rw [ifT (inb_nI' hu (by decide)), ix_nI (by omega), ifT (inb_nI' hu (by decide))]
  rcases hw with q | ⟨w, q1, q2⟩
  · rw [q, ifF (show ¬ (0 : Int32) ≤ -1 by decide), ifF (show ¬ (0 : Int32) ≤ -1 by decide)]
  · have z : (0 : Int32) ≤ nI w := by rw [show (0 : Int32) = nI 0 from rfl, bI_le (by decide) (by omega)]; omega
    rw [q2, ifT z, ifT z, ifT (inb_nI' q1 (by decide))]
/-- the twin's leaves -/
theorem tv_k1 (hv : v < 96) (h : tA σ 94 v = 1) (h2 : tA σ 160 v = 2) : gV (d + 1) (nI v) σ = some (tA σ 104 v, σ) := by
  have iv : inb (nI v) 96 := inb_nI' hv (by decide)
  rw [gV_s]
  unfold B_valueOf
  rw [ifT iv, ix_nI (by omega), ifT h, ifT iv, ifT h2, ifT iv]
theorem tv_k2 (hv : v < 96) (h : tA σ 94 v = 2) : gV (d + 1) (nI v) σ = some (tA σ 168 v, σ) := by
  have iv : inb (nI v) 96 := inb_nI' hv (by decide)
  rw [gV_s]
  unfold B_valueOf
  rw [ifT iv, ix_nI (by omega), ifF (by rw [h]; decide), ifT iv, ifT h, ifT iv]
theorem sgn2 {β : Type} (h : sg1 x) {f g : β} : (if (0 : Int32) ≤ x then f else g) = if x = 1 then f else g := by
  rcases h with rfl | rfl
  · rw [ifT (by decide), ifT rfl]
  · rw [ifF (by decide), ifF (by decide)]
theorem nn0 (hu : u < 1000) : (0 : Int32) ≤ nI u := by rw [show (0 : Int32) = nI 0 from rfl, bI_le (by decide) (by omega)]; omega
theorem tv_k0 (h : LfU σ v u x) : gV (d + 1) (nI v) σ = some (if x = 1 then tA σ 166 u else -(tA σ 166 u), σ) := by
  obtain ⟨⟨h1, hv⟩, ⟨w, w1, w2, w3⟩, hu, h5, h6⟩ := h
  have iv : inb (nI v) 96 := inb_nI' hv (by decide)
  have iw : inb (nI w) 96 := inb_nI' w1 (by decide)
  rw [gV_s]
  unfold B_valueOf
  rw [ifT iv, ix_nI (by omega), ifF (by rw [h1]; decide), ifT iv, ifF (by rw [h1]; decide), ifT iv, nm_eq, w2, ifT iw, ix_nI (by omega), w3, ifT (nn0 (by omega)), ifT iw, ifT (inb_nI' (by omega) (by decide)), nm_eq, ix_nI (by omega), ifT iv, h5, sgn2 h6]
  by_cases q : x = 1
  · rw [ifT q, ifT q]
  · rw [ifF q, ifF q]
theorem tp_k2 (hv : v < 96) (h : tA σ 94 v = 2) : F_preOf (nI v) σ = some (tA σ 169 v, σ) := by
  have iv : inb (nI v) 96 := inb_nI' hv (by decide)
  unfold F_preOf
  rw [ifT iv, ix_nI (by omega), ifT h, ifT iv]
theorem tp_k0 (h : LfU σ v u x) : F_preOf (nI v) σ = some (if x = 1 then tA σ 167 u else -(tA σ 167 u), σ) := by
  obtain ⟨⟨h1, hv⟩, ⟨w, w1, w2, w3⟩, hu, h5, h6⟩ := h
  have iv : inb (nI v) 96 := inb_nI' hv (by decide)
  have iw : inb (nI w) 96 := inb_nI' w1 (by decide)
  unfold F_preOf
  rw [ifT iv, ix_nI (by omega), ifF (by rw [h1]; decide), ifT iv, nm_eq, w2, ifT iw, ix_nI (by omega), w3, ifT (nn0 (by omega)), ifT iw, ifT (inb_nI' (by omega) (by decide)), nm_eq, ix_nI (by omega), ifT iv, h5, sgn2 h6]
  by_cases q : x = 1
  · rw [ifT q, ifT q]
  · rw [ifF q, ifF q]
theorem td_k0 (h : LfU σ v u x) (hw : tA σ 189 u = -1 ∨ ∃ w, w < 180 ∧ tA σ 189 u = nI w) : F_derOf (nI v) σ = some (if x = 1 then (if 0 ≤ tA σ 189 u then tA σ 166 (ix (tA σ 189 u)) else 0) else -(if 0 ≤ tA σ 189 u then tA σ 166 (ix (tA σ 189 u)) else 0), σ) := by
  obtain ⟨⟨h1, hv⟩, ⟨w, w1, w2, w3⟩, hu, h5, h6⟩ := h
  have iv : inb (nI v) 96 := inb_nI' hv (by decide)
  have iw : inb (nI w) 96 := inb_nI' w1 (by decide)
  unfold F_derOf
  rw [ifT iv, nm_eq, ix_nI (by omega), w2, ifT iw, ix_nI (by omega), w3, ifT (nn0 (by omega)), ifT iw, ifT (inb_nI' (by omega) (by decide)), ix_nI (by omega)]
  unfold J_derOf_31
  rw [ix_nI (show v < 2147483648 by omega), h5]
  rcases hw with q | ⟨w, q1, q2⟩
  · rw [q, ifF (show ¬ (0 : Int32) ≤ -1 by decide), ifF (show ¬ (0 : Int32) ≤ -1 by decide), ifT iv, sgn2 h6]
    by_cases z : x = 1
    · rw [ifT z, ifT z]
    · rw [ifF z, ifF z]
  · rw [q2, ifT (nn0 (by omega)), ifT (nn0 (by omega)), ifT (inb_nI' (by omega) (by decide)), nm_eq, ifT iv, sgn2 h6]
    by_cases z : x = 1
    · rw [ifT z, ifT z]
    · rw [ifF z, ifF z]
theorem t_hLv (h0 : tI σ 0 = 0) (hn : n < 70000) (h : tA σ 121 n = 25) : gH (d + 1) (nI n) x2 σ = gF d (nI n) x2 σ := by
  have i7 : inb (nI n) 70000 := inb_nI' hn (by decide)
  have x7 : ix (nI n) = n := ix_nI (by omega)
  rw [gH_s]
  unfold B_holds
  rw [t_isBad0 h0, ob_some, ifT (rfl : (0 : Int32) = 0), ifT i7, x7, h]
  simp +decide only [↓reduceIte]
  rw [ob_id]
theorem t_hHeld (h0 : tI σ 0 = 0) (hn : n < 70000) (h : tA σ 121 n = 20) (hr : tA σ 162 n = nI u) (hu : u < 24) : gH (d + 1) (nI n) 1 σ = some (tA σ 163 u, σ) := by
  have i7 : inb (nI n) 70000 := inb_nI' hn (by decide)
  have x7 : ix (nI n) = n := ix_nI (by omega)
  rw [gH_s]
  unfold B_holds
  rw [t_isBad0 h0, ob_some, ifT (rfl : (0 : Int32) = 0), ifT i7, x7, ifT h, ifT rfl, ifT i7, hr, ifT (inb_nI' hu (by decide)), ix_nI (by omega)]
end RLEAF
