/-! Layer B: whether an element is right -/
set_option maxRecDepth 100000
theorem one_ne : ((1 : Int32) = 0) = False := by simp
section RIGHT
variable {C : PC} {M : CM} {σ : TS} {v c e fl : Nat} {x3 x4 x5 hm : Int32}
/-- what both know of an element -/
def RtX (M : CM) (σ : TS) (v c e fl : Nat) (x3 x5 hm : Int32) : Prop := mk M v = 11 ∧ mk M (mR M 411 90) = 10 ∧ ((mI M 1801 (mR M 411 90) = 0 ∧ tA σ 44 c = 0) ∨ (mI M 1801 (mR M 411 90) = 1 ∧ tA σ 44 c = 1)) ∧ ((mI M 2002 v = 12 ∧ ¬ x3 = 0) ∨ (¬ mI M 2002 v = 12 ∧ x3 = 0)) ∧ ((mR M 2007 v = 0 ∧ x5 = 0) ∨ (¬ mR M 2007 v = 0 ∧ ¬ x5 = 0)) ∧ ((hm = 0 ∧ tA σ 55 e = 0) ∨ (¬ hm = 0 ∧ ¬ tA σ 55 e = 0)) ∧ ((mI M 2004 v ≤ 0 ∧ ¬ 0 < tA σ 53 e) ∨ (¬ mI M 2004 v ≤ 0 ∧ 0 < tA σ 53 e)) ∧ (mI M 2001 v = nI (32 * fl) ∧ tA σ 52 e = nI fl ∧ fl < 64) ∧ c < 24 ∧ e < 481
theorem rt_147 (h : RtX M σ v c e fl x3 x5 hm) : ∃ r, (r = 0 ∨ r = 1) ∧ KJ_X2_isRight_147 v M = some (r, M) ∧ J_component_373 (nI c) (nI e) x3 x4 x5 σ = J_component_406 (nI c) (nI e) x4 (if r = 1 then 0 else 1) σ := by
  obtain ⟨h1, h2, h3, h4, h5, h6, h7, h8, h9, h10⟩ := h
  have hin : inb (nI c) 24 := inb_nI' h9 (by decide)
  have hix : ix (nI c) = c := ix_nI (by omega)
  unfold KJ_X2_isRight_147 J_component_373 K_X11_isReal J_component_392 J_component_401 J_component_405
  rw [ifT h2, ifT hin, hix]
  simp only [ifT h1]
  rcases h3 with ⟨a1, a2⟩ | ⟨a1, a2⟩
  · rw [ifT a1, ifF (show ¬ tA σ 44 c = 1 from by rw [a2]; decide)]
    rcases h5 with ⟨b1, b2⟩ | ⟨b1, b2⟩
    · rw [ifT b1, ifT b2]; exact ⟨1, Or.inr rfl, rfl, rfl⟩
    · rw [ifF b1, ifF b2]
      rcases h4 with ⟨c1, c2⟩ | ⟨c1, c2⟩
      · rw [ifT c1, ob_some, ifF (by decide), ifF c2]; exact ⟨1, Or.inr rfl, rfl, rfl⟩
      · rw [ifF c1, ob_some, ifT rfl, ifT c2]; exact ⟨0, Or.inl rfl, rfl, rfl⟩
  · rw [ifF (show ¬ mI M 1801 (mR M 411 90) = 0 from by rw [a1]; decide), ifT a2]
    rcases h4 with ⟨c1, c2⟩ | ⟨c1, c2⟩
    · rw [ifT c1, ob_some, ifF (by decide), ifF c2]
      rcases h5 with ⟨b1, b2⟩ | ⟨b1, b2⟩
      · rw [ifT b1, ifT b1, ifT b2, ifT b2, ifT h1, ifT h1]; exact ⟨1, Or.inr rfl, rfl, rfl⟩
      · rw [ifF b1, ifF b2, ifT h1]; exact ⟨0, Or.inl rfl, rfl, rfl⟩
    · rw [ifF c1, ob_some, ifT rfl, ifT c2]; exact ⟨0, Or.inl rfl, rfl, rfl⟩
theorem rt_is (h : RtX M σ v c e fl x3 x5 hm) {j : Nat} (hj : j < 6) {w : Int32} (hw : w = nI (j + 5)) : (K_X11_is v w M = some (0, M) ∧ nI fl &&& nI (2 ^ j) = 0) ∨ (K_X11_is v w M = some (1, M) ∧ ¬ nI fl &&& nI (2 ^ j) = 0) := by
  obtain ⟨h1, -, -, -, -, -, -, ⟨h8, h8', h8''⟩, -⟩ := h
  obtain ⟨p1, p2⟩ := pf_bits fl h8'' j hj
  unfold K_X11_is
  rw [ifT h1, h8, hw]
  by_cases z : nI fl &&& nI (2 ^ j) = 0
  · left; exact ⟨ifF (fun q => (p1.mp q) z), z⟩
  · right; exact ⟨ifT (p1.mpr z), z⟩
theorem rt_118 (h : RtX M σ v c e fl x3 x5 hm) : ∃ r, (r = 0 ∨ r = 1) ∧ KJ_X2_isRight_118 v hm M = some (r, M) ∧ J_component_335 (nI c) (nI e) x3 x4 x5 (nI fl) 0 σ = J_component_406 (nI c) (nI e) x4 (if r = 1 then 0 else 1) σ := by
  have h147 := rt_147 (x4 := x4) h
  have h9 := rt_is h (j := 4) (by decide) (w := 9) rfl
  obtain ⟨h1, h2, h3, h4, h5, h6, h7, h8, h9', h10⟩ := h
  have hin : inb (nI e) 481 := inb_nI' h10 (by decide)
  have hix : ix (nI e) = e := ix_nI (by omega)
  unfold KJ_X2_isRight_118 J_component_335 J_component_401
  rw [ifT h1, ifT (rfl : (0 : Int32) = 0)]
  rcases h9 with ⟨a1, a2⟩ | ⟨a1, a2⟩
  · rw [a1, ob_some, ifT rfl, ifT (show nI fl &&& 16 = 0 from a2)]; exact h147
  · rw [a1, ob_some, ifF (by decide), ifF (show ¬ nI fl &&& 16 = 0 from a2), ifT hin, hix]
    rcases h6 with ⟨b1, b2⟩ | ⟨b1, b2⟩
    · rw [ifT b1, ifT b2, ifT h1]
      rcases h5 with ⟨c1, c2⟩ | ⟨c1, c2⟩
      · rw [ifT c1, ifT c2, ifT h1, ifT hin]
        rcases h7 with ⟨d1, d2⟩ | ⟨d1, d2⟩
        · rw [ifT d1, ifF d2]; exact h147
        · rw [ifF d1, ifT d2]; exact ⟨0, Or.inl rfl, rfl, rfl⟩
      · rw [ifF c1, ifF c2]; exact ⟨0, Or.inl rfl, rfl, rfl⟩
    · rw [ifF b1, ifF b2]; exact ⟨0, Or.inl rfl, rfl, rfl⟩
theorem rt_98 (h : RtX M σ v c e fl x3 x5 hm) : ∃ r, (r = 0 ∨ r = 1) ∧ KJ_X2_isRight_98 v hm M = some (r, M) ∧ J_component_314 (nI c) (nI e) x3 x4 x5 (nI fl) σ = J_component_406 (nI c) (nI e) x4 (if r = 1 then 0 else 1) σ ∧ (r = 1 → nI fl &&& 8 = 0 ∨ nI fl &&& 16 = 0) := by
  have h118 := rt_118 (x4 := x4) h
  have h8 := rt_is h (j := 3) (by decide) (w := 8) rfl
  have h9 := rt_is h (j := 4) (by decide) (w := 9) rfl
  have h1 := h.1
  unfold KJ_X2_isRight_98 J_component_314 J_component_334 J_component_330
  rw [ifT h1]
  rcases h8 with ⟨a1, a2⟩ | ⟨a1, a2⟩
  · rw [a1, ob_some, ifT rfl, ifT (show nI fl &&& 8 = 0 from a2)]; obtain ⟨r, p1, p2, p3⟩ := h118; exact ⟨r, p1, p2, p3, fun _ => Or.inl a2⟩
  · rw [a1, ob_some, ifF (by decide), ifF (show ¬ nI fl &&& 8 = 0 from a2), ifT h1]
    rcases h9 with ⟨b1, b2⟩ | ⟨b1, b2⟩
    · rw [b1, ob_some, ifT rfl, ifT (show nI fl &&& 16 = 0 from b2)]; obtain ⟨r, p1, p2, p3⟩ := h118; exact ⟨r, p1, p2, p3, fun _ => Or.inr b2⟩
    · rw [b1, ob_some, ifF (by decide), ifF (show ¬ nI fl &&& 16 = 0 from b2)]
      exact ⟨0, Or.inl rfl, rfl, by unfold J_component_335 J_component_401; rw [ifF (by decide)]; rfl, fun z => absurd z (by decide)⟩
theorem rt_82 (h : RtX M σ v c e fl x3 x5 hm) : ∃ r, (r = 0 ∨ r = 1) ∧ KJ_X2_isRight_82 v hm M = some (r, M) ∧ J_component_302 (nI c) (nI e) x3 x4 x5 (nI fl) σ = J_component_406 (nI c) (nI e) x4 (if r = 1 then 0 else 1) σ ∧ (r = 1 → nI fl &&& 8 = 0 ∨ nI fl &&& 16 = 0) := by
  have h98 := rt_98 (x4 := x4) h
  have h10 := rt_is h (j := 5) (by decide) (w := 10) rfl
  have h1 := h.1
  have h4 := h.2.2.2.1
  unfold KJ_X2_isRight_82 J_component_302 J_component_330 K_X11_isReal
  rw [ifT h1]
  rcases h10 with ⟨a1, a2⟩ | ⟨a1, a2⟩
  · rw [a1, ob_some, ifT rfl, ifT (show nI fl &&& 32 = 0 from a2)]; exact h98
  · rw [a1, ob_some, ifF (by decide), ifF (show ¬ nI fl &&& 32 = 0 from a2), ifT h1, ifT h1]
    rcases h4 with ⟨c1, c2⟩ | ⟨c1, c2⟩
    · rw [ifT c1, ob_some, ifF (by decide), ifF c2]
      exact ⟨0, Or.inl rfl, rfl, by unfold J_component_335 J_component_401; rw [ifF (by decide)]; rfl, fun z => absurd z (by decide)⟩
    · rw [ifF c1, ob_some, ifT rfl, ifT c2]; exact h98
theorem rt_61 (h : RtX M σ v c e fl x3 x5 hm) : ∃ r, (r = 0 ∨ r = 1) ∧ KJ_X2_isRight_61 v hm M = some (r, M) ∧ J_component_286 (nI c) (nI e) x3 x4 x5 (nI fl) σ = J_component_406 (nI c) (nI e) x4 (if r = 1 then 0 else 1) σ ∧ (r = 1 → nI fl &&& 8 = 0 ∨ nI fl &&& 16 = 0) := by
  have h82 := rt_82 (x4 := x4) h
  have h6 := rt_is h (j := 1) (by decide) (w := 6) rfl
  obtain ⟨h1, h2, h3, h4, h5, -, h7, h8, h9, h10⟩ := h
  have hin : inb (nI c) 24 := inb_nI' h9 (by decide)
  have hix : ix (nI c) = c := ix_nI (by omega)
  unfold KJ_X2_isRight_61 J_component_286 J_component_330
  rw [ifT h1]
  rcases h6 with ⟨a1, a2⟩ | ⟨a1, a2⟩
  · rw [a1, ob_some, ifT rfl, ifT (show nI fl &&& 2 = 0 from a2)]; exact h82
  · rw [a1, ob_some, ifF (by decide), ifF (show ¬ nI fl &&& 2 = 0 from a2), ifT h2, ifT hin, hix]
    rcases h3 with ⟨b1, b2⟩ | ⟨b1, b2⟩
    · rw [ifT b1, ifT b2]
      exact ⟨0, Or.inl rfl, rfl, by unfold J_component_335 J_component_401; rw [ifF (by decide)]; rfl, fun z => absurd z (by decide)⟩
    · rw [ifF (show ¬ mI M 1801 (mR M 411 90) = 0 from by rw [b1]; decide), ifF (show ¬ tA σ 44 c = 0 from by rw [b2]; decide)]; exact h82
def bcX (x0 : Int32) : Int32 := nm (x0 - ((((x0).toUInt32 >>> (((1 : Int32)).toUInt32 &&& Int32.toUInt32 31)).toInt32) &&& 1431655765)) fun v1 => nm ((v1 &&& 858993459) + ((((v1).toUInt32 >>> (((2 : Int32)).toUInt32 &&& Int32.toUInt32 31)).toInt32) &&& 858993459)) fun v2 => nm ((v2 + (((v2).toUInt32 >>> (((4 : Int32)).toUInt32 &&& Int32.toUInt32 31)).toInt32)) &&& 252645135) fun v3 => nm (v3 + (((v3).toUInt32 >>> (((8 : Int32)).toUInt32 &&& Int32.toUInt32 31)).toInt32)) fun v4 => nm (v4 + (((v4).toUInt32 >>> (((16 : Int32)).toUInt32 &&& Int32.toUInt32 31)).toInt32)) fun v5 => v5 &&& 63
theorem bc_eq (x : Int32) (σ : TS) : F_bitCount x σ = some (bcX x, σ) := rfl
theorem bc_val : ∀ fl, fl < 64 → bcX (nI fl &&& 7) = ((if nI fl &&& nI (2 ^ 0) = 0 then 0 else 1) + (if nI fl &&& nI (2 ^ 2) = 0 then 0 else 1)) + (if nI fl &&& nI (2 ^ 1) = 0 then 0 else 1) := by decide +kernel
theorem rt_all (h : RtX M σ v c e fl x3 x5 hm) : ∃ r, (r = 0 ∨ r = 1) ∧ K_X2_isRight v hm M = some (r, M) ∧ (ob (F_bitCount (nI fl &&& 7) σ) fun r81 s80 => if 1 < r81 then J_component_330 (nI c) (nI e) x3 x4 x5 (nI fl) s80 else if r81 ≤ 0 then J_component_286 (nI c) (nI e) x3 x4 x5 (nI fl) s80 else if x3 = 0 then J_component_330 (nI c) (nI e) x3 x4 x5 (nI fl) s80 else J_component_286 (nI c) (nI e) x3 x4 x5 (nI fl) s80) = J_component_406 (nI c) (nI e) x4 (if r = 1 then 0 else 1) σ ∧ (r = 1 → nI fl &&& 8 = 0 ∨ nI fl &&& 16 = 0) := by
  have h61 := rt_61 (x4 := x4) h
  have h5 := rt_is h (j := 0) (by decide) (w := 5) rfl
  have h7 := rt_is h (j := 2) (by decide) (w := 7) rfl
  have h6 := rt_is h (j := 1) (by decide) (w := 6) rfl
  have h1 := h.1
  have h4 := h.2.2.2.1
  have hfl := h.2.2.2.2.2.2.2.1.2.2
  have no : J_component_330 (nI c) (nI e) x3 x4 x5 (nI fl) σ = J_component_406 (nI c) (nI e) x4 (if (0 : Int32) = 1 then 0 else 1) σ := by
    unfold J_component_330 J_component_335 J_component_401
    rw [ifF (by decide)]; rfl
  -- by the number of sorts
  have fin : ∀ y0 y1 : Int32, (y0 + y1 = 0 ∨ y0 + y1 = 1 ∨ y0 + y1 = 2 ∨ y0 + y1 = 3) → ∃ r, (r = 0 ∨ r = 1) ∧ KJ_X2_isRight_42 v hm y0 y1 M = some (r, M) ∧ (if 1 < y0 + y1 then J_component_330 (nI c) (nI e) x3 x4 x5 (nI fl) σ else if y0 + y1 ≤ 0 then J_component_286 (nI c) (nI e) x3 x4 x5 (nI fl) σ else if x3 = 0 then J_component_330 (nI c) (nI e) x3 x4 x5 (nI fl) σ else J_component_286 (nI c) (nI e) x3 x4 x5 (nI fl) σ) = J_component_406 (nI c) (nI e) x4 (if r = 1 then 0 else 1) σ ∧ (r = 1 → nI fl &&& 8 = 0 ∨ nI fl &&& 16 = 0) := by
    intro y0 y1 hy
    unfold KJ_X2_isRight_42 K_X11_isReal
    rw [nm_eq]
    rcases hy with z | z | z | z
    · rw [z, ifF (by decide), ifF (by decide), ifF (by decide), ifT (by decide)]; exact h61
    · rw [z, ifF (show ¬ (1 : Int32) < 1 from by decide), ifT (rfl : (1 : Int32) = 1), ifT h1, ifT h1, ifF (show ¬ (1 : Int32) < 1 from by decide), ifF (show ¬ (1 : Int32) ≤ 0 from by decide)]
      rcases h4 with ⟨c1, c2⟩ | ⟨c1, c2⟩
      · rw [ifT c1, ob_some, ifF (by decide), ifF c2]; exact h61
      · rw [ifF c1, ob_some, ifT rfl, ifT c2]; exact ⟨0, Or.inl rfl, rfl, no, fun z => absurd z (by decide)⟩
    · rw [z, ifT (by decide), ifT (by decide)]; exact ⟨0, Or.inl rfl, rfl, no, fun z => absurd z (by decide)⟩
    · rw [z, ifT (by decide), ifT (by decide)]; exact ⟨0, Or.inl rfl, rfl, no, fun z => absurd z (by decide)⟩
  rw [bc_eq, ob_some, bc_val fl hfl]
  unfold K_X2_isRight KJ_X2_isRight_13 KJ_X2_isRight_27
  rw [ifT h1]
  rcases h5 with ⟨a1, a2⟩ | ⟨a1, a2⟩ <;> rcases h7 with ⟨b1, b2⟩ | ⟨b1, b2⟩ <;> rcases h6 with ⟨d1, d2⟩ | ⟨d1, d2⟩ <;> simp only [a1, b1, d1, a2, b2, d2, ob_some, if_true, if_false, ifT h1, not_false_eq_true, one_ne] <;> exact fin _ _ (by decide)
end RIGHT
