/-! Layer B: the flat model: what redeclares an element, in the twin -/
set_option maxRecDepth 100000
section CLASSFOR
variable {σ σ' σ0 σ2 : TS} {B l k n o m u w E E' i k0 fr e cb : Nat} {S S' : List Nat} {a : Nat × Nat × Nat} {W W1 W2 : List (Nat × Nat × Nat)} {x : Int64} {x1 x2 x3 x5 x6 x7 x8 x9 x10 : Int32} {x4 : Int64} {ks : List (Nat × Nat)}
theorem rdk_cat : ∀ (W1 : List (Nat × Nat × Nat)), (∀ a, a ∈ W1 → 1 ≤ a.1) → rdk σ x (W1 ++ W2) = if rdk σ x W1 = 0 then rdk σ x W2 else rdk σ x W1
  | [], _ => by rw [ifT (show rdk σ x [] = 0 from rfl)]; rfl
  | a :: W, h => by
    have h1 := h a List.mem_cons_self
    by_cases q : ldB σ x a = true ∧ tA σ 62 a.1 ≠ 0
    · have e1 : rdk σ x (a :: W ++ W2) = a.1 := ifT q
      have e2 : rdk σ x (a :: W) = a.1 := ifT q
      rw [e1, e2, ifF (by omega)]
    · have e1 : rdk σ x (a :: W ++ W2) = rdk σ x (W ++ W2) := ifF q
      have e2 : rdk σ x (a :: W) = rdk σ x W := ifF q
      rw [e1, e2, rdk_cat W (fun b hb => h b (List.mem_cons_of_mem _ hb))]
theorem rdk_ms : ∀ a, a ∈ msE k0 n i → k0 ≤ a.1 := fun a ha => by
  unfold msE at ha
  obtain ⟨j, _, h⟩ := List.mem_map.mp ha
  rw [← h]; exact Nat.le_add_right _ _
/-- a redeclaration's entry leads to a name if it's the redeclaration's -/
theorem ldB_re (h : tA σ 62 a.1 ≠ 0) : (ldB σ x a = true ∧ tA σ 62 a.1 ≠ 0) ↔ tB σ 63 a.1 = x := by
  constructor
  · intro z
    rcases ldB_iff.mp z.1 with ⟨_, y⟩ | ⟨y, _⟩
    · exact y
    · exact absurd y h
  · intro z
    exact ⟨ldB_iff.mpr (Or.inl ⟨h, z⟩), h⟩
/-- the environment's redeclaration -/
theorem t_cf19 (hi : i < 200) (hv : tA σ 78 i = nI fr ∧ tA σ 79 i = nI n) (he : e < 481) (hx : tB σ 50 e = x) (h4 : fr + n ≤ 40000) : ∀ (W : List (Nat × Nat × Nat)) (j f : Nat), j + W.length = n → W.length + 1 < f → EsR σ (fr + j) W → (∀ a, a ∈ W → EnB σ a ∧ 1 ≤ a.1) → L_classFor_19 f (nI e) (nI i) x4 0 (nI (fr + j)) σ = some (nI (rdk σ x W), σ)
  | [], j, f, hj, hf, _, _ => by
    obtain ⟨f, rfl⟩ : ∃ g, f = g + 1 := ⟨f - 1, by omega⟩
    have hj : j = n := hj
    rw [L_classFor_19, ifT (inb_nI' hi (by decide)), ifT (inb_nI' hi (by decide)), ix_nI (by omega), hv.1, hv.2, bI_add, ifT ((bI_le (by omega) (by omega)).mpr (by omega))]
    rfl
  | a :: W, j, f, hj, hf, hE, hB => by
    obtain ⟨f, rfl⟩ : ∃ g, f = g + 1 := ⟨f - 1, by omega⟩
    have hlen : (a :: W).length = W.length + 1 := rfl
    rw [hlen] at hj hf
    obtain ⟨e1, e2, e3⟩ : EvR σ (fr + j) a := by have := hE 0 (by rw [hlen]; omega); exact this
    obtain ⟨⟨b1, b2, b3⟩, b4⟩ := hB a List.mem_cons_self
    have hin : inb (nI (fr + j)) 40000 := inb_nI' (by omega) (by decide)
    have hix : ix (nI (fr + j)) = fr + j := ix_nI (by omega)
    have next := t_cf19 hi hv he hx h4 W (j + 1) f (by omega) (by omega) (fun c hc => by
      have := hE (c + 1) (by rw [hlen]; omega)
      rw [show fr + j + (c + 1) = fr + (j + 1) + c by omega] at this
      exact this) (fun a ha => hB a (List.mem_cons_of_mem _ ha))
    have hstop : ∀ (g : Nat) (y : Int32), 0 < g → ¬ y = 0 → L_classFor_19 g (nI e) (nI i) x4 y (nI (fr + j + 1)) σ = some (y, σ) := fun g y hg hy => by
      obtain ⟨g, rfl⟩ : ∃ d, g = d + 1 := ⟨g - 1, by omega⟩
      rw [L_classFor_19, ifT (inb_nI' hi (by decide)), ifT (inb_nI' hi (by decide)), ix_nI (by omega), hv.1, hv.2, bI_add]
      by_cases q : nI (fr + n) ≤ nI (fr + j + 1)
      · rw [ifT q]
      · rw [ifF q, ifF hy]
    rw [L_classFor_19, ifT (inb_nI' hi (by decide)), ifT (inb_nI' hi (by decide)), ix_nI (by omega), hv.1, hv.2, bI_add, ifF (fun z => by have := (bI_le (by omega) (by omega)).mp z; omega), ifT (rfl : (0 : Int32) = 0), ifT hin, hix, e3, nI_addL, nm_eq]
    by_cases r62 : tA σ 62 a.1 = 0
    · obtain ⟨q, q1, q2⟩ := b3 r62
      rw [ifT r62, q2, ifT (show (0 : Int32) ≤ nI q from by rw [show (0 : Int32) = nI 0 from rfl, bI_le (by decide) (by omega)]; omega)]
      rw [show rdk σ x (a :: W) = rdk σ x W from ifF (fun z => z.2 r62)]
      exact next
    · rw [ifF r62, ifF (show ¬ (0 : Int32) ≤ -1 by decide), ifT hin, e1, ifT (inb_nI' (by omega) (by decide)), ifT (inb_nI' he (by decide)), ix_nI (by omega), ix_nI (by omega), hx]
      by_cases q : tB σ 63 a.1 = x
      · rw [ifT (lg_eq.mpr q), ifT hin, nm_eq, nm_eq]
        rw [show rdk σ x (a :: W) = a.1 from ifT ((ldB_re r62).mpr q)]
        exact hstop f _ (by omega) (by rw [show (0 : Int32) = nI 0 from rfl, bI_eq (by omega) (by decide)]; omega)
      · rw [ifF (fun z => q (lg_eq.mp z))]
        rw [show rdk σ x (a :: W) = rdk σ x W from ifF (fun z => q ((ldB_re r62).mp z))]
        exact next
/-- the redeclaration of one extends -/
theorem t_cf118 (hM : MlR σ k0 n) (he : e < 481) (hx : tB σ 50 e = x) : ∀ (d t f : Nat), t + d = n → d + 1 < f → L_classFor_118 f (nI e) x4 0 x7 (ptr k0 n t) σ = some (nI (rdk σ x (msE (k0 + t) d i)), σ) := by
  intro d
  induction d with
  | zero =>
    intro t f hd hf
    obtain ⟨f, rfl⟩ : ∃ g, f = g + 1 := ⟨f - 1, by omega⟩
    rw [L_classFor_118, ifT (show ptr k0 n t = 0 from ifF (by omega))]
    rfl
  | succ d ih =>
    intro t f hd hf
    obtain ⟨f, rfl⟩ : ∃ g, f = g + 1 := ⟨f - 1, by omega⟩
    have hk := hM.1
    obtain ⟨pe, n0, hin, hix⟩ := ptr_ne (k := t) (n := n) (k0 := k0) (by omega) hM.1
    have m1' := ptr_next hM (k := t) (by omega)
    have next := ih (t + 1) f (by omega) (by omega)
    rw [L_classFor_118, ifF n0, ifT (rfl : (0 : Int32) = 0), ifT hin, hix, m1', nm_eq, msE_succ]
    by_cases r62 : tA σ 62 (k0 + t) = 0
    · rw [ifT r62, ifT hin]
      rw [show rdk σ x ((k0 + t, 0, i) :: msE (k0 + t + 1) d i) = rdk σ x (msE (k0 + t + 1) d i) from ifF (fun z => z.2 r62)]
      exact next
    · rw [ifF r62, ifT hin, ifT (inb_nI' he (by decide)), ix_nI (by omega), hx]
      by_cases q : tB σ 63 (k0 + t) = x
      · rw [ifT (lg_eq.mpr q), ifT hin, nm_eq]
        rw [show rdk σ x ((k0 + t, 0, i) :: msE (k0 + t + 1) d i) = k0 + t from ifT ((ldB_re (a := (k0 + t, 0, i)) r62).mpr q), ← pe]
        obtain ⟨f, rfl⟩ : ∃ g, f = g + 1 := ⟨f - 1, by omega⟩
        rw [L_classFor_118]
        by_cases z : ptr k0 n (t + 1) = 0
        · rw [ifT z]
        · rw [ifF z, ifF n0]
      · rw [ifF (fun z => q (lg_eq.mp z)), ifT hin]
        rw [show rdk σ x ((k0 + t, 0, i) :: msE (k0 + t + 1) d i) = rdk σ x (msE (k0 + t + 1) d i) from ifF (fun z => q ((ldB_re (a := (k0 + t, 0, i)) r62).mp z))]
        exact next
/-- the chain's redeclaration -/
theorem t_cf95 (he : e < 481) (hx : tB σ 50 e = x) : ∀ (ks : List (Nat × Nat)) (c f : Nat), tI σ 114 = nI (c + ks.length) → c + ks.length ≤ 200 → (∀ j, j < ks.length → tA σ 112 (c + j) = ptr (ks.getD j (0, 0)).1 (ks.getD j (0, 0)).2 0 ∧ MlR σ (ks.getD j (0, 0)).1 (ks.getD j (0, 0)).2) → ks.length + 1 < f → L_classFor_95 f (nI e) x4 0 (nI c) σ = some (nI (rdk σ x (wcE i ks)), σ)
  | [], c, f, h1, h2, h3, hf => by
    obtain ⟨f, rfl⟩ : ∃ g, f = g + 1 := ⟨f - 1, by omega⟩
    have h1 : tI σ 114 = nI c := h1
    rw [L_classFor_95, h1, ifT ((bI_le (by omega) (by omega)).mpr (Nat.le_refl _))]
    rfl
  | p :: ks, c, f, h1, h2, h3, hf => by
    obtain ⟨f, rfl⟩ : ∃ g, f = g + 1 := ⟨f - 1, by omega⟩
    have hlen : (p :: ks).length = ks.length + 1 := rfl
    rw [hlen] at h1 h2 hf
    obtain ⟨c1, c2⟩ := h3 0 (by rw [hlen]; omega)
    have c1 : tA σ 112 c = ptr p.1 p.2 0 := c1
    have c2 : MlR σ p.1 p.2 := c2
    have hk := c2.1
    have fu := FUb
    have g1 := t_cf118 (i := i) (x4 := x4) (x7 := nI c) c2 he hx p.2 0 FU (by omega) (by omega)
    rw [Nat.add_zero] at g1
    have next := t_cf95 he hx ks (c + 1) f (by rw [h1]; congr 1; omega) (by omega) (fun j hj => by
      have := h3 (j + 1) (by rw [hlen]; omega)
      rw [show c + (j + 1) = c + 1 + j by omega] at this
      exact this) (by omega)
    rw [L_classFor_95, h1, ifF (fun z => by have := (bI_le (by omega) (by omega)).mp z; omega), ifT (rfl : (0 : Int32) = 0), ifT (inb_nI' (by omega) (by decide)), ix_nI (by omega), c1, nm_eq, g1, ob_some, nI_addL, nm_eq]
    rw [show rdk σ x (wcE i (p :: ks)) = rdk σ x (msE p.1 p.2 i ++ wcE i ks) from rfl, rdk_cat _ (fun a ha => by have := rdk_ms a ha; omega)]
    by_cases z : rdk σ x (msE p.1 p.2 i) = 0
    · rw [z, ifT rfl]; exact next
    · rw [ifF z]
      have hb : rdk σ x (msE p.1 p.2 i) < 2147483648 := by
        have : ∀ (W : List (Nat × Nat × Nat)), (∀ a, a ∈ W → a.1 < 2147483648) → rdk σ x W < 2147483648 := fun W => by
          induction W with
          | nil => intro _; exact (by decide : (0 : Nat) < 2147483648)
          | cons a W ih =>
            intro h
            show (if ldB σ x a = true ∧ tA σ 62 a.1 ≠ 0 then a.1 else rdk σ x W) < _
            by_cases q : ldB σ x a = true ∧ tA σ 62 a.1 ≠ 0
            · rw [ifT q]; exact h a List.mem_cons_self
            · rw [ifF q]; exact ih (fun b hb => h b (List.mem_cons_of_mem _ hb))
        refine this _ (fun a ha => ?_)
        unfold msE at ha
        obtain ⟨j, hj, h⟩ := List.mem_map.mp ha
        rw [List.mem_range] at hj
        rw [← h]; show p.1 + j < _; omega
      obtain ⟨f, rfl⟩ : ∃ g, f = g + 1 := ⟨f - 1, by omega⟩
      rw [L_classFor_95]
      by_cases y : tI σ 114 ≤ nI (c + 1)
      · rw [ifT y]
      · rw [ifF y, ifF (show ¬ nI (rdk σ x (msE p.1 p.2 i)) = 0 from by rw [show (0 : Int32) = nI 0 from rfl, bI_eq (by omega) (by decide)]; exact z)]
end CLASSFOR
