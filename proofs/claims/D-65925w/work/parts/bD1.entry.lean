/-! Layer B: the flat model: modifications that count, on both sides -/
set_option maxRecDepth 100000
/-- the twin's part behind u names of modification k -/
def pth (σ : TS) (k : Nat) : Nat → Int32
  | 0 => tA σ 59 k
  | u + 1 => tA σ 33 (ix (pth σ k u))
/-- it leads to a name: modification k, u names used, instance i -/
def Ld (σ : TS) (a : Nat × Nat × Nat) (x : Int64) : Prop := (tA σ 62 a.1 ≠ 0 ∧ tB σ 63 a.1 = x) ∨ (tA σ 62 a.1 = 0 ∧ 0 < pth σ a.1 a.2.1 ∧ tB σ 29 (ix (pth σ a.1 a.2.1)) = x)
/-- what an entry may be -/
def EnOK (C : PC) (P : Nat → Prop) (M : CM) (σ : TS) (I m : Nat) (a : Nat × Nat × Nat) : Prop := MdR C P M σ m a.1 ∧ (1 ≤ a.1 ∧ a.1 < tM σ) ∧ a.2.2 < I ∧ (tA σ 62 a.1 ≠ 0 → a.2.1 = 0) ∧ ∃ xs, Ls M (mR M 2200 m) xs ∧ a.2.1 ≤ xs.length
/-- row r of the component is entry a -/
def RoR (C : PC) (P : Nat → Prop) (D : FQ) (M : CM) (σ : TS) (I r : Nat) (a : Nat × Nat × Nat) : Prop := ∃ m, (mR M 2800 ((pl D 101).getD r 0) = m ∧ mI M 2801 ((pl D 101).getD r 0) = nI a.2.1 ∧ mR M 2802 ((pl D 101).getD r 0) = (pl D 99).getD a.2.2 0) ∧ EnOK C P M σ I m a
/-- entry j of the twin is a -/
def EvR (σ : TS) (j : Nat) (a : Nat × Nat × Nat) : Prop := tA σ 90 j = nI a.1 ∧ tA σ 92 j = nI a.2.2 ∧ tA σ 91 j = if tA σ 62 a.1 = 0 then pth σ a.1 a.2.1 else -1
section ENTRY
variable {C C' : PC} {D D' : FQ} {M M' M2 : CM} {σ σ' : TS} {mss fss xs bs qs : List Nat} {B l k n o m u w Q r I : Nat} {P X T : Nat → Prop} {S S' : List Nat} {a : Nat × Nat × Nat} {st : Int32}
theorem pth_qs (h : PaC (tQ σ) (cm C) M σ st bs qs) (hQ : tQ σ ≤ 7000) (h0 : tA σ 59 k = nI (qs.getD 0 0)) : ∀ u, u ≤ qs.length → pth σ k u = nI (qs.getD u 0)
  | 0, _ => h0
  | u + 1, hu => by
    obtain ⟨a1, a2, _⟩ := h.2.2 u (by omega)
    show tA σ 33 (ix (pth σ k u)) = _
    rw [pth_qs h hQ h0 u (by omega), ix_nI (by omega)]
    exact a2
theorem getD_len0 {l : List Nat} {n : Nat} (h : l.length ≤ n) : l.getD n 0 = 0 := by
  rw [List.getD_eq_getElem?_getD, List.getElem?_eq_none h]; rfl
/-- what is left of its names, both sides -/
theorem k_leads {L : Nat} (R : RoR C P D M σ I r a) (hr : mk M ((pl D 101).getD r 0) = 15) (W : WN M (cm C) L) (h1280 : cm C ≤ 1280) (hQ : tQ σ ≤ 7000) (hw : 38 ≤ w ∧ w < 38 + cm C) : (K_X15_leadsTo ((pl D 101).getD r 0) (nI w) M = some (1, M) ∧ Ld σ a (wc M w) ∧ ∀ xs, Ls M (mR M 2200 (mR M 2800 ((pl D 101).getD r 0))) xs → a.2.1 < xs.length) ∨ (K_X15_leadsTo ((pl D 101).getD r 0) (nI w) M = some (0, M) ∧ ¬ Ld σ a (wc M w)) := by
  obtain ⟨m, ⟨e1, e2, e3⟩, ⟨⟨p1, km⟩, hm⟩, hk, hi, hu0, xs, L1, hu⟩ := R
  generalize hro : (pl D 101).getD r 0 = ro at *
  have hlen := L1.2.2.1
  have left : K_X15_left ro M = some (nI (xs.length - a.2.1), M) := by
    unfold K_X15_left
    rw [ifT hr, e1, ifT km, ifT L1.1, ls_size L1, ob_some, ifT hr, e2, nI_sub hu]
  have key : ∀ b w', a.2.1 < xs.length → xs.getD a.2.1 0 = b → BxR M (cm C) b w' → K_X15_leadsTo ro (nI w) M = some (if w' = w then 1 else 0, M) := fun b w' hlt hb hx => by
    obtain ⟨v1, v2, v3⟩ := hx.val
    unfold K_X15_leadsTo
    rw [ifT hr, left, ob_some, ifF (show ¬ nI (xs.length - a.2.1) ≤ 0 from by rw [show (0 : Int32) = nI 0 from rfl, bI_le (by omega) (by decide)]; omega), ifT hr, e1, ifT km, ifT hr, ifT L1.1, e2, ls_get L1 hlt, ob_some, hb, ifT v3, ifT v1, v2, ob_some]
    have hb2 := hx.2
    by_cases q : w' = w
    · rw [ifT q, ifT (by rw [q])]
    · rw [ifF q, ifF (fun z => q ((bI_eq (by omega) (by omega)).mp z))]
  have none : a.2.1 = xs.length → K_X15_leadsTo ro (nI w) M = some (0, M) := fun q => by
    unfold K_X15_leadsTo
    rw [ifT hr, left, ob_some, q, Nat.sub_self, ifT (show nI 0 ≤ 0 from by decide)]
  rcases hm with ⟨b1, b2, b, w1, w', b3, b4, b5, b6, b7, b8⟩ | ⟨b1, b2, bs, qs, e, d, b3, b4, b5, b6, b7, b8, b9⟩
  · have hx : xs = [b] := L1.uq b3.1
    have u0 := hu0 (by rw [b1]; decide)
    have hk := key b w1 (by rw [u0, hx]; exact Nat.zero_lt_one) (by rw [u0, hx]; rfl) b4
    by_cases q : w1 = w
    · left; rw [hk, ifT q]
      refine ⟨rfl, Or.inl ⟨by rw [b1]; decide, by rw [b5, q]⟩, fun ys y => ?_⟩
      rw [e1] at y
      rw [y.uq L1, u0, hx]; exact Nat.zero_lt_one
    · right; rw [hk, ifF q]
      refine ⟨rfl, fun z => ?_⟩
      rcases z with ⟨_, z⟩ | ⟨z, _⟩
      · rw [b5] at z; exact q ((wc_inj W (by have := b4.2; omega) hw.2).mp z)
      · rw [b1] at z; exact absurd z (by decide)
  · have hx : xs = bs := L1.uq b3.1
    subst hx
    have hqb : xs.length ≤ qs.length := by rcases b4.1 with ⟨_, q⟩ | ⟨_, q, _⟩ <;> omega
    have hp := pth_qs b4 hQ b6 a.2.1 (by omega)
    by_cases hlt : a.2.1 < xs.length
    · obtain ⟨w1, c1, c2⟩ := b4.2.1 _ hlt
      obtain ⟨⟨d1, d2⟩, _⟩ := b4.2.2 a.2.1 (by omega)
      have hk := key _ w1 hlt rfl c1
      by_cases q : w1 = w
      · left; rw [hk, ifT q]
        refine ⟨rfl, Or.inr ⟨b1, ?_, ?_⟩, fun ys y => by rw [e1] at y; rw [y.uq L1]; exact hlt⟩
        · rw [hp, show (0 : Int32) = nI 0 from rfl, bI_lt (by decide) (by omega)]; omega
        · rw [hp, ix_nI (by omega), c2, q]
      · right; rw [hk, ifF q]
        refine ⟨rfl, fun z => ?_⟩
        rcases z with ⟨z, _⟩ | ⟨_, _, z⟩
        · exact z b1
        · rw [hp, ix_nI (by omega), c2] at z
          exact q ((wc_inj W (by have := c1.2; omega) hw.2).mp z)
    · right
      have he : a.2.1 = xs.length := by omega
      refine ⟨none he, fun z => ?_⟩
      rcases z with ⟨z, _⟩ | ⟨_, z1, z⟩
      · exact z b1
      · rw [hp, he] at z1 z
        rcases b4.1 with ⟨_, q⟩ | ⟨_, q, q2⟩
        · rw [getD_len0 (by omega)] at z1
          exact absurd z1 (by decide)
        · obtain ⟨⟨d1, d2⟩, _⟩ := b4.2.2 xs.length (by omega)
          rw [ix_nI (by omega), q2] at z
          have := (wc_key W hw.2 (j := 37) (by decide)).mp z.symm
          omega
end ENTRY
