/-! Layer B: the flat model: value and start of a variable (the twin's entries) -/
set_option maxRecDepth 100000
/-- a fault of flat, noted -/
def badT (σ : TS) (r : Int32) : TS := tsI (tsI σ 0 r) 1 0
/-- entries of the twin, with what a variable asks of them -/
def EnC (σ : TS) (a : Nat × Nat × Nat) : Prop := (0 < pth σ a.1 a.2.1 → tB σ 29 (ix (pth σ a.1 a.2.1)) = kco 37 → tA σ 33 (ix (pth σ a.1 a.2.1)) = 0) ∧ tA σ 60 a.1 ≠ 0
section TSCAN
variable {C C' : PC} {D D' D2 : FQ} {M M' M2 : CM} {σ σ' σ0 σ2 : TS} {B l k n o m u w E E' I i k0 fr e cb v : Nat} {P : Nat → Prop} {S S' : List Nat} {a : Nat × Nat × Nat} {W W1 W2 : List (Nat × Nat × Nat)} {x : Int64} {x1 x2 x3 x4 x5 x6 x7 x8 x9 x10 : Int32}
theorem badT_ne {r : Int32} (h : r ≠ 0) : tI (badT σ r) 0 ≠ 0 := h
theorem k37 : kco 37 = 495873782388 := by decide
theorem lg37 {y : Int64} : lg_cmp y 495873782388 = 0 ↔ y = kco 37 := by rw [k37]; exact lg_eq
theorem badT_0 {r : Int32} : tI (badT σ r) 0 = r ∧ tI (badT σ r) 1 = 0 := ⟨rfl, rfl⟩
theorem badT_f {r : Int32} : Ft [0, 1] σ (badT σ r) := ((Ft.rf _ σ).p_tsI rfl).p_tsI rfl
theorem t_badT {r : Int32} (h : tI σ 0 = 0) : F_bad r 0 σ = some ((), badT σ r) := t_bad h r 0
theorem EnOK.enb (h : EnOK C P M σ I m a) (hI : I ≤ 200) (hM : tM σ ≤ 2400) (hQ : tQ σ ≤ 7000) (W : ∃ L, WN M (cm C) L) (h1280 : cm C ≤ 1280) : EnB σ a ∧ 1 ≤ a.1 ∧ (tA σ 62 a.1 = 0 → EnC σ a) ∧ (tA σ 62 a.1 = 0 ∨ tA σ 62 a.1 = 1) := by
  obtain ⟨L, WN⟩ := W
  obtain ⟨⟨p1, hm⟩, hk, hi, hu0, xs, L1, hu⟩ := h
  rcases hm with ⟨b1, b2, b, w1, w', b3, b4, b5, b6, b7, b8⟩ | ⟨b1, b2, bs, qs, e, d, b3, b4, b5, b6, b7, b8, b9⟩
  · exact ⟨⟨by omega, by omega, fun z => absurd z (by rw [b1]; decide)⟩, hk.1, fun z => absurd z (by rw [b1]; decide), Or.inr b1⟩
  · have hx : xs = bs := L1.uq b3.1
    subst hx
    have hqb : xs.length ≤ qs.length := by rcases b4.1 with ⟨_, q⟩ | ⟨_, q, _⟩ <;> omega
    have hp := pth_qs b4 hQ b6 a.2.1 (by omega)
    have hlt : qs.getD a.2.1 0 < 7000 := by
      by_cases q : a.2.1 < qs.length
      · have := (b4.2.2 a.2.1 q).1; omega
      · rw [getD_len0 (by omega)]; decide
    obtain ⟨po, pn⟩ := b9.pos
    refine ⟨⟨by omega, by omega, fun _ => ⟨_, hlt, hp⟩⟩, hk.1, fun _ => ⟨fun h0 h1 => ?_, ?_⟩, Or.inl b1⟩
    · rw [hp] at h0 h1 ⊢
      rw [ix_nI (by omega)] at h1 ⊢
      by_cases q : a.2.1 < xs.length
      · obtain ⟨w1, c1, c2⟩ := b4.2.1 _ q
        rw [c2] at h1
        have := (wc_key WN (by have := c1.2; omega) (j := 37) (by decide)).mp h1
        have := c1.2
        omega
      · by_cases q2 : a.2.1 < qs.length
        · have := (b4.2.2 a.2.1 q2).2.1
          rw [this, getD_len0 (by rcases b4.1 with ⟨_, z⟩ | ⟨_, z, _⟩ <;> omega)]
          rfl
        · rw [getD_len0 (by omega)] at h0
          exact absurd h0 (by decide)
    · rw [b7, show (0 : Int32) = nI 0 from rfl]
      exact fun z => by have := (bI_eq (by omega) (by decide)).mp z; omega
/-- entries that a variable can't have are a fault -/
theorem t_mv4 (h0 : tI σ 0 = 0) (hE : tI σ 93 = nI E) (hE4 : E ≤ 40000) : ∀ (W : List (Nat × Nat × Nat)) (j f : Nat), j + W.length = E → W.length + 1 < f → EsR σ j W → (∀ a, a ∈ W → EnB σ a ∧ tA σ 62 a.1 = 0 ∧ EnC σ a) → ((∃ a, a ∈ W ∧ vbad σ a) ∧ L_makeVariable_4 f x1 x2 x3 x4 (nI j) σ = some ((), badT σ 21)) ∨ ((∀ a, a ∈ W → ¬ vbad σ a) ∧ L_makeVariable_4 f x1 x2 x3 x4 (nI j) σ = some ((), σ))
  | [], j, f, hj, hf, _, _ => by
    obtain ⟨f, rfl⟩ : ∃ g, f = g + 1 := ⟨f - 1, by omega⟩
    have hj : j = E := hj
    refine Or.inr ⟨fun a ha => absurd ha List.not_mem_nil, ?_⟩
    rw [L_makeVariable_4, hE, ifT ((bI_le (by omega) (by omega)).mpr (by omega))]
  | a :: W, j, f, hj, hf, hs, hB => by
    obtain ⟨f, rfl⟩ : ∃ g, f = g + 1 := ⟨f - 1, by omega⟩
    have hlen : (a :: W).length = W.length + 1 := rfl
    rw [hlen] at hj hf
    obtain ⟨e1, e2, e3⟩ : EvR σ j a := by have := hs 0 (by rw [hlen]; omega); exact this
    obtain ⟨⟨b1, b2, b3⟩, r62, c1, c2⟩ := hB a List.mem_cons_self
    obtain ⟨q, q1, q2⟩ := b3 r62
    have hin : inb (nI j) 40000 := inb_nI' (by omega) (by decide)
    have qin : inb (nI q) 7000 := inb_nI' q1 (by decide)
    have qix : ix (nI q) = q := ix_nI (by omega)
    have next := t_mv4 h0 hE hE4 W (j + 1) f (by omega) (by omega) (fun c hc => by
      have := hs (c + 1) (by rw [hlen]; omega)
      rw [show j + (c + 1) = j + 1 + c by omega] at this
      exact this) (fun a ha => hB a (List.mem_cons_of_mem _ ha))
    have stop : ∀ g, 0 < g → L_makeVariable_4 g x1 x2 x3 x4 (nI (j + 1)) (badT σ 21) = some ((), badT σ 21) := fun g hg => by
      obtain ⟨g, rfl⟩ : ∃ d, g = d + 1 := ⟨g - 1, by omega⟩
      rw [L_makeVariable_4]
      by_cases z : tI (badT σ 21) 93 ≤ nI (j + 1)
      · rw [ifT z]
      · rw [ifF z, t_isBad1 (badT_ne (by decide)), ob_some, ifF (by decide)]
    have good : ¬ vbad σ a → (L_makeVariable_4 (f + 1) x1 x2 x3 x4 (nI j) σ = L_makeVariable_4 f x1 x2 x3 x4 (nI (j + 1)) σ) → ((∃ b, b ∈ a :: W ∧ vbad σ b) ∧ L_makeVariable_4 (f + 1) x1 x2 x3 x4 (nI j) σ = some ((), badT σ 21)) ∨ ((∀ b, b ∈ a :: W → ¬ vbad σ b) ∧ L_makeVariable_4 (f + 1) x1 x2 x3 x4 (nI j) σ = some ((), σ)) := fun nb he => by
      rw [he]
      rcases next with ⟨⟨b, g1, g2⟩, g3⟩ | ⟨g1, g2⟩
      · exact Or.inl ⟨⟨b, List.mem_cons_of_mem _ g1, g2⟩, g3⟩
      · refine Or.inr ⟨fun b hb => ?_, g2⟩
        rcases List.mem_cons.mp hb with g | g
        · rw [g]; exact nb
        · exact g1 b g
    have st : L_makeVariable_4 (f + 1) x1 x2 x3 x4 (nI j) σ = if nI q ≤ 0 then L_makeVariable_4 f x1 x2 x3 x4 (nI (j + 1)) σ else if lg_cmp (tB σ 29 q) 495873782388 = 0 then if tA σ 33 q = 0 then L_makeVariable_4 f x1 x2 x3 x4 (nI (j + 1)) σ else L_makeVariable_4 f x1 x2 x3 x4 (nI (j + 1)) (badT σ 21) else L_makeVariable_4 f x1 x2 x3 x4 (nI (j + 1)) (badT σ 21) := by
      rw [L_makeVariable_4, hE, ifF (fun z => by have := (bI_le (by omega) (by omega)).mp z; omega), t_isBad0 h0, ob_some, ifT (rfl : (0 : Int32) = 0), ifT hin, ix_nI (by omega), e3, ifT r62, q2, nI_addL, t_badT h0, qix]
      simp only [nm_eq, ob_some]
      by_cases z : nI q ≤ 0
      · rw [ifT z, ifT z]
      · rw [ifF z, ifF z, ifT hin, ifT qin]
        by_cases y : lg_cmp (tB σ 29 q) 495873782388 = 0
        · rw [ifT y, ifT y, ifT hin, ifT qin]
        · rw [ifF y, ifF y]
    by_cases q0 : q = 0
    · refine good (fun z => ?_) (by rw [st, ifT (show nI q ≤ 0 from by rw [q0]; decide)])
      rcases z with z | ⟨z, _⟩
      · exact z r62
      · rw [q2, q0] at z; exact absurd z (by decide)
    · have qpos : (0 : Int32) < nI q := by rw [show (0 : Int32) = nI 0 from rfl, bI_lt (by decide) (by omega)]; omega
      have nle : ¬ nI q ≤ 0 := Int32.not_le.mpr qpos
      rw [q2, qix] at c1
      by_cases h29 : tB σ 29 q = kco 37
      · refine good (fun z => ?_) (by rw [st, ifF nle, ifT (lg37.mpr h29), ifT (c1 qpos h29)])
        rcases z with z | ⟨_, z⟩
        · exact z r62
        · rw [q2, qix] at z; exact z h29
      · left
        refine ⟨⟨a, List.mem_cons_self, Or.inr ⟨by rw [q2]; exact qpos, by rw [q2, qix]; exact h29⟩⟩, ?_⟩
        rw [st, ifF nle, ifF (fun z => h29 (lg37.mp z))]
        exact stop f (by omega)
/-- so are an element's own -/
theorem t_mv85 (h0 : tI σ 0 = 0) (hM : MlR σ k0 n) : ∀ (d t f : Nat), t + d = n → d + 1 < f → ((∃ a, a ∈ msE (k0 + t) d i ∧ vbad σ a) ∧ L_makeVariable_85 f x1 x2 x3 x4 (ptr k0 n t) σ = some ((), badT σ 21)) ∨ ((∀ a, a ∈ msE (k0 + t) d i → ¬ vbad σ a) ∧ L_makeVariable_85 f x1 x2 x3 x4 (ptr k0 n t) σ = some ((), σ)) := by
  intro d
  induction d with
  | zero =>
    intro t f hd hf
    obtain ⟨f, rfl⟩ : ∃ g, f = g + 1 := ⟨f - 1, by omega⟩
    refine Or.inr ⟨fun a ha => absurd ha List.not_mem_nil, ?_⟩
    rw [L_makeVariable_85, ifT (show ptr k0 n t = 0 from ifF (by omega))]
  | succ d ih =>
    intro t f hd hf
    obtain ⟨f, rfl⟩ : ∃ g, f = g + 1 := ⟨f - 1, by omega⟩
    have hk := hM.1
    obtain ⟨pe, n0, hin, hix⟩ := ptr_ne (k := t) (n := n) (k0 := k0) (by omega) hM.1
    have m1' := ptr_next hM (k := t) (by omega)
    obtain ⟨_, m2, m3⟩ := hM.2 t (by omega)
    have next := ih (t + 1) f (by omega) (by omega)
    rw [← Nat.add_assoc] at next
    have stop : ∀ g, 0 < g → L_makeVariable_85 g x1 x2 x3 x4 (ptr k0 n (t + 1)) (badT σ 21) = some ((), badT σ 21) := fun g hg => by
      obtain ⟨g, rfl⟩ : ∃ d, g = d + 1 := ⟨g - 1, by omega⟩
      rw [L_makeVariable_85]
      by_cases z : ptr k0 n (t + 1) = 0
      · rw [ifT z]
      · rw [ifF z, t_isBad1 (badT_ne (by decide)), ob_some, ifF (by decide)]
    have b61 : tA (badT σ 21) 61 (k0 + t) = ptr k0 n (t + 1) := m1'
    rw [msE_succ]
    have good : ¬ vbad σ (k0 + t, 0, i) → (L_makeVariable_85 (f + 1) x1 x2 x3 x4 (ptr k0 n t) σ = L_makeVariable_85 f x1 x2 x3 x4 (ptr k0 n (t + 1)) σ) → ((∃ b, b ∈ (k0 + t, 0, i) :: msE (k0 + t + 1) d i ∧ vbad σ b) ∧ L_makeVariable_85 (f + 1) x1 x2 x3 x4 (ptr k0 n t) σ = some ((), badT σ 21)) ∨ ((∀ b, b ∈ (k0 + t, 0, i) :: msE (k0 + t + 1) d i → ¬ vbad σ b) ∧ L_makeVariable_85 (f + 1) x1 x2 x3 x4 (ptr k0 n t) σ = some ((), σ)) := fun nb he => by
      rw [he]
      rcases next with ⟨⟨b, g1, g2⟩, g3⟩ | ⟨g1, g2⟩
      · exact Or.inl ⟨⟨b, List.mem_cons_of_mem _ g1, g2⟩, g3⟩
      · refine Or.inr ⟨fun b hb => ?_, g2⟩
        rcases List.mem_cons.mp hb with g | g
        · rw [g]; exact nb
        · exact g1 b g
    have bad : vbad σ (k0 + t, 0, i) → (L_makeVariable_85 (f + 1) x1 x2 x3 x4 (ptr k0 n t) σ = L_makeVariable_85 f x1 x2 x3 x4 (ptr k0 n (t + 1)) (badT σ 21)) → ((∃ b, b ∈ (k0 + t, 0, i) :: msE (k0 + t + 1) d i ∧ vbad σ b) ∧ L_makeVariable_85 (f + 1) x1 x2 x3 x4 (ptr k0 n t) σ = some ((), badT σ 21)) ∨ ((∀ b, b ∈ (k0 + t, 0, i) :: msE (k0 + t + 1) d i → ¬ vbad σ b) ∧ L_makeVariable_85 (f + 1) x1 x2 x3 x4 (ptr k0 n t) σ = some ((), σ)) := fun nb he => by
      rw [he]
      exact Or.inl ⟨⟨_, List.mem_cons_self, nb⟩, stop f (by omega)⟩
    by_cases r62 : tA σ 62 (k0 + t) = 0
    · obtain ⟨q, q0, q1, q2⟩ := m2 r62
      have qin : inb (nI q) 7000 := inb_nI' q1 (by decide)
      have qix : ix (nI q) = q := ix_nI (by omega)
      have qpos : (0 : Int32) < nI q := by rw [show (0 : Int32) = nI 0 from rfl, bI_lt (by decide) (by omega)]; omega
      have st : L_makeVariable_85 (f + 1) x1 x2 x3 x4 (ptr k0 n t) σ = if lg_cmp (tB σ 29 q) 495873782388 = 0 then L_makeVariable_85 f x1 x2 x3 x4 (ptr k0 n (t + 1)) σ else L_makeVariable_85 f x1 x2 x3 x4 (ptr k0 n (t + 1)) (badT σ 21) := by
        rw [L_makeVariable_85, ifF n0, t_isBad0 h0, ob_some, ifT (rfl : (0 : Int32) = 0), ifT hin, hix, ifT r62, q2, t_badT h0, qix, m1']
        simp only [nm_eq, ob_some]
        rw [ifT hin, ifT qin]
        by_cases y : lg_cmp (tB σ 29 q) 495873782388 = 0
        · rw [ifT y, ifT y, ifT hin]
        · rw [ifF y, ifF y, ifT hin, b61]
      by_cases h29 : tB σ 29 q = kco 37
      · refine good (fun z => ?_) (by rw [st, ifT (lg37.mpr h29)])
        rcases z with z | ⟨_, z⟩
        · exact z r62
        · have z : tB σ 29 (ix (tA σ 59 (k0 + t))) ≠ kco 37 := z
          rw [q2, qix] at z; exact z h29
      · exact bad (Or.inr ⟨by show 0 < tA σ 59 (k0 + t); rw [q2]; exact qpos, by show tB σ 29 (ix (tA σ 59 (k0 + t))) ≠ kco 37; rw [q2, qix]; exact h29⟩) (by rw [st, ifF (fun z => h29 (lg37.mp z))])
    · refine bad (Or.inl r62) ?_
      rw [L_makeVariable_85, ifF n0, t_isBad0 h0, ob_some, ifT (rfl : (0 : Int32) = 0), ifT hin, hix, ifF r62, t_badT h0]
      simp only [nm_eq, ob_some]
      rw [ifT hin, b61]
end TSCAN
