/-! Layer B: the flat model: equations of all instances, both sides -/
set_option maxRecDepth 100000
theorem obS_nest {α β γ ρ ρ' τ : Type} (x : Option ((α ⊕ ρ) × τ)) (h1 : ρ → τ → Option ((β ⊕ ρ') × τ)) (k1 : α → τ → Option ((β ⊕ ρ') × τ)) (h2 : ρ' → τ → Option γ) (k2 : β → τ → Option γ) : obS (obS x h1 k1) h2 k2 = obS x (fun w M => obS (h1 w M) h2 k2) (fun r M => obS (k1 r M) h2 k2) := by
  cases x with
  | none => rfl
  | some p => obtain ⟨a | a, t⟩ := p <;> rfl
section ALL1
variable {zb zb' : Nat} {C : PC} {D D' D1 D2 : FQ} {M M' M1 M2 M3 M0 : CM} {σ σ' σ1 σ2 σ0 s1 s8 : TS} {mss fss : List Nat} {B V I Bm K N K' N' E A Wn E' A' A0 Wn' v l x0 dc md X N0 Lp Lp' w d s i nf R a f h1 h2 eq L : Nat} {os : List Nat} {P T Y : Nat → Prop} {x2 x3 x3' x4 x y r kd : Int32} {z7 : Nat → Nat} {S : List Nat}
variable {cfK : Nat → CM → Option ((Unit ⊕ Nat) × CM)} {cfT : Int32 → TS → Option (Unit × TS)}
theorem ChR.det : ∀ (r1 r2 : List Nat) (y : Int32), (∀ b, b ∈ r1 → b < 96001) → (∀ b, b ∈ r2 → b < 96001) → ChR σ r1 y → ChR σ r2 y → r1 = r2
  | [], [], _, _, _, _, _ => rfl
  | [], b :: r2, y, _, h2, a, c => by
    exfalso
    have a : y = -1 := a
    obtain ⟨c, -⟩ := c
    have hb := h2 b List.mem_cons_self
    rw [a] at c
    have := congrArg Int32.toInt c
    rw [bI_toInt (show b < 2147483648 by omega)] at this
    have e1 : Int32.toInt (-1) = -1 := by decide
    rw [e1] at this
    omega
  | b :: r1, [], y, h1, _, a, c => by
    exfalso
    have c : y = -1 := c
    obtain ⟨a, -⟩ := a
    have hb := h1 b List.mem_cons_self
    rw [c] at a
    have := congrArg Int32.toInt a
    rw [bI_toInt (show b < 2147483648 by omega)] at this
    have e1 : Int32.toInt (-1) = -1 := by decide
    rw [e1] at this
    omega
  | b :: r1, c :: r2, y, h1, h2, a, e => by
    obtain ⟨a1, a2⟩ := a
    obtain ⟨e1, e2⟩ := e
    have hb := h1 b List.mem_cons_self
    have hc := h2 c List.mem_cons_self
    rw [a1] at e1
    have := (bI_eq (by omega) (by omega)).mp e1
    subst this
    rw [ChR.det r1 r2 _ (fun b hb => h1 b (List.mem_cons_of_mem _ hb)) (fun b hb => h2 b (List.mem_cons_of_mem _ hb)) a2 e2]
theorem t_colB {n : Nat} {f : Nat} (h : tI σ 0 ≠ 0) (x : Int32) : L_collect_2 cfT (f + 1) (nI n) x σ = some ((), σ) := by
  unfold L_collect_2
  by_cases q : tI σ 82 ≤ x
  · rw [ifT q]
  · rw [ifF q, t_isBad1 h, ob_some, ifF (show ¬ (1 : Int32) = 0 by decide)]
/-- others are passed by -/
theorem t_colS {n : Nat} (h0 : tI σ 0 = 0) (h82 : tI σ 82 = nI I) (hI : I ≤ 200) : ∀ (d c f : Nat), c + d ≤ I → d ≤ f → (∀ q, c ≤ q → q < c + d → ¬ tA σ 75 q = nI n) → L_collect_2 cfT f (nI n) (nI c) σ = L_collect_2 cfT (f - d) (nI n) (nI (c + d)) σ := by
  intro d
  induction d with
  | zero => intro c f _ _ _; rfl
  | succ d ih =>
    intro c f hc hf hq
    obtain ⟨f, rfl⟩ : ∃ g, f = g + 1 := ⟨f - 1, by omega⟩
    rw [show f + 1 - (d + 1) = f - d by omega, show c + (d + 1) = (c + 1) + d by omega, ← ih (c + 1) f (by omega) (by omega) (fun q h1 h2 => hq q (by omega) (by omega))]
    conv => lhs; unfold L_collect_2
    rw [h82, ifF (fun z => by have := (bI_le (by omega) (by omega)).mp z; omega), t_isBad0 h0, ob_some, ifT (rfl : (0 : Int32) = 0), ifT (inb_nI' (by omega) (by decide)), ix_nI (by omega), ifF (hq c (Nat.le_refl _) (by omega)), nI_addL, nm_eq]
theorem OI.vk {n b c : Nat} (h : OI σ I n b c) (vk : ∀ k, k ∈ vkL → ∀ v, tA σ' k v = tA σ k v) : OI σ' I n b c := by
  refine ⟨h.1, fun q hq => ?_⟩
  unfold Kid at hq
  rw [vk 75 (by decide)] at hq
  rw [h.2 q hq]
  constructor
  · rintro ⟨b', v1, v2, v3⟩; exact ⟨b', v1, by rw [vk 83 (by decide)]; exact v2, by rw [vk 84 (by decide), vk 76 (by decide)]; exact v3⟩
  · rintro ⟨b', v1, v2, v3⟩; exact ⟨b', v1, by rw [vk 83 (by decide)] at v2; exact v2, by rw [vk 84 (by decide), vk 76 (by decide)] at v3; exact v3⟩
theorem II.vk {n b z j c : Nat} (h : II σ I n b z j c) (vk : ∀ k, k ∈ vkL → ∀ v, tA σ' k v = tA σ k v) : II σ' I n b z j c := by
  refine ⟨h.1, fun q hq => ?_⟩
  unfold Kid at hq
  rw [vk 75 (by decide)] at hq
  rw [h.2 q hq]
  constructor
  · rintro (⟨b', v1, v2, v3⟩ | ⟨v1, j', v2, v3⟩)
    · exact Or.inl ⟨b', v1, by rw [vk 83 (by decide)]; exact v2, by rw [vk 84 (by decide), vk 76 (by decide)]; exact v3⟩
    · exact Or.inr ⟨by rw [vk 84 (by decide), vk 76 (by decide)]; exact v1, j', v2, by rw [vk 77 (by decide)]; exact v3⟩
  · rintro (⟨b', v1, v2, v3⟩ | ⟨v1, j', v2, v3⟩)
    · exact Or.inl ⟨b', v1, by rw [vk 83 (by decide)] at v2; exact v2, by rw [vk 84 (by decide), vk 76 (by decide)] at v3; exact v3⟩
    · exact Or.inr ⟨by rw [vk 84 (by decide), vk 76 (by decide)] at v1; exact v1, j', v2, by rw [vk 77 (by decide)] at v3; exact v3⟩
/-- members of an instance -/
def Mbs (σ : TS) (Bm n : Nat) (bs : List Nat) : Prop := (∀ b, b ∈ bs → b < Bm ∧ tA σ 83 b = nI n) ∧ ChR σ bs.reverse (tA σ 88 n) ∧ (∀ b, b < Bm → tA σ 83 b = nI n → b ∈ bs) ∧ bs.Pairwise (· < ·)
theorem Mbs.vk {n : Nat} {bs : List Nat} (h : Mbs σ Bm n bs) (vk : ∀ k, k ∈ vkL → ∀ v, tA σ' k v = tA σ k v) : Mbs σ' Bm n bs := by
  obtain ⟨a, b, c, d⟩ := h
  refine ⟨fun x hx => by rw [vk 83 (by decide)]; exact a x hx, ?_, fun x h1 h2 => by rw [vk 83 (by decide)] at h2; exact c x h1 h2, d⟩
  rw [vk 88 (by decide)]
  exact b.mv _ _ (fun x _ => vk 87 (by decide) x)
theorem BS.mbs (h : BS zb z7 C B P mss fss V I Bm Lp x3 D M σ K N E A Wn) {n : Nat} (hn : n < I) : ∃ bs, Mbs σ Bm n bs ∧ Ls M (mR M 2605 ((pl D 99).getD n 0)) (bs.map fun b => (pl D 100).getD b 0) := by
  obtain ⟨-, -, -, bs, b1, b2, b3, b4, b5, b6⟩ := h.fx.1.2.1 n hn
  exact ⟨bs, ⟨b2, b3, b5, b6⟩, b1⟩
theorem BS.mbl (h : BS zb z7 C B P mss fss V I Bm Lp x3 D M σ K N E A Wn) {n : Nat} {bs : List Nat} (hn : n < I) (m : Mbs σ Bm n bs) : Ls M (mR M 2605 ((pl D 99).getD n 0)) (bs.map fun b => (pl D 100).getD b 0) := by
  obtain ⟨bs', m', l⟩ := h.mbs hn
  have hB := h.fx.2.1.2.2.1
  have e := ChR.det _ _ _ (fun b hb => by have := (m.1 b (List.mem_reverse.mp hb)).1; omega) (fun b hb => by have := (m'.1 b (List.mem_reverse.mp hb)).1; omega) m.2.1 m'.2.1
  have : bs = bs' := by have := congrArg List.reverse e; simpa using this
  rw [this]; exact l
/-- how deep instances are -/
def DpI (dp : Nat → Nat) (σ : TS) (I : Nat) : Prop := ∀ n, n < I → dp n ≤ 13 ∧ ∀ p, p < n → tA σ 75 n = nI p → dp p < dp n
def AlH (z7 : Nat → Nat) (C : PC) (B : Nat) (P : Nat → Prop) (mss fss : List Nat) (V I Bm m : Nat) (dp : Nat → Nat) (cfK : Nat → CM → Option ((Unit ⊕ Nat) × CM)) (cfT : Int32 → TS → Option (Unit × TS)) : Prop := ∀ (n : Nat) (D : FQ) (M : CM) (σ : TS) (K N E A Wn : Nat), n < I → 13 - dp n < m → DpI dp σ I → BS 1 z7 C B P mss fss V I Bm 0 0 D M σ K N E A Wn → BO (γ := Unit) (β := Unit) 1 z7 C B P mss fss V I Bm 0 0 id D M σ K N E A Wn (cfK ((pl D 99).getD n 0) M) (cfT (nI n) σ)
end ALL1
