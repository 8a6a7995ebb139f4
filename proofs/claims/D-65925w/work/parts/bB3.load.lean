/-! Layer B: load: what stays while a text comes in -/
set_option maxRecDepth 100000
/-- what a load may write of what was there -/
def Xd (M : CM) (o : Nat) : Prop := o = 1 ∨ o = 4 ∨ (88 ≤ o ∧ o ≤ 97) ∨ o = mR M 201 4 ∨ Ar M o
/-- what its text may write, since the beginning; since the tokens; behind the text -/
def X6 (M : CM) (o : Nat) : Prop := o = 4 ∨ (90 ≤ o ∧ o ≤ 97) ∨ o = mR M 201 4 ∨ o = mR M 4201 95 ∨ o = mR M 4201 96 ∨ o = mR M 4201 97
def X16 (M : CM) (o : Nat) : Prop := o = 90 ∨ (95 ≤ o ∧ o ≤ 97) ∨ o = mR M 4201 95 ∨ o = mR M 4201 96 ∨ o = mR M 4201 97
def X67 (M : CM) (o : Nat) : Prop := o = 1 ∨ o = 88 ∨ o = 89 ∨ o = mR M 4201 88 ∨ o = mR M 4201 89
/-- what a load leaves -/
def LdO (C : PC) (B len : Nat) (P : Nat → Prop) (mss : List Nat) (M : CM) (σ : TS) (M' : CM) (σ' : TS) : Prop := ∃ C' P' ns fss', IT C' (B + len) P' (mss ++ ns) fss' M' σ' ∧ (∀ o, P' o → P o ∨ mn M ≤ o) ∧ Wz C C' P M M' σ σ' ∧ Fz (Xd M) M M' ∧ ((∀ g, g ≠ 1 → g ≠ 4 → g ≠ 5 → g ≠ 9 → mI M' g 1 = mI M g 1) ∧ ∀ g, mR M' g 1 = mR M g 1) ∧ BtR M' σ' 0 ∧ (mI M' 4 1 = tI σ' 2 ∧ mI M' 5 1 = tI σ' 3) ∧ tI σ' 0 = 0 ∧ mn M' + ml M (mR M 201 4) ≤ mn M + ml M' (mR M' 201 4) + 16 * len + 130 ∧ ms M' + 2 * ml M (mR M 201 4) ≤ ms M + 2 * ml M' (mR M' 201 4) + 2048 * len + 12300 ∧ (mR M' 201 4 = mR M 201 4 ∨ mn M ≤ mR M' 201 4) ∧ ∀ l, l ∈ arL → mR M' 4201 l = mR M 4201 l ∨ mn M ≤ mR M' 4201 l
/-- a load stands behind the tokens: M1 behind them, M5 where the text begins -/
def LdC (C : PC) (B len : Nat) (P : Nat → Prop) (mss fss : List Nat) (M M1 M5 : CM) (σ σ2 : TS) (m L L' t : Nat) : Prop := (IT C B P mss fss M σ ∧ mk M 1 = 1 ∧ t ≤ len ∧ B + len ≤ 1280 ∧ WN M (cm C) L) ∧ (KT M M1 ∧ KeysOK M1 ∧ WN M1 m L' ∧ L ≤ L' ∧ (mn M1 ≤ mn M + (L' - L) ∧ ms M1 ≤ ms M + 2 * (L' - L)) ∧ (cm C ≤ m ∧ m ≤ cm C + t) ∧ ∀ w, w < 38 + cm C → wc M1 w = wc M w) ∧ (Fz (X16 M) M1 M5 ∧ mn M5 = mn M1 ∧ ms M5 = ms M1 ∧ ∀ g o, ¬ (g = 408 ∧ o = 90) → mR M5 g o = mR M1 g o) ∧ (Ft [0, 5, 7, 8, 10, 11, 12, 13, 14, 15, 16, 17, 18, 20, 21, 37, 38, 39] σ σ2 ∧ tI σ2 7 = 0) ∧ mn M + 16 * len + 9000 ≤ 601024 ∧ ms M + 2048 * len + 40000 ≤ 7293034
section LOAD
variable {C C' : PC} {M M1 M5 M' M6 M7 : CM} {σ σ' σ2 σ6 σ7 : TS} {mss fss : List Nat} {B len m L L' t o l : Nat} {P : Nat → Prop}
theorem bt0 (h : mI M 1 1 = 0) (g : tI σ 7 = 0) : BtR M σ 0 := ⟨h, g, by decide, fun i hi => absurd hi (Nat.not_lt_zero _)⟩
theorem LdC.ar (H : LdC C B len P mss fss M M1 M5 σ σ2 m L L' t) (hl : l ∈ arL) : mR M 4201 l = 4398046511104 ∨ ((167 ≤ mR M 4201 l ∧ mR M 4201 l < mn M) ∧ mk M (mR M 4201 l) = 55 ∧ ∀ l', l' ∈ arL → l' ≠ l → mR M 4201 l' ≠ mR M 4201 l) := by
  rcases (H.1.1.2.2.2.1.2.2.2.2.2.2.2 l hl).2 with q | q
  · exact Or.inl q
  · exact Or.inr ⟨⟨q.1.1, q.1.2.1⟩, q.1.2.2, q.2⟩
/-- an array of a row isn't the names' array, nor another row's -/
theorem LdC.an (H : LdC C B len P mss fss M M1 M5 σ σ2 m L L' t) (hl : l ∈ arL) : mR M 4201 l ≠ mR M 201 4 ∧ mR M 4201 l ≠ mR M1 201 4 := by
  have W := H.1.2.2.2.2
  have W1 := H.2.1.2.2.1
  have c := H.2.2.2.2
  have h6 := W.2.2.2.2.2.2.1
  have hlt := W.2.2.2.2.2.2.2.1
  have hlt1 := W1.2.2.2.2.2.2.2.1
  have b := H.2.1.2.2.2.2.1
  have hLL := W1.2.2.2.2.2.1
  have a : mR M 4201 l ≠ mR M 201 4 := fun q => by
    rcases H.ar hl with g | g
    · omega
    · have := g.2.1
      rw [q, W.2.1] at this; exact absurd this (by decide)
  refine ⟨a, fun q => ?_⟩
  rcases H.2.1.1.2.2.2.2.2.2.2 with g | g
  · exact a (by rw [q, g])
  · rcases H.ar hl with p | p
    · omega
    · omega
theorem LdC.r1 (H : LdC C B len P mss fss M M1 M5 σ σ2 m L L' t) (hl : l ∈ arL) : mR M1 4201 l = mR M 4201 l := by
  have h167 := H.1.1.1.2.2.1
  exact H.2.1.1.2.2.2.1 4201 l (by have := arL_lt hl; omega) (by omega)
theorem LdC.r5 (H : LdC C B len P mss fss M M1 M5 σ σ2 m L L' t) (hl : l ∈ arL) : mR M5 4201 l = mR M 4201 l := by
  rw [H.2.2.1.2.2.2 _ _ (by omega), H.r1 hl]
theorem LdC.f16 (H : LdC C B len P mss fss M M1 M5 σ σ2 m L L' t) (F : Fz (Xl M5) M5 M6) : Fz (X16 M) M1 M6 := H.2.2.1.1.tr2 F (fun o _ z => by
  unfold Xl at z
  rw [H.r5 (l := 95) (by decide), H.r5 (l := 96) (by decide), H.r5 (l := 97) (by decide)] at z
  unfold X16
  omega)
theorem LdC.f6 (H : LdC C B len P mss fss M M1 M5 σ σ2 m L L' t) (F : Fz (Xl M5) M5 M6) : Fz (X6 M) M M6 := (H.2.1.1.fz.mono (fun o _ z => by unfold X6; omega)).tr2 (H.f16 F) (fun o _ z => by unfold X16 at z; unfold X6; omega)
/-- the text leaves what was read -/
theorem LdC.nx (H : LdC C B len P mss fss M M1 M5 σ σ2 m L L' t) (ho : P o) : (167 ≤ o ∧ o < mn M) ∧ ¬ X6 M o ∧ ∀ l, l ∈ arL → o ≠ mR M 4201 l := by
  have hT := H.1.1.2.2.2.2.2.1
  obtain ⟨a, b⟩ := hT.nx ho
  have c := (hT.1 o ho).2.2.2
  refine ⟨a, fun z => ?_, b⟩
  have b5 := b 95 (by decide)
  have b6 := b 96 (by decide)
  have b7 := b 97 (by decide)
  unfold X6 at z
  omega
theorem LdC.n1 (H : LdC C B len P mss fss M M1 M5 σ σ2 m L L' t) : (mR M1 201 4 < mn M1 ∧ (mR M1 201 4 = 6 ∨ 167 ≤ mR M1 201 4)) ∧ ¬ X16 M (mR M1 201 4) := by
  have W1 := H.2.1.2.2.1
  have h6 := W1.2.2.2.2.2.2.1
  refine ⟨⟨W1.2.2.2.2.2.2.2.1, h6⟩, fun z => ?_⟩
  have b5 := (H.an (l := 95) (by decide)).2
  have b6 := (H.an (l := 96) (by decide)).2
  have b7 := (H.an (l := 97) (by decide)).2
  unfold X16 at z
  omega
/-- the end of a load: all that doesn't lean on how the text went -/
theorem LdC.wv (H : LdC C B len P mss fss M M1 M5 σ σ2 m L L' t) (F : Fz (Xl M5) M5 M6) (G : Fz (X67 M) M6 M7) (hz : Tz σ σ7 ∧ Qz σ σ7 ∧ Mz σ σ7 ∧ Ez σ σ7) (h42 : ∀ k, k < cnf C → tA σ7 42 k = tA σ 42 k) (hm : cm C' = m) (hnf : cnf C ≤ cnf C' ∧ cnf C' ≤ 12) (hfn : ∀ k, k < cnf C → cfn C' k = cfn C k) (h1000 : cfn C' 1000 ≤ cfn C 1000) (hcar : car C' = 0) : Wz C C' P M M7 σ σ7 ∧ Fz (Xd M) M M7 ∧ KeysOK M7 ∧ WN M7 m L' ∧ (mk M7 90 = 3 ∧ (mk M7 2 = 51 ∧ ml M7 2 = 2000) ∧ ∀ o, 91 ≤ o → o ≤ 94 → mk M7 o = 51) := by
  have I := H.1.1
  obtain ⟨⟨K0, -, h167, k90, k2, k91⟩, ⟨c1, c2, c3, c4⟩, -, ⟨-, -, -, -, -, -, -, hS⟩, -, hT, -⟩ := I
  have k1 := H.1.2.1
  have hcap := H.2.2.2.2
  have W := H.1.2.2.2.2
  have W1 := H.2.1.2.2.1
  have kn := H.2.1.1.1
  have F6 := H.f6 F
  have F16 := (H.f16 F)
  have a8 := H.ar (l := 88) (by decide)
  have a9 := H.ar (l := 89) (by decide)
  have F7 : Fz (fun o => X6 M o ∨ X67 M o) M M7 := (F6.mono (fun o _ z => Or.inl z)).tr2 G (fun o _ z => Or.inr z)
  have F17 : Fz (fun o => X16 M o ∨ X67 M o) M1 M7 := (F16.mono (fun o _ z => Or.inl z)).tr2 G (fun o _ z => Or.inr z)
  have soP : ∀ o, P o → So M M7 o := fun o ho => by
    obtain ⟨a, b, c⟩ := H.nx ho
    have c8 := c 88 (by decide)
    have c9 := c 89 (by decide)
    exact F7.so a.2 (fun z => by
      rcases z with z | z
      · exact b z
      · unfold X67 at z; omega)
  have k4 : mk M 4 = 2 := K0.1.2.2.2.2.2
  have ka : ∀ l, l ∈ arL → ∀ o, o < mn M → o = mR M 4201 l → mk M o = 55 := fun l hl o ho q => by
    rcases H.ar hl with g | g
    · omega
    · rw [q]; exact g.2.1
  have so23 : ∀ o, o < mn M → mk M o = 23 → So M M7 o := fun o ho h => by
    have na : ∀ l, l ∈ arL → o ≠ mR M 4201 l := fun l hl q => by
      have := ka l hl o ho q
      rw [h] at this; exact absurd this (by decide)
    have ne : ∀ x, mk M x ≠ 23 → o ≠ x := fun x hx q => hx (by rw [← q]; exact h)
    have e1 := ne 1 (by rw [k1]; decide)
    have e4 := ne 4 (by rw [k4]; decide)
    have e90 := ne 90 (by rw [k90]; decide)
    have e88 := ne 88 (by rw [(hS 88 (by decide)).1]; decide)
    have e89 := ne 89 (by rw [(hS 89 (by decide)).1]; decide)
    have e95 := ne 95 (by rw [(hS 95 (by decide)).1]; decide)
    have e96 := ne 96 (by rw [(hS 96 (by decide)).1]; decide)
    have e97 := ne 97 (by rw [(hS 97 (by decide)).1]; decide)
    have en := ne (mR M 201 4) (by rw [W.2.1]; decide)
    have e91 : ¬ (91 ≤ o ∧ o ≤ 94) := fun q => by have := k91 o q.1 q.2; rw [h] at this; exact absurd this (by decide)
    have n8 := na 88 (by decide)
    have n9 := na 89 (by decide)
    have n5 := na 95 (by decide)
    have n6 := na 96 (by decide)
    have n7 := na 97 (by decide)
    exact F7.so ho (fun z => by
      rcases z with z | z
      · unfold X6 at z; omega
      · unfold X67 at z; omega)
  have n17 : ∀ o, o < 90 → 3 < o → o ≠ 88 → o ≠ 89 → So M1 M7 o := fun o h1 h2 h3 h4 => F17.so (by omega) (fun z => by
    have a5 := H.ar (l := 95) (by decide)
    have a6 := H.ar (l := 96) (by decide)
    have a7 := H.ar (l := 97) (by decide)
    rcases z with z | z
    · unfold X16 at z; omega
    · unfold X67 at z; omega)
  obtain ⟨⟨nlt, n6⟩, nx⟩ := H.n1
  have sN : So M1 M7 (mR M1 201 4) := F17.so nlt (fun z => by
    rcases z with z | z
    · exact nx z
    · have b8 := (H.an (l := 88) (by decide)).2
      have b9 := (H.an (l := 89) (by decide)).2
      unfold X67 at z; omega)
  have s4 := n17 4 (by decide) (by decide) (by decide) (by decide)
  refine ⟨⟨⟨F7.1, fun o ho => F7.k ho⟩, ⟨soP, so23⟩, ⟨by rw [hm]; exact H.2.1.2.2.2.2.2.1.1, fun w hw => by rw [wc_so s4 sN w]; exact H.2.1.2.2.2.2.2.2 w hw⟩, hz, ⟨hnf, hfn, h1000⟩, h42, by rw [hcar, c2]⟩, F7.mono (fun o _ z => ?_), H.2.1.2.1.so4 (fun o h1 h2 => n17 o (by omega) h1 (by omega) (by omega)), W1.so F17.1 s4 sN, ⟨by rw [F7.k (by omega)]; exact k90, ⟨by rw [(F7.2.1 2 (by omega)).1]; exact k2.1, by rw [(F7.2.1 2 (by omega)).2]; exact k2.2⟩, fun o h1 h2 => by rw [F7.k (by omega)]; exact k91 o h1 h2⟩⟩
  have ma : ∀ l, l ∈ arL → o = mR M 4201 l → Ar M o := fun l hl q => ⟨l, hl, q⟩
  rcases z with z | z
  · rcases z with z | z | z | z | z | z
    · exact Or.inr (Or.inl z)
    · exact Or.inr (Or.inr (Or.inl (by omega)))
    · exact Or.inr (Or.inr (Or.inr (Or.inl z)))
    · exact Or.inr (Or.inr (Or.inr (Or.inr ⟨95, by decide, z⟩)))
    · exact Or.inr (Or.inr (Or.inr (Or.inr ⟨96, by decide, z⟩)))
    · exact Or.inr (Or.inr (Or.inr (Or.inr ⟨97, by decide, z⟩)))
  · rcases z with z | z | z | z | z
    · exact Or.inl z
    · exact Or.inr (Or.inr (Or.inl (by omega)))
    · exact Or.inr (Or.inr (Or.inl (by omega)))
    · exact Or.inr (Or.inr (Or.inr (Or.inr ⟨88, by decide, z⟩)))
    · exact Or.inr (Or.inr (Or.inr (Or.inr ⟨89, by decide, z⟩)))
/-- rows that were there stand where they stood -/
theorem LdC.row (H : LdC C B len P mss fss M M1 M5 σ σ2 m L L' t) (F : Fz (Xl M5) M5 M6) (hl : l = 88 ∨ l = 89) : So M M6 l ∧ (mR M 4201 l ≠ 4398046511104 → So M M6 (mR M 4201 l)) := by
  have h167 := H.1.1.1.2.2.1
  have F6 := H.f6 F
  have W := H.1.2.2.2.2
  have n6 := W.2.2.2.2.2.2.1
  have a5 := H.ar (l := 95) (by decide)
  have a6 := H.ar (l := 96) (by decide)
  have a7 := H.ar (l := 97) (by decide)
  have hl2 : l ∈ arL := by rcases hl with rfl | rfl <;> decide
  refine ⟨F6.so (by omega) (fun z => by unfold X6 at z; omega), fun q => ?_⟩
  have n := (H.an hl2).1
  rcases H.ar hl2 with g | ⟨g1, g2, g3⟩
  · exact absurd g q
  · have e5 := g3 95 (by decide) (by omega)
    have e6 := g3 96 (by decide) (by omega)
    have e7 := g3 97 (by decide) (by omega)
    exact F6.so g1.2 (fun z => by unfold X6 at z; omega)
theorem LdC.s1 (H : LdC C B len P mss fss M M1 M5 σ σ2 m L L' t) (F : Fz (Xl M5) M5 M6) : So M M6 1 := by
  have h167 := H.1.1.1.2.2.1
  have W := H.1.2.2.2.2
  have n6 := W.2.2.2.2.2.2.1
  have a5 := H.ar (l := 95) (by decide)
  have a6 := H.ar (l := 96) (by decide)
  have a7 := H.ar (l := 97) (by decide)
  exact (H.f6 F).so (by omega) (fun z => by unfold X6 at z; omega)
end LOAD
