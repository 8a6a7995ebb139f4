/-! Layer B: between the calls, the text's part; a text begins -/
set_option maxRecDepth 100000
/-- what was read, and the room that is left (B bytes were read so far; what was read is in P) -/
def IT (C : PC) (B : Nat) (P : Nat → Prop) (mss fss : List Nat) (M : CM) (σ : TS) : Prop := (KeysOK M ∧ (∃ L, WN M (cm C) L) ∧ 167 ≤ mn M ∧ mk M 90 = 3 ∧ (mk M 2 = 51 ∧ ml M 2 = 2000) ∧ ∀ o, 91 ≤ o → o ≤ 94 → mk M o = 51) ∧ (cnl C = 0 ∧ car C = 0 ∧ cfn C 1000 ≤ 1 ∧ cm C ≤ B) ∧ (KeysT σ ∧ ∃ K9, mI M 9 1 = nI K9 ∧ tI σ 19 = nI K9 ∧ K9 ≤ B) ∧ (Ls M 88 mss ∧ Ls M 89 fss ∧ (∃ bs, Ls M 95 bs) ∧ (∃ bs, Ls M 96 bs) ∧ (∃ bs, Ls M 97 bs) ∧ Lg M 88 ∧ Lg M 89 ∧ Sx M) ∧ ((mss.length ≤ 24 ∧ tI σ 49 = nI mss.length) ∧ fss.length ≤ 12 ∧ cnf C = fss.length ∧ tI σ 48 = nI (cnf C) ∧ ∀ k, k < cnf C → cfn C k = fss.getD k 0 ∧ FnR C M σ k) ∧ TP C (fun _ => True) M M σ mss P ∧ (∃ E, tI σ 58 = nI E ∧ E ≤ 20 * mss.length) ∧ (∃ K, tI σ 65 = nI K ∧ 1 ≤ K ∧ K ≤ 1 + B) ∧ (∃ Q, tI σ 72 = nI Q ∧ 1 ≤ Q ∧ Q ≤ 1 + B) ∧ (∃ N, tI σ 28 = nI N ∧ 1 ≤ N ∧ N ≤ 1 + 4 * B) ∧ ∃ Q, tI σ 34 = nI Q ∧ 1 ≤ Q ∧ Q ≤ 1 + 4 * B
theorem FnR.wz {C C' : PC} {P : Nat → Prop} {M M' : CM} {σ σ' : TS} {k : Nat} (h : FnR C M σ k) (p : FcR C P M σ k) (v : Wz C C' P M M' σ σ') (hk : k < cnf C) (h40 : tB σ' 40 k = tB σ 40 k) : FnR C' M' σ' k := by
  obtain ⟨⟨e1, e2, e3⟩, ⟨w', g1, g2, g3, g4⟩, xs, m1, m2, m3, m4, m5⟩ := h
  obtain ⟨p1, -, ys, -, -, p2, -⟩ := p
  have s := v.2.1.1 _ p1
  have sr := v.2.1.1 _ p2.2.1
  have hn := v.1.1
  have hm := v.2.2.1.1
  unfold FnR
  rw [v.2.2.2.2.1.2.1 k hk, s.k, s.r, v.2.2.2.2.2.1 k hk]
  exact ⟨⟨e1, by omega, e3⟩, ⟨w', (s.i _).trans g1, g2, by omega, by rw [h40, g4]; exact (v.2.2.1.2 w' g3).symm⟩, xs, m1.kp v.1.1 v.1.2 sr (fun q => v.2.1.1 _ (p2.2.2 q)), by omega, m3, m4, m5⟩
section BEGIN
variable {C : PC} {M M' M1 M5 : CM} {σ σ' σ1 σ2 : TS} {mss fss : List Nat} {B o l m L t len : Nat} {X : Nat → Prop} {b : Nat → Int32} {pos : Nat → Nat}
theorem KT.so (k : KT M M') (ho : o < mn M) (h : o ≠ 4 ∧ o ≠ 90 ∧ ¬ (91 ≤ o ∧ o ≤ 94) ∧ o ≠ mR M 201 4) : So M M' o := ⟨k.2.1 o ho, fun g => k.2.2.1 g o ho (fun z => h.1 z.2) (fun z => h.2.1 z.2), fun g => k.2.2.2.1 g o ho (fun z => h.1 z.2), fun i => k.2.2.2.2.1 o i ho (by omega) (by omega) (by omega) (by omega), fun i => k.2.2.2.2.2.2.1 o i ho h.2.2.2, fun i => k.2.2.2.2.2.1 o i ho⟩
theorem KT.fz (k : KT M M') : Fz (fun o => o = 4 ∨ o = 90 ∨ (91 ≤ o ∧ o ≤ 94) ∨ o = mR M 201 4) M M' := ⟨k.1, fun o ho => k.2.1 o ho, fun o ho hx => k.so ho ⟨fun z => hx (Or.inl z), fun z => hx (Or.inr (Or.inl z)), fun z => hx (Or.inr (Or.inr (Or.inl z))), fun z => hx (Or.inr (Or.inr (Or.inr z)))⟩⟩
theorem fz_bk (M : CM) (g : Nat) (u : Int32) : Fz (fun o => o = 90) (msI M g 90 u) M := ⟨Nat.le_refl _, fun _ _ => ⟨rfl, rfl⟩, fun o _ ho => ⟨⟨rfl, rfl⟩, fun h => by rw [mI_msI, ifF (fun z => ho z.2)], fun _ => rfl, fun _ => rfl, fun _ => rfl, fun _ => rfl⟩⟩
/-- the rows that a text begins with -/
theorem k_textrows (hS : Sx M) (h96 : ∃ bs, Ls M 96 bs) (h97 : ∃ bs, Ls M 97 bs) (h95 : ∃ bs, Ls M 95 bs) (hc : mn M ≤ 601024) (h167 : 167 ≤ mn M) {α : Type} (k : CM → Option α) : ∃ M5, (ob (K_J2_clear 96 M) fun _ M1 => ob (K_J2_clear 97 M1) fun _ M5 => nm (msI M5 405 90 0) fun M9 => nm (msI M9 406 90 0) fun M10 => nm (msR M10 408 90 0) fun M11 => ob (K_J2_clear 95 M11) fun _ M12 => k M12) = k M5 ∧ Ls M5 95 [] ∧ Ls M5 96 [] ∧ Ls M5 97 [] ∧ Fz (fun o => o = 90 ∨ o = 95 ∨ o = 96 ∨ o = 97 ∨ o = mR M 4201 95 ∨ o = mR M 4201 96 ∨ o = mR M 4201 97) M M5 ∧ mn M5 = mn M ∧ ms M5 = ms M ∧ (∀ g o, ¬ (g = 408 ∧ o = 90) → mR M5 g o = mR M g o) ∧ (mI M5 405 90 = 0 ∧ mI M5 406 90 = 0 ∧ mR M5 408 90 = 0 ∧ mI M5 404 90 = mI M 404 90) ∧ Sx M5 := by
  obtain ⟨b6, l6⟩ := h96
  obtain ⟨b7, l7⟩ := h97
  obtain ⟨b5, l5⟩ := h95
  have ar : ∀ l, l ∈ arL → mR M 4201 l = 4398046511104 ∨ 167 ≤ mR M 4201 l := fun l hl => by
    rcases (hS l hl).2 with q | q
    · exact Or.inl q
    · exact Or.inr q.1.1
  have ne : ∀ l l', l ∈ arL → l' ∈ arL → l' ≠ l → mR M 4201 l < mn M → mR M 4201 l ≠ mR M 4201 l' := fun l l' hl hl' h hlt z => by
    rcases (hS l hl).2 with q | q
    · omega
    · exact q.2 l' hl' h z.symm
  have a5 := ar 95 (by decide)
  have a6 := ar 96 (by decide)
  have a7 := ar 97 (by decide)
  obtain ⟨M1, c1, c2, c3, c4, c5, c6, c7⟩ := ls_clear l6 (by omega) hc
  have L71 : Ls M1 97 b7 := l7.so2 c3 (c3.so (by omega) (by omega)) (fun z => c3.so z (fun q => by
    rcases q with q | q
    · omega
    · exact ne 97 96 (by decide) (by decide) (by decide) z q))
  have L51 : Ls M1 95 b5 := l5.so2 c3 (c3.so (by omega) (by omega)) (fun z => c3.so z (fun q => by
    rcases q with q | q
    · omega
    · exact ne 95 96 (by decide) (by decide) (by decide) z q))
  obtain ⟨M2, d1, d2, d3, d4, d5, d6, d7⟩ := ls_clear L71 (by omega) (by omega)
  rw [c7] at d3
  have L52 : Ls M2 95 b5 := L51.so2 d3 (d3.so (by omega) (by omega)) (fun z => d3.so z (fun q => by
    rw [c7] at q z
    rcases q with q | q
    · omega
    · exact ne 95 97 (by decide) (by decide) (by decide) (by omega) q))
  have L62 : Ls M2 96 [] := c2.so2 d3 (d3.so (by omega) (by omega)) (fun z => d3.so z (fun q => by
    rw [c7] at q z
    rcases q with q | q
    · omega
    · exact ne 96 97 (by decide) (by decide) (by decide) (by omega) q))
  obtain ⟨M3, hM3⟩ : ∃ M3, M3 = msR (msI (msI M2 405 90 0) 406 90 0) 408 90 0 := ⟨_, rfl⟩
  have F3 : Fz (fun o => o = 90) M2 M3 := by rw [hM3]; exact (((Fz.rf (X := fun o => o = 90)).msI (fun _ => rfl)).msI (fun _ => rfl)).msR (fun _ => rfl)
  have r3 : ∀ g o, ¬ (g = 408 ∧ o = 90) → mR M3 g o = mR M g o := fun g o h => by rw [hM3, mR_msR, ifF h]; show mR M2 g o = _; rw [d7, c7]
  have n3 : mn M3 = mn M := by rw [hM3]; show mn M2 = _; rw [d4, c4]
  have lrow : ∀ l xs, Ls M2 l xs → l < mn M → l ≠ 90 → (mR M 4201 l = 4398046511104 ∨ 167 ≤ mR M 4201 l) → Ls M3 l xs := fun l xs h h1 h2 h3 => h.so2 F3 (F3.so (by omega) h2) (fun z => F3.so z (fun q => by rw [d7, c7] at q; omega))
  have L53 := lrow 95 b5 L52 (by omega) (by decide) a5
  have L63 := lrow 96 [] L62 (by omega) (by decide) a6
  have L73 := lrow 97 [] d2 (by omega) (by decide) a7
  obtain ⟨M5, e1, e2, e3, e4, e5, e6, e7⟩ := ls_clear L53 (by omega) (by omega)
  rw [r3 4201 95 (by omega)] at e3
  have L65 : Ls M5 96 [] := L63.so2 e3 (e3.so (by omega) (by omega)) (fun z => e3.so z (fun q => by
    rw [r3 _ _ (by omega)] at q z
    rcases q with q | q
    · omega
    · exact ne 96 95 (by decide) (by decide) (by decide) (by omega) q))
  have L75 : Ls M5 97 [] := L73.so2 e3 (e3.so (by omega) (by omega)) (fun z => e3.so z (fun q => by
    rw [r3 _ _ (by omega)] at q z
    rcases q with q | q
    · omega
    · exact ne 97 95 (by decide) (by decide) (by decide) (by omega) q))
  have F : Fz (fun o => o = 90 ∨ o = 95 ∨ o = 96 ∨ o = 97 ∨ o = mR M 4201 95 ∨ o = mR M 4201 96 ∨ o = mR M 4201 97) M M5 := (((c3.mono (fun o _ z => by
    rcases z with z | z
    · exact Or.inr (Or.inr (Or.inl z))
    · exact Or.inr (Or.inr (Or.inr (Or.inr (Or.inr (Or.inl z))))))).tr2 d3 (fun o _ z => by
    rcases z with z | z
    · exact Or.inr (Or.inr (Or.inr (Or.inl z)))
    · exact Or.inr (Or.inr (Or.inr (Or.inr (Or.inr (Or.inr z))))))).tr2 F3 (fun o _ z => Or.inl z)).tr2 e3 (fun o _ z => by
    rcases z with z | z
    · exact Or.inr (Or.inl z)
    · exact Or.inr (Or.inr (Or.inr (Or.inr (Or.inl z)))))
  have r5 : ∀ g o, ¬ (g = 408 ∧ o = 90) → mR M5 g o = mR M g o := fun g o h => by rw [e7]; exact r3 g o h
  have s5 : So M3 M5 90 := e3.so (by omega) (by omega)
  have s12 : ∀ g, mI M2 g 90 = mI M g 90 := fun g => by rw [(d3.so (o := 90) (by omega) (by omega)).i, (c3.so (o := 90) (by omega) (by omega)).i]
  refine ⟨M5, ?_, e2, L65, L75, F, by rw [e4, n3], ?_, r5, ⟨?_, ?_, ?_, ?_⟩, ?_⟩
  · rw [c1, ob_some, d1, ob_some, nm_eq, nm_eq, nm_eq, ← hM3, e1, ob_some]
  · rw [e5, hM3]; show ms M2 = _; rw [d5, c5]
  · rw [s5.i, hM3, mI_msR, mI_msI, ifF (by omega), mI_msI, ifT ⟨rfl, rfl⟩]
  · rw [s5.i, hM3, mI_msR, mI_msI, ifT ⟨rfl, rfl⟩]
  · rw [e7, hM3, mR_msR, ifT ⟨rfl, rfl⟩]
  · rw [s5.i, hM3, mI_msR, mI_msI, ifF (by omega), mI_msI, ifF (by omega)]; exact s12 404
  · exact hS.mv hc h167 F (fun l _ => Or.inl (r5 _ _ (by omega))) (fun l l' hl hl' h h1 h2 => by
      rw [r5 _ _ (by omega)] at h1 h2
      rcases (hS l hl).2 with q | q <;> omega)
end BEGIN
