/-! Layer B: texts: rows are cleared; both readers at the first token -/
set_option maxRecDepth 100000
section START
variable {M M' M0 M1 : CM} {σ σ' : TS} {l m L m' L' t len e kd m0 L0 : Nat} {xs : List Nat} {b : Nat → Int32} {pos : Nat → Nat}
theorem cl_loop {a : Nat} (n : Nat) (hn : n < 1000000) : ∀ (d k f : Nat) (M : CM), k + d = n → d < f → mk M a = 55 → n ≤ ml M a → ml M a < 2000000 → ∃ M', KL_J2_clear_27 f a (nI n) (nI k) M = some ((), M') ∧ Fz (fun o => o = a) M M' ∧ mn M' = mn M ∧ ms M' = ms M ∧ (∀ o, mk M' o = mk M o ∧ ml M' o = ml M o) ∧ (∀ g o, mR M' g o = mR M g o) ∧ ∀ g o, mI M' g o = mI M g o := by
  intro d
  induction d with
  | zero =>
    intro k f M hk hf h1 h2 h3
    obtain ⟨f, rfl⟩ : ∃ g, f = g + 1 := ⟨f - 1, by omega⟩
    rw [KL_J2_clear_27, ifT ((bI_le (by omega) (by omega)).mpr (by omega))]
    exact ⟨M, rfl, Fz.rf, rfl, rfl, fun _ => ⟨rfl, rfl⟩, fun _ _ => rfl, fun _ _ => rfl⟩
  | succ d ih =>
    intro k f M hk hf h1 h2 h3
    obtain ⟨f, rfl⟩ : ∃ g, f = g + 1 := ⟨f - 1, by omega⟩
    have g0 : goodRef M 0 := Or.inl rfl
    rw [KL_J2_clear_27, ifF (show ¬ nI n ≤ nI k from by rw [bI_le (by omega) (by omega)]; omega), ifT ⟨h1, inb_nI' (by omega) (by omega), g0⟩, nm_eq, nI_addL, nm_eq, ix_nI (by omega)]
    obtain ⟨M', c1, c2, c3, c4, c5, c6, c7⟩ := ih (k + 1) f (mwX M a k 0) (by omega) (by omega) h1 h2 h3
    have F : Fz (fun o => o = a) M (mwX M a k 0) := Fz.rf.mwX (fun _ => rfl)
    exact ⟨M', c1, F.tr c2, c3, c4, c5, c6, c7⟩
/-- clear -/
theorem ls_clear (h : Ls M l xs) (hl : l < mn M) (hc : mn M ≤ 601024) : ∃ M', K_J2_clear l M = some ((), M') ∧ Ls M' l [] ∧ Fz (fun o => o = l ∨ o = mR M 4201 l) M M' ∧ mn M' = mn M ∧ ms M' = ms M ∧ (∀ o, mk M' o = mk M o ∧ ml M' o = ml M o) ∧ ∀ g o, mR M' g o = mR M g o := by
  obtain ⟨a1, a2, a3, a4, a5⟩ := h
  unfold K_J2_clear
  rw [ifT a1, ifT a1, nm_eq]
  obtain ⟨M1, hM1⟩ : ∃ M1, M1 = msI (msI M 4200 l (mI M 4200 l + 1)) 4202 l 0 := ⟨_, rfl⟩
  have k1 : ∀ o, mk M1 o = mk M o ∧ ml M1 o = ml M o := fun o => by rw [hM1]; exact ⟨rfl, rfl⟩
  have r1 : ∀ g o, mR M1 g o = mR M g o := fun g o => by rw [hM1]; rfl
  have F1 : Fz (fun o => o = l) M M1 := by rw [hM1]; exact ((Fz.rf (X := fun o => o = l)).msI (fun _ => rfl)).msI (fun _ => rfl)
  have i1 : mI M1 4202 l = 0 := by rw [hM1, mI_msI, ifT ⟨rfl, rfl⟩]
  have n1 : mn M1 = mn M := by rw [hM1]; rfl
  have s1 : ms M1 = ms M := by rw [hM1]; rfl
  have e1 : mI (msI M 4200 l (mI M 4200 l + 1)) 4202 l = nI xs.length := by rw [mI_msI, ifF (by omega)]; exact a2
  rw [ifT (show mk (msI M 4200 l (mI M 4200 l + 1)) l = 22 from a1), nm_eq, ifT (show mk (msI M 4200 l (mI M 4200 l + 1)) l = 22 from a1), nm_eq, ifT (show mk (msI M 4200 l (mI M 4200 l + 1)) l = 22 from a1), nm_eq, ← hM1, e1, show mR (msI M 4200 l (mI M 4200 l + 1)) 4201 l = mR M 4201 l from rfl]
  have fu : 1000000 < FU := by have := FUb; omega
  rcases a5 with ⟨q, q2⟩ | ⟨⟨q1, q2⟩, q3, q4, q5, q6, q7⟩
  · rw [q2, show (0 : Int32) = nI 0 from rfl, FUs, KL_J2_clear_27, ifT (show nI ([] : List Nat).length ≤ nI 0 from by rw [bI_le (by decide) (by decide)]; exact Nat.le_refl _), ob_some]
    exact ⟨M1, rfl, ⟨by rw [(k1 l).1]; exact a1, i1, by decide, fun i hi => absurd hi (Nat.not_lt_zero _), Or.inl ⟨by rw [r1]; exact q, rfl⟩⟩, F1.mono (fun o _ z => Or.inl z), n1, s1, k1, r1⟩
  · obtain ⟨M', c1, c2, c3, c4, c5, c6, c7⟩ := cl_loop (a := mR M 4201 l) xs.length a3 xs.length 0 FU M1 (by omega) (by omega) (by rw [(k1 _).1]; exact q3) (by rw [(k1 _).2]; exact q4) (by rw [(k1 _).2]; exact q5)
    rw [show (0 : Int32) = nI 0 from rfl, c1, ob_some]
    refine ⟨M', rfl, ⟨by rw [(c5 l).1, (k1 l).1]; exact a1, by rw [c7]; exact i1, by decide, fun i hi => absurd hi (Nat.not_lt_zero _), Or.inr ⟨by rw [c6, r1, c3, n1]; exact ⟨q1, q2⟩, by rw [c6, r1, (c5 _).1, (k1 _).1]; exact q3, Nat.zero_le _, by rw [c6, r1, (c5 _).2, (k1 _).2]; exact q5, by rw [c6, r1, (c5 _).2, (k1 _).2]; exact q6, fun i hi => absurd hi (Nat.not_lt_zero _)⟩⟩, ?_, by rw [c3, n1], by rw [c4, s1], fun o => ⟨by rw [(c5 o).1, (k1 o).1], by rw [(c5 o).2, (k1 o).2]⟩, fun g o => by rw [c6, r1]⟩
    exact (F1.mono (fun o _ z => Or.inl z)).tr2 c2 (fun o _ z => Or.inr z)
/-- both at the first token -/
theorem px_start (I : LexI M0 M m0 L0 m L b len (t + 1) t pos) (hK : TokK M m b len t (pos t) e kd) (hkd : kd = 0 ∨ kd = 4) (T : TapeT σ b len) (hT : KeysT σ) (h0 : tI σ 0 = 0) (h10 : tI σ 10 = 0) (h18 : tI σ 18 = 0) (hm : m ≤ 1280) (ht : t < 2001) : ∃ σ', F_next σ = some ((), σ') ∧ Px (msI M 405 90 (nI 0)) σ' b len m t pos 0 := by
  obtain ⟨i1, i2, ⟨i3a, i3b, i3c, i3d, i3e, i3f, i3g⟩, i4, i5, i6, ⟨i7a, i7b, i7c⟩, i8, ⟨i9a, i9b, i9c, i9d, i9e, i9f⟩, i10⟩ := I
  have hmn : 167 ≤ mn M := Nat.le_trans i3e i9a.1
  obtain ⟨σ', s, e', kd', wd, sg, nu, wh, n1, n2, n3⟩ := t_next T (p := 0) (by rw [h10]; rfl) (Nat.zero_le _)
  have fr := fS_F_next _ _ _ n1
  have posle : ∀ j, j ≤ t → pos j ≤ pos t := fun j hj => by
    have : ∀ d j, j + d = t → pos j ≤ pos t := by
      intro d
      induction d with
      | zero => intro j h; rw [show j = t by omega]; exact Nat.le_refl _
      | succ d ih =>
        intro j h
        have h1 := (i10 j (by omega)).2
        have h2 := ih (j + 1) (by omega)
        omega
    exact this (t - j) j (by omega)
  have hTK : TKS M b len m t pos := by
    refine ⟨ht, fun j hj => ⟨Nat.le_trans (posle j hj) i7c, ?_⟩⟩
    rcases Nat.lt_or_ge j t with g | g
    · obtain ⟨⟨k, k1, k2⟩, k3⟩ := i10 j g
      exact ⟨_, k, k2, fun _ => ⟨k1, rfl, k3⟩, fun z => by omega⟩
    · have ej : j = t := by omega
      subst ej
      exact ⟨e, kd, hK, fun z => absurd z (Nat.lt_irrefl _), fun _ => hkd⟩
  rw [← i7a] at n2
  obtain ⟨S1, S2⟩ := Sy.of hTK (Nat.zero_le t) i3c n2 n3
  have P0 : Px M σ' b len m t pos 0 ∨ True := Or.inr trivial
  have so : ∀ o, o < mn M → o ≠ 90 → So M (msI M 405 90 (nI 0)) o := fun o h1 h2 => (Fz.rf (X := fun o => o = 90)).msI (fun _ => rfl) |>.so h1 h2
  have F : Fz (fun o => o = 90) M (msI M 405 90 (nI 0)) := Fz.rf.msI (fun _ => rfl)
  refine ⟨σ', n1, ⟨i1.so (fun o ho => so o (by omega) (by omega)), ⟨L, i2⟩, hm, hmn⟩, ?_, ⟨by rw [mI_msI, ifF (by omega)]; exact i6, by rw [mI_msI, ifT ⟨rfl, rfl⟩], Nat.zero_le _⟩, ⟨T.kp fr rfl rfl, hT.kp fr rfl rfl, by rw [(fr 0 rfl).1]; exact h0, by rw [t_next18 n1, h18]; rfl⟩, S1, S2⟩
  exact hTK
end START
