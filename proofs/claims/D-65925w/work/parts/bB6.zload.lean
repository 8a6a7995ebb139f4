/-! Layer B: load, both sides alike -/
set_option maxRecDepth 100000
section ZLOAD
variable {C : PC} {M : CM} {σ : TS} {mss fss : List Nat} {B len : Nat} {P : Nat → Prop}
set_option maxHeartbeats 1000000 in
theorem z_load (I : IT C B P mss fss M σ) (hb : BtR M σ len) (hf : mI M 4 1 = tI σ 2 ∧ mI M 5 1 = tI σ 3) (hB : B + len ≤ 1280) (k1 : mk M 1 = 1) (cap : mn M + 16 * len + 9000 ≤ 601024 ∧ ms M + 2048 * len + 40000 ≤ 7293034) : ∃ r M' σ', K_X0_load M = some (r, M') ∧ F_load σ = some (r, σ') ∧ LdO C B len P mss M σ M' σ' := by
  have I0 := I
  obtain ⟨⟨K0, ⟨L, W⟩, h167, k90, k2, k91⟩, ⟨c1, c2, c3, c4⟩, ⟨kt, K9, u1, u2, u3⟩, ⟨l88, l89, l95, l96, l97, g88, g89, hS⟩, ⟨⟨m24, t49⟩, f12, cf, t48, hfn⟩, hT, ⟨E, e1, e2⟩, ⟨K, y1, y2, y3⟩, ⟨Q, q1, q2, q3⟩, ⟨N, w1, w2, w3⟩, ⟨Q2, x1, x2, x3⟩⟩ := I
  obtain ⟨b1, b2, b3, b4⟩ := hb
  obtain ⟨M1, m, L', t, pos, e, kd, s1, hk, hK, hkd⟩ := k_tokens (b := fun i => mA M 2 i) K0 W k2 b1 b3 (fun i hi => ⟨rfl, (b4 i hi).2⟩) (by omega) h167 (by omega)
  obtain ⟨σa, s2, fa, Ta, z7⟩ := t_tape (b := fun i => mA M 2 i) b2 b3 (fun i hi => ⟨by rw [(b4 i hi).1]; exact (b4 i hi).2, (b4 i hi).2⟩)
  obtain ⟨σ1, hσ1⟩ : ∃ σ1, σ1 = tsI (tsI (tsI (tsI (tsI (tsI (tsI σa 0 0) 10 0) 18 0) 20 0) 37 0) 38 0) 39 0 := ⟨_, rfl⟩
  have fb : Ft [0, 10, 18, 20, 37, 38, 39] σa σ1 := by rw [hσ1]; exact (((((((Ft.rf _ σa).p_tsI rfl).p_tsI rfl).p_tsI rfl).p_tsI rfl).p_tsI rfl).p_tsI rfl).p_tsI rfl
  have f1 : Ft [0, 5, 7, 8, 10, 18, 20, 37, 38, 39] σ σ1 := (fa.mono (by decide)).tr (fb.mono (by decide))
  have T1 : TapeT σ1 (fun i => mA M 2 i) len := ⟨by rw [(fb 8 rfl).1]; exact Ta.1, Ta.2.1, fun i hi => by rw [(fb 5 rfl).2.2.1]; exact Ta.2.2 i hi⟩
  have hk0 := hk
  obtain ⟨i1, i2, i3, i4, i5, i6, ⟨i7a, i7b, i7c⟩, i8, ⟨kT, i9a, i9b, i9c, i9d, i9f⟩, -⟩ := hk
  have ht : t ≤ len := by omega
  have hLL : L' ≤ 4096 := i2.2.2.2.2.2.1
  have kn := kT.1
  have r1 : ∀ l, l ∈ arL → mR M1 4201 l = mR M 4201 l := fun l hl => kT.2.2.2.1 4201 l (by have := arL_lt hl; omega) (by omega)
  have arx : ∀ l, l ∈ arL → mR M 4201 l = 4398046511104 ∨ ((167 ≤ mR M 4201 l ∧ mR M 4201 l < mn M) ∧ mk M (mR M 4201 l) = 55 ∧ ∀ l', l' ∈ arL → l' ≠ l → mR M 4201 l' ≠ mR M 4201 l) := fun l hl => by
    rcases (hS l hl).2 with q | q
    · exact Or.inl q
    · exact Or.inr ⟨⟨q.1.1, q.1.2.1⟩, q.1.2.2, q.2⟩
  have anm : ∀ l, l ∈ arL → mR M 4201 l ≠ mR M 201 4 := fun l hl q => by
    have hlt := W.2.2.2.2.2.2.2.1
    rcases arx l hl with g | g
    · omega
    · have := g.2.1
      rw [q, W.2.1] at this; exact absurd this (by decide)
  have sT : ∀ o, o < mn M → (o ≠ 4 ∧ o ≠ 90 ∧ ¬ (91 ≤ o ∧ o ≤ 94) ∧ o ≠ mR M 201 4) → So M M1 o := fun o ho h => kT.so ho h
  have lsM1 : ∀ l, l ∈ arL → ∀ xs, Ls M l xs → Ls M1 l xs := fun l hl xs h => by
    have hl2 := arL_lt hl
    have hk22 := (hS l hl).1
    refine h.kp kn (fun o ho => (kT.2.1 o ho).1) (sT l (by omega) ⟨by omega, fun z => by rw [z, k90] at hk22; exact absurd hk22 (by decide), fun z => by rw [k91 l z.1 z.2] at hk22; exact absurd hk22 (by decide), fun z => by rw [z, W.2.1] at hk22; exact absurd hk22 (by decide)⟩) (fun z => ?_)
    rcases arx l hl with g | g
    · exact absurd g z
    · exact sT _ g.1.2 ⟨by omega, by omega, by omega, anm l hl⟩
  have hS1 : Sx M1 := fun l hl => by
    have hl2 := arL_lt hl
    refine ⟨by rw [(kT.2.1 l (by omega)).1]; exact (hS l hl).1, ?_⟩
    rw [r1 l hl]
    rcases arx l hl with g | g
    · exact Or.inl g
    · exact Or.inr ⟨⟨g.1.1, by omega, by rw [(kT.2.1 _ g.1.2).1]; exact g.2.1⟩, fun l' hl' hne => by rw [r1 l' hl']; exact g.2.2 l' hl' hne⟩
  obtain ⟨M5, t1, L5, L6, L7, F15, n5, m5, r5, v5, S5⟩ := k_textrows hS1 (by obtain ⟨x, h⟩ := l96; exact ⟨x, lsM1 96 (by decide) x h⟩) (by obtain ⟨x, h⟩ := l97; exact ⟨x, lsM1 97 (by decide) x h⟩) (by obtain ⟨x, h⟩ := l95; exact ⟨x, lsM1 95 (by decide) x h⟩) (by omega) (by omega) (fun M12 => obS (KL_X2_text_36 FU M12) (fun r74 M66 => some (r74, M66)) fun _ M66 => ob (K_X2_stop M66) fun r69 M68 => if mk M68 r69 = 7 then some ((.inr r69 : Unit ⊕ Nat), M68) else none)
  have t1' : K_X2_text M1 = obS (KL_X2_text_36 FU M5) (fun r74 M66 => some (r74, M66)) (fun _ M66 => ob (K_X2_stop M66) fun r69 M68 => if mk M68 r69 = 7 then some ((.inr r69 : Unit ⊕ Nat), M68) else none) := t1
  obtain ⟨σ2, nx, TI0⟩ := z_begin (M5 := M5) I0 hk0 hK hkd T1 f1 (by rw [hσ1]; exact ⟨⟨rfl, rfl, rfl⟩, rfl, rfl, rfl⟩) hB L5 L6 L7 F15 n5 r5 v5 S5 (by omega)
  have fr := fS_F_next _ _ _ nx
  have F2 : Ft [0, 5, 7, 8, 10, 11, 12, 13, 14, 15, 16, 17, 18, 20, 21, 37, 38, 39] σ σ2 := (f1.mono (by decide)).tr (fr.mono (by decide))
  have z72 : tI σ2 7 = 0 := by rw [(fr 7 rfl).1, (fb 7 rfl).1]; exact z7
  have H : LdC C B len P mss fss M M1 M5 σ σ2 m L L' t := ⟨⟨I0, k1, ht, hB, W⟩, ⟨kT, i1, i2, i9a, ⟨i9b, i9c⟩, ⟨i9d, by omega⟩, i9f⟩, ⟨F15.mono (fun o _ z => by
    rw [r1 95 (by decide), r1 96 (by decide), r1 97 (by decide)] at z
    unfold X16; omega), n5, m5, r5⟩, ⟨F2, z72⟩, cap⟩
  have x12 : ∀ k, [0, 10, 11, 12, 13, 14, 15, 16, 17, 18, 21].contains k = false → tI σ1 k = tI σ2 k := fun k hk => ((fr.mono (S' := [0, 10, 11, 12, 13, 14, 15, 16, 17, 18, 21]) (by decide)) k hk).1.symm
  have hx : (tI σ1 28 = tI σ2 28 ∧ tI σ1 34 = tI σ2 34 ∧ tI σ1 48 = tI σ2 48 ∧ tI σ1 49 = tI σ2 49) ∧ tI σ1 58 = tI σ2 58 ∧ tI σ1 65 = tI σ2 65 ∧ tI σ1 72 = tI σ2 72 := ⟨⟨x12 28 rfl, x12 34 rfl, x12 48 rfl, x12 49 rfl⟩, x12 58 rfl, x12 65 rfl, x12 72 rfl⟩
  have h9 : mI M5 9 1 = nI K9 := by rw [(H.s1 Fz.rf).i]; exact u1
  have fu := FUb
  have tw : F_load σ = ob (L_load_82 FU (tI σ1 28) (tI σ1 34) (tI σ1 48) (tI σ1 49) (tI σ1 58) (tI σ1 65) (tI σ1 72) σ2) fun _ s61 => J_load_147 (tI σ1 28) (tI σ1 34) (tI σ1 48) (tI σ1 49) (tI σ1 58) (tI σ1 65) (tI σ1 72) s61 := by
    unfold F_load
    rw [s2, ob_some]
    simp only [nm_eq]
    rw [← hσ1, nx, ob_some]
  unfold K_X0_load
  rw [tw, s1, ob_some, t1']
  rcases text_loop (y1 := tI σ1 28) (x2 := tI σ1 34) (x3 := tI σ1 48) (x4 := tI σ1 49) (x5 := tI σ1 58) (x6 := tI σ1 65) (x7 := tI σ1 72) h9 S5 (Nat.le_refl 120) (Nat.le_refl 12000) (by omega) (t + 1) _ M5 σ2 0 FU FU [] (by show t - 0 < t + 1; omega) (by omega) (by omega) (by show K9 + t ≤ 6000; omega) TI0 with ⟨C', M6, σ6, ns, d1, d2, d3, d4, d5⟩ | ⟨w, M6, σ6, d1, d2, d3⟩ | ⟨w, Ma, M6, σ6, d1, d2, d3, d4⟩
  · have fl : Ft ldS σ2 σ6 := (fS_L_load_82 _ _ _ _ _ _ _ _ _ _ _ d2).mono (by decide +kernel)
    obtain ⟨r, M', σ', g1, g2, g3⟩ := ld_good (x1 := tI σ1 28) (x2 := tI σ1 34) (x3 := tI σ1 48) (x4 := tI σ1 49) (x5 := tI σ1 58) (x6 := tI σ1 65) (x7 := tI σ1 72) H d3 d5 fl hf
    rw [d1, obS_inr, obS_inl, d2, ob_some]
    exact ⟨r, M', σ', g1, g2, g3⟩
  · have fl : Ft ldS σ2 σ6 := (fS_L_load_82 _ _ _ _ _ _ _ _ _ _ _ d2).mono (by decide +kernel)
    obtain ⟨r, M', σ', g1, g2, g3⟩ := ld_bad (x1 := tI σ1 28) (x2 := tI σ1 34) (x3 := tI σ1 48) (x4 := tI σ1 49) (x5 := tI σ1 58) (x6 := tI σ1 65) (x7 := tI σ1 72) H d3 fl hx
    rw [d1, obS_inr, obS_inr, nm_eq, g1, ob_some, d2, ob_some]
    exact ⟨r, M', σ', rfl, g2, g3⟩
  · have fl : Ft ldS σ2 σ6 := (fS_L_load_82 _ _ _ _ _ _ _ _ _ _ _ d3).mono (by decide +kernel)
    obtain ⟨r, M', σ', g1, g2, g3⟩ := ld_bad (x1 := tI σ1 28) (x2 := tI σ1 34) (x3 := tI σ1 48) (x4 := tI σ1 49) (x5 := tI σ1 58) (x6 := tI σ1 65) (x7 := tI σ1 72) H d4 fl hx
    rw [d1, obS_inl, d2, ob_some, ifT d4.1.2.1, obS_inr, nm_eq, g1, ob_some, d3, ob_some]
    exact ⟨r, M', σ', rfl, g2, g3⟩
end ZLOAD
