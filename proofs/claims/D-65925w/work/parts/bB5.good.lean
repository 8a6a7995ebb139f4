/-! Layer B: load: a text without a fault -/
set_option maxRecDepth 100000
/-- what comes behind a good text -/
def kGood (M : CM) : Option (Int32 × CM) := nm (msI M 1 1 0) fun M15 => nm (msI M15 9 1 ((mI M15 9 1) + ((mI M15 404 90) - 1))) fun M16 => ob (K_J2_addAll 88 97 M16) fun _ M17 => ob (K_J2_addAll 89 96 M17) fun _ M21 => ob (K_J2_size 88 M21) fun r26 M25 => ob (K_J2_size 89 M25) fun r30 M29 => some (r26 + r30, M29)
section LDGOOD
variable {C C' : PC} {M M1 M5 M' M6 M7 : CM} {σ σ' σ2 σ6 σ7 : TS} {mss fss ns : List Nat} {B len m L L' t o l w : Nat} {P : Nat → Prop} {b : Nat → Int32} {pos : Nat → Nat} {x1 x2 x3 x4 x5 x6 x7 : Int32}
set_option maxHeartbeats 2000000 in
theorem ld_good (H : LdC C B len P mss fss M M1 M5 σ σ2 m L L' t) (T6 : TI C' P M5 σ2 M6 σ6 t 120 12000 (6999 - 4 * (B + t)) mss ns) (cs : Cs (bgC C b len m t pos (mn M5 + 16 * t + 120) (ms M5 + 2048 * t + 12000) (2399 - (B + t))) C') (fl : Ft ldS σ2 σ6) (hf : mI M 4 1 = tI σ 2 ∧ mI M 5 1 = tI σ 3) : ∃ r M' σ', kGood M6 = some (r, M') ∧ J_load_147 x1 x2 x3 x4 x5 x6 x7 σ6 = some (r, σ') ∧ LdO C B len P mss M σ M' σ' := by
  obtain ⟨⟨P6, hcn, hcr, hcl, hf1⟩, ⟨⟨L88, L97⟩, HC⟩, S6, ⟨P', hT6⟩, ⟨⟨E', p1, p2⟩, ⟨K', p3, p4, p5⟩, Q', p6, p7, p8⟩, ⟨F56, ha, n167⟩, tw, qz, h49, h48⟩ := T6
  obtain ⟨⟨K0, -, h167, k90, k2, k91⟩, ⟨c1, c2, c3, c4⟩, ⟨kt, K9, u1, u2, u3⟩, ⟨l88, l89, -, -, -, g88, g89, hS⟩, ⟨⟨m24, t49⟩, f12, cf, t48, hfn⟩, hT, -⟩ := H.1.1
  obtain ⟨-, k1, ht, hB, W⟩ := H.1
  obtain ⟨kT, KM1, W1, hLL, hmn1, hm, hw1⟩ := H.2.1
  obtain ⟨F15, n5, m5, r5⟩ := H.2.2.1
  obtain ⟨F2, z7⟩ := H.2.2.2.1
  have hcap := H.2.2.2.2
  have hL4 := W1.2.2.2.2.2.1
  have s1 := H.s1 F56
  have k6 : mk M6 1 = 1 := by rw [s1.k]; exact k1
  -- the context
  obtain ⟨q1, q2, q3, q4, q5, q6, q7, q8, q9⟩ := cs
  have hcm : cm C' = m := q3
  have hct : ct C' = t := q4
  have hcN : cN C' = mn M5 + 16 * t + 120 := q6
  have hcS : cS C' = ms M5 + 2048 * t + 12000 := q7
  have hcX : cX C' = 1 + (B + t) := by
    rw [q8, bgC_cX]
    omega
  have h1000 : cfn C' 1000 = cfn C 1000 := by rw [q9]; exact bgC_fn (by decide)
  obtain ⟨⟨d1, d2, d3, d4, d5⟩, d6⟩ : (mn M6 + 16 * (ct C' - t) + 120 ≤ cN C' ∧ ms M6 + 2048 * (ct C' - t) + 12000 ≤ cS C' ∧ cN C' ≤ 601024 ∧ cS C' ≤ 7293034 ∧ ct C' ≤ 1280) ∧ True := ⟨P6.2.2.2.1, trivial⟩
  rw [hcN, hct] at d1
  rw [hcS, hct] at d2
  obtain ⟨N, Q2, w1, -, w2, w3, z1, -, z2, z3⟩ := P6.nodes
  rw [hct] at w3 z3
  have hN1 : 1 ≤ N := by unfold Lo at w2; omega
  obtain ⟨fs, nfs, fa, fb, fc, fd, fe, ff⟩ := P6.en.2.2.2.1
  -- rows
  have row := fun l hl => H.row (l := l) F56 hl
  have n6 := F56.1
  have n06 : mn M ≤ mn M6 := (H.f6 F56).1
  have k06 : ∀ o, o < mn M → mk M6 o = mk M o := fun o ho => (H.f6 F56).k ho
  have l89' : Ls M6 89 fss := l89.kp n06 k06 (row 89 (Or.inr rfl)).1 (row 89 (Or.inr rfl)).2
  have hfs : fs = fss := fa.uq l89'
  subst hfs
  have e8 : mR M6 4201 88 = mR M 4201 88 := (row 88 (Or.inl rfl)).1.r _
  have e9 : mR M6 4201 89 = mR M 4201 89 := (row 89 (Or.inr rfl)).1.r _
  have A8 := H.ar (l := 88) (by decide)
  have A9 := H.ar (l := 89) (by decide)
  have sx : ∀ l, l ∈ arL → mR M6 4201 l = 4398046511104 ∨ ((167 ≤ mR M6 4201 l ∧ mR M6 4201 l < mn M6) ∧ mk M6 (mR M6 4201 l) = 55 ∧ ∀ l', l' ∈ arL → l' ≠ l → mR M6 4201 l' ≠ mR M6 4201 l) := fun l hl => by
    rcases (S6 l hl).2 with q | q
    · exact Or.inl q
    · exact Or.inr ⟨⟨q.1.1, q.1.2.1⟩, q.1.2.2, q.2⟩
  -- counts
  have m404 : mI M6 404 90 = nI (t + 1) := by rw [← hct]; exact P6.1.2.2.1.1
  have t18 : tI σ6 18 = nI (t + 1) := P6.1.2.2.2.1.2.2.2
  have m9 : mI M6 9 1 = nI K9 := by rw [s1.i]; exact u1
  have t19 : tI σ6 19 = nI K9 := by rw [(fl 19 rfl).1, (F2 19 rfl).1]; exact u2
  obtain ⟨M16, hM16⟩ : ∃ M16, M16 = msI (msI M6 1 1 0) 9 1 (nI (K9 + t)) := ⟨_, rfl⟩
  have G1 : Fz (fun o => o = 1) M6 M16 := by rw [hM16]; exact ((Fz.rf (X := fun o => o = 1)).msI (fun _ => rfl)).msI (fun _ => rfl)
  have r16 : ∀ g o, mR M16 g o = mR M6 g o := fun g o => by rw [hM16]; rfl
  have n16 : mn M16 = mn M6 ∧ ms M16 = ms M6 := by rw [hM16]; exact ⟨rfl, rfl⟩
  have s16 : ∀ o, o < mn M6 → o ≠ 1 → So M6 M16 o := fun o ho h => G1.so ho h
  have sub1 : nI (t + 1) - 1 = nI t := by rw [show (1 : Int32) = nI 1 from rfl, nI_sub (by omega)]; rfl
  have k16 : kGood M6 = ob (K_J2_addAll 88 97 M16) fun _ M17 => ob (K_J2_addAll 89 96 M17) fun _ M21 => ob (K_J2_size 88 M21) fun r26 M25 => ob (K_J2_size 89 M25) fun r30 M29 => some (r26 + r30, M29) := by
    unfold kGood
    rw [nm_eq, nm_eq, mI_msI, ifF (by omega), m9, mI_msI, ifF (by omega), m404, sub1, bI_add, ← hM16]
  have ls16 : ∀ l xs, l ∈ arL → Ls M6 l xs → Ls M16 l xs := fun l xs hl h => h.fz G1 (by have := arL_lt hl; omega) (fun o z => by rw [z, k6]; exact ⟨by decide, by decide⟩)
  have hlen : (mss ++ ns).length = mss.length + ns.length := List.length_append
  have h24 : mss.length + ns.length ≤ 24 := by rw [← hlen]; exact HC.2.1
  have lg16 : ∀ l, l = 88 ∨ l = 89 → Lg M l → Lg M16 l := fun l hl g => by
    have hl2 : l ∈ arL := by rcases hl with rfl | rfl <;> decide
    refine g.kp (by omega) (fun o ho => by rw [G1.k (by omega)]; exact k06 o ho) ((row l hl).1.tr (s16 l (by omega) (by omega))) (fun z => ((row l hl).2 z).tr (s16 _ ?_ ?_))
    · rcases H.ar hl2 with g | g <;> omega
    · rcases H.ar hl2 with g | g <;> omega
  obtain ⟨ra, M7, g1, g2, g3, g4, g5, g6, g7⟩ := ls_addAll (ls16 88 _ (by decide) L88) (lg16 88 (Or.inl rfl) g88) (ls16 97 _ (by decide) L97) (by omega) (by rw [r16, e8]; omega) (by omega) ⟨by omega, by omega⟩
  rw [r16, e8] at g4 g5
  -- the functions' row
  have x9 : So M16 M7 89 := g4.so (by omega) (by omega)
  have x9a : mR M16 4201 89 ≠ 4398046511104 → So M16 M7 (mR M16 4201 89) := fun z => by
    rw [r16, e9] at z ⊢
    rcases A9 with q | ⟨q1, q2, q3⟩
    · exact absurd q z
    · have := q3 88 (by decide) (by decide)
      exact g4.so (by omega) (by omega)
  have l7 : ∀ l xs, l ∈ arL → l ≠ 88 → Ls M16 l xs → Ls M7 l xs := fun l xs hl hne h => by
    have := arL_lt hl
    refine h.kp g4.1 (fun o ho => g4.k ho) (g4.so (by omega) (by omega)) (fun z => ?_)
    rw [r16] at z ⊢
    rcases sx l hl with q | ⟨q1, q2, q3⟩
    · exact absurd q z
    · have := q3 88 (by decide) (by omega)
      rw [e8] at this
      exact g4.so (by omega) (by omega)
  have lg9 : Lg M7 89 := (lg16 89 (Or.inr rfl) g89).kp g4.1 (fun o ho => g4.k ho) x9 x9a
  have e97 : mR M7 4201 89 = mR M 4201 89 := by rw [x9.r, r16, e9]
  obtain ⟨rb, M8, j1, j2, j3, j4, j5, j6, j7⟩ := ls_addAll (l7 89 _ (by decide) (by decide) (ls16 89 _ (by decide) fa)) lg9 (l7 96 _ (by decide) (by decide) (ls16 96 _ (by decide) fb)) (by have := g4.1; omega) (by rw [e97]; omega) (by omega) ⟨by omega, by omega⟩
  rw [e97] at j4 j5
  have n7 := g4.1
  have n8 := j4.1
  -- behind both
  have h88 : mR M7 4201 88 ≠ 89 ∧ (mR M 4201 89 < mn M → mR M7 4201 88 ≠ mR M 4201 89) := by
    rcases g5 with g | g
    · rw [g]
      refine ⟨by omega, fun z q => ?_⟩
      rcases A9 with p | ⟨p1, p2, p3⟩
      · omega
      · exact p3 88 (by decide) (by decide) q
    · exact ⟨by omega, fun z => by omega⟩
  have d88 : So M7 M8 88 := j4.so (by omega) (by omega)
  have d88a : mR M7 4201 88 ≠ 4398046511104 → So M7 M8 (mR M7 4201 88) := fun z => by
    have hlt : mR M7 4201 88 < mn M7 := by
      rcases g5 with g | g
      · rw [g] at z ⊢; rcases A8 with p | p <;> omega
      · exact g.2
    refine j4.so hlt (fun q => ?_)
    rcases q with q | q
    · exact h88.1 q
    · rcases A9 with p | p
      · omega
      · exact h88.2 p.1.2 q
  have l88' : Ls M8 88 (mss ++ ns) := g2.kp j4.1 (fun o ho => j4.k ho) d88 d88a
  have lg88' : Lg M8 88 := g3.kp j4.1 (fun o ho => j4.k ho) d88 d88a
  have hf12 : (fs ++ nfs).length = fs.length + nfs.length := List.length_append
  have K8 : kGood M6 = some (nI (mss ++ ns).length + nI (fs ++ nfs).length, M8) := by
    rw [k16, g1, ob_some, j1, ob_some, ls_size l88', ob_some, ls_size j2, ob_some]
  obtain ⟨σ8, hσ8⟩ : ∃ σ8, σ8 = tsI σ6 19 (nI (K9 + t)) := ⟨_, rfl⟩
  have T8 : J_load_147 x1 x2 x3 x4 x5 x6 x7 σ6 = some (nI (mss ++ ns).length + nI (fs ++ nfs).length, σ8) := by
    have hle : (tI σ6 19 + tI σ6 18) - 1 ≤ 6000 := by
      rw [t19, t18, bI_add, show (1 : Int32) = nI 1 from rfl, nI_sub (by omega), show (6000 : Int32) = nI 6000 from rfl, bI_le (by omega) (by decide)]; omega
    rw [t_load_good P6.g0 hle, HC.1, fe, fc, ← hf12, t19, t18, sub1, bI_add K9 t, ← hσ8]
  have f8 : Ft [19] σ6 σ8 := by rw [hσ8]; exact (Ft.rf _ _).p_tsI rfl
  have F68 : Fz (X67 M) M6 M8 := ((G1.mono (fun o _ z => Or.inl z)).tr2 g4 (fun o _ z => by
    rcases z with z | z
    · exact Or.inr (Or.inl z)
    · exact Or.inr (Or.inr (Or.inr (Or.inl z))))).tr2 j4 (fun o _ z => by
    rcases z with z | z
    · exact Or.inr (Or.inr (Or.inl z))
    · exact Or.inr (Or.inr (Or.inr (Or.inr z))))
  have n68 : mn M8 ≤ mn M6 + 4 ∧ ms M8 ≤ ms M6 + 240 := by omega
  have i49 : ix (tI σ2 49) = mss.length := by rw [(F2 49 rfl).1, t49, ix_nI (by omega)]
  have i48 : ix (tI σ2 48) = cnf C := by rw [(F2 48 rfl).1, t48, ix_nI (by omega)]
  obtain ⟨⟨tz1, -, tz3, tz4⟩, tc, tf⟩ := tw
  rw [i49] at tc
  rw [i48] at tf
  have z68 : Tz σ6 σ8 ∧ Qz σ6 σ8 ∧ Mz σ6 σ8 ∧ Ez σ6 σ8 := ⟨Tz.ft f8 (by decide), Qz.ft f8 (by decide), Mz.ft f8 (by decide), Ez.ft f8 (by decide)⟩
  have hz : Tz σ σ8 ∧ Qz σ σ8 ∧ Mz σ σ8 ∧ Ez σ σ8 := ⟨((Tz.ft F2 (by decide)).tr tz1).tr z68.1, ((Qz.ft F2 (by decide)).tr qz).tr z68.2.1, ((Mz.ft F2 (by decide)).tr tz3).tr z68.2.2.1, ((Ez.ft F2 (by decide)).tr tz4).tr z68.2.2.2⟩
  have h42 : ∀ k, k < cnf C → tA σ8 42 k = tA σ 42 k := fun k hk => by rw [(f8 42 rfl).2.2.1, (tf k hk).1 42 (Or.inl rfl), (F2 42 rfl).2.2.1]
  obtain ⟨v, Fd, KK, WW, kk⟩ := H.wv (C' := C') F56 F68 hz h42 hcm ⟨by omega, fd⟩ (fun k hk => by
    rw [(ff k (by omega)).1, getD_app_l (by omega), (hfn k hk).1]) (Nat.le_of_eq h1000) hcr
  -- the world of the text, moved
  have x67 : ∀ o, o < mn M6 → X67 M o → ¬ P' o ∧ mk M6 o ≠ 23 := fun o ho z => by
    have a8 := sx 88 (by decide)
    have a9 := sx 89 (by decide)
    rw [e8] at a8
    rw [e9] at a9
    refine ⟨fun hp => ?_, ?_⟩
    · obtain ⟨a, b⟩ := hT6.nx hp
      have b8 := b 88 (by decide)
      have b9 := b 89 (by decide)
      rw [e8] at b8
      rw [e9] at b9
      unfold X67 at z; omega
    · rcases z with z | z | z | z | z
      · rw [z, k6]; decide
      · rw [z, (S6 88 (by decide)).1]; decide
      · rw [z, (S6 89 (by decide)).1]; decide
      · rcases a8 with q | q
        · omega
        · rw [z, q.2.1]; decide
      · rcases a9 with q | q
        · omega
        · rw [z, q.2.1]; decide
  have s4 : So M6 M8 4 := F68.so (by omega) (fun z => by unfold X67 at z; omega)
  have hnm6 : mR M6 201 4 = mR M1 201 4 := ((H.f16 F56).so (o := 4) (by have := kT.1; omega) (fun z => by
    have a5 := H.ar (l := 95) (by decide)
    have a6 := H.ar (l := 96) (by decide)
    have a7 := H.ar (l := 97) (by decide)
    unfold X16 at z; omega)).r 201
  have sN : So M6 M8 (mR M6 201 4) := by
    obtain ⟨⟨a, a'⟩, -⟩ := H.n1
    have b8 := (H.an (l := 88) (by decide)).2
    have b9 := (H.an (l := 89) (by decide)).2
    rw [hnm6]
    exact F68.so (by omega) (fun z => by unfold X67 at z; omega)
  have rows8 : ∀ l, l ∈ arL → mR M8 4201 l = mR M6 4201 l ∨ (l = 88 ∧ mn M6 ≤ mR M8 4201 l ∧ mR M8 4201 l < mn M7) ∨ (l = 89 ∧ mn M7 ≤ mR M8 4201 l ∧ mR M8 4201 l < mn M8) := fun l hl => by
    have := arL_lt hl
    by_cases q8 : l = 88
    · subst q8
      rw [d88.r]
      rcases g5 with g | g
      · exact Or.inl (g.trans e8.symm)
      · exact Or.inr (Or.inl ⟨rfl, by omega, g.2⟩)
    · by_cases q9 : l = 89
      · subst q9
        rcases j5 with g | g
        · exact Or.inl (g.trans e9.symm)
        · exact Or.inr (Or.inr ⟨rfl, g⟩)
      · exact Or.inl ((F68.so (by omega) (fun z => by unfold X67 at z; omega)).r _)
  have k55 : ∀ l xs, Ls M8 l xs → mR M8 4201 l < mn M8 → mk M8 (mR M8 4201 l) = 55 := fun l xs h z => h.k55 (by omega) z
  have S8 : Sx M8 := S6.mv (by omega) (by omega) F68 (fun l hl => by
    rcases rows8 l hl with q | ⟨q, q1, q2⟩ | ⟨q, q1, q2⟩
    · exact Or.inl q
    · subst q; exact Or.inr (Or.inr ⟨q1, by omega, k55 _ _ l88' (by omega)⟩)
    · subst q; exact Or.inr (Or.inr ⟨by omega, q2, k55 _ _ j2 q2⟩)) (fun l l' hl hl' hne hm hlt => by
    have a : mR M6 4201 l = 4398046511104 ∨ mR M6 4201 l < mn M6 := by rcases sx l hl with q | q <;> omega
    have a' : mR M6 4201 l' = 4398046511104 ∨ mR M6 4201 l' < mn M6 := by rcases sx l' hl' with q | q <;> omega
    rcases rows8 l hl with q | ⟨q, q1, q2⟩ | ⟨q, q1, q2⟩ <;> rcases rows8 l' hl' with p | ⟨p, p1, p2⟩ | ⟨p, p1, p2⟩ <;> omega)
  have l8 : ∀ l xs, l ∈ arL → l ≠ 88 → l ≠ 89 → Ls M6 l xs → Ls M8 l xs := fun l xs hl h8 h9 h => by
    have := arL_lt hl
    refine h.kp F68.1 (fun o ho => F68.k ho) (F68.so (by omega) (fun z => by unfold X67 at z; omega)) (fun z => ?_)
    rcases sx l hl with q | ⟨q1, q2, q3⟩
    · exact absurd q z
    · have b8 := q3 88 (by decide) (by omega)
      have b9 := q3 89 (by decide) (by omega)
      rw [e8] at b8
      rw [e9] at b9
      exact F68.so (by omega) (fun z => by unfold X67 at z; omega)
  have w68 : ∀ w, wc M8 w = wc M6 w := fun w => wc_so s4 sN w
  have v8 : Wz C' C' P' M6 M8 σ6 σ8 := Wz.of fd F68 x67 (fun o ho => (hT6.nx ho).1.2) (fun w _ => w68 w) z68 (fun k _ => (f8 42 rfl).2.2.1 k)
  have T8' : TP C' P M5 M8 σ8 (mss ++ ns) P' := hT6.mv fd F68 x67 (fun w _ => w68 w) (fun l hl => by
    rcases rows8 l hl with q | q | q
    · exact Or.inl q
    · exact Or.inr q.2.1
    · exact Or.inr (by omega)) (s4.r _) z68 (fun k _ => ⟨fun f hf => (f8 f (by rcases hf with rfl | rfl | rfl | rfl <;> rfl)).2.2.1 k, (f8 41 rfl).2.2.2 k⟩) (fun k _ => ⟨(f8 42 rfl).2.2.1 k, (f8 43 rfl).2.2.1 k⟩)
  have ti8 : ∀ k, k ≠ 19 → tI σ8 k = tI σ6 k := fun k hk => (f8 k (by simpa using hk)).1
  have s18 : So M16 M7 1 := g4.so (by omega) (by omega)
  have s19 : So M7 M8 1 := j4.so (by omega) (by omega)
  have i8 : ∀ g, mI M8 g 1 = mI M16 g 1 := fun g => by rw [s19.i, s18.i]
  have hct0 : ct C' - t = 0 := by omega
  rw [hct0] at p5 p8
  obtain ⟨b5, l95⟩ := P6.l95
  refine ⟨_, M8, σ8, K8, T8, C', P', ns, fs ++ nfs, ?_, fun o h => ?_, v, Fd, ⟨fun g h1 h4 h5 h9 => ?_, fun g => ?_⟩, bt0 ?_ ?_, ⟨?_, ?_⟩, ?_, ?_, ?_, ?_, fun l hl => ?_⟩
  · refine ⟨⟨KK, ⟨L', by rw [hcm]; exact WW⟩, by omega, kk⟩, ⟨hcn, hcr, hf1, by rw [hcm]; omega⟩, ⟨⟨by rw [ti8 22 (by decide), (fl 22 rfl).1, (F2 22 rfl).1]; exact kt.1, fun j hj => by rw [(f8 23 rfl).2.2.2, (fl 23 rfl).2.2.2, (F2 23 rfl).2.2.2]; exact kt.2 j hj⟩, K9 + t, ?_, ?_, by omega⟩, ⟨l88', j2, ⟨_, l8 95 _ (by decide) (by decide) (by decide) l95⟩, ⟨_, l8 96 _ (by decide) (by decide) (by decide) fb⟩, ⟨_, l8 97 _ (by decide) (by decide) (by decide) L97⟩, lg88', j3, S8⟩, ⟨⟨HC.2.1, by rw [ti8 49 (by decide)]; exact HC.1⟩, by omega, by omega, by rw [ti8 48 (by decide)]; exact fe, fun k hk => ⟨(ff k hk).1, (ff k hk).2.wz (hT6.2.2.1 k hk) v8 hk ((f8 40 rfl).2.2.2 k)⟩⟩, T8'.tt, ⟨E', by rw [ti8 58 (by decide)]; exact p1, p2⟩, ⟨K', by rw [ti8 65 (by decide)]; exact p3, p4, by omega⟩, ⟨Q', by rw [ti8 72 (by decide)]; exact p6, p7, by omega⟩, ⟨N, by rw [ti8 28 (by decide)]; exact w1, hN1, by omega⟩, Q2, by rw [ti8 34 (by decide)]; exact z1, z2, by omega⟩
    · rw [i8, hM16, mI_msI, ifT ⟨rfl, rfl⟩]
    · rw [hσ8]; rfl
  · rcases (hT6.1 o h).1 with q | q
    · exact Or.inl q
    · exact Or.inr (by have := kT.1; omega)
  · rw [i8, hM16, mI_msI, ifF (by omega), mI_msI, ifF (by omega)]; exact s1.i g
  · rw [s19.r, s18.r, r16]; exact s1.r g
  · rw [i8, hM16, mI_msI, ifF (by omega), mI_msI, ifT ⟨rfl, rfl⟩]
  · rw [ti8 7 (by decide), (fl 7 rfl).1]; exact z7
  · rw [i8, hM16, mI_msI, ifF (by omega), mI_msI, ifF (by omega), s1.i, ti8 2 (by decide), (fl 2 rfl).1, (F2 2 rfl).1]; exact hf.1
  · rw [i8, hM16, mI_msI, ifF (by omega), mI_msI, ifF (by omega), s1.i, ti8 3 (by decide), (fl 3 rfl).1, (F2 3 rfl).1]; exact hf.2
  · rw [ti8 0 (by decide)]; exact P6.g0
  · rw [W.2.2.1, WW.2.2.1]; omega
  · rw [W.2.2.1, WW.2.2.1]; omega
  · rw [s4.r 201, hnm6]; exact kT.2.2.2.2.2.2.2
  · have h5 : mn M ≤ mn M5 := by have := kT.1; omega
    rcases rows8 l hl with g | ⟨-, g, -⟩ | ⟨-, g, -⟩
    · rw [g]
      rcases ha l hl with y | y
      · exact Or.inl (y.trans (H.r5 hl))
      · exact Or.inr (by omega)
    · exact Or.inr (by omega)
    · exact Or.inr (by have := g4.1; omega)
end LDGOOD
