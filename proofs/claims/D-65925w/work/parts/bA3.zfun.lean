/-! Layer B: a function is read -/
set_option maxRecDepth 100000
section ZFUN
variable {C : PC} {T P : Nat → Prop} {Mt Mb M M' M1 M2 M3 : CM} {σt σ σ' σb σ1 : TS} {i i' ib dep c s n m L w fo row a x : Nat} {mss ns cs bs fs nfs : List Nat}
/-- a fault of a text, out of a function -/
theorem FL.fn (P0 : Pe C M σ i dep c s n) (hS : Sx M) (L97 : Ls M 97 ns) (F0 : Fz (Xl Mt) Mt M) (ha : ∀ l, l ∈ arL → mR M 4201 l = mR Mt 4201 l ∨ mn Mt ≤ mR M 4201 l) (htw : Tw σt σ) (h49 : ix (tI σt 49) ≤ ix (tI σ 49)) (h48 : ix (tI σt 48) ≤ ix (tI σ 48)) (h : Fh C M σ M' w σ1) (g : Tf σ1 σ') (f : Ft sFn σ σ1) : FL C Mt σt M' w σ' := by
  obtain ⟨f1, G, f3, f4⟩ := h.tf g
  have h167 := P0.n167
  obtain ⟨bs, l95⟩ := P0.l95
  exact FL.of P0 hS L97 F0 ha htw h49 h48 G (fun o _ z => Or.inl z) (Or.inl ((G.so (by omega) (by decide)).r _)) ⟨bs, l95.fz G (by omega) (fun o z => by rw [z, P0.en.1]; exact ⟨by decide, by decide⟩)⟩ f1 f3 (Tw.zf (f.tr g.2.2) f4 (by decide))
theorem Tf.rf (σ : TS) : Tf σ σ := ⟨⟨rfl, rfl⟩, Tz.rf _, Ft.rf _ _⟩
set_option maxHeartbeats 4000000 in
theorem z_function (I : TI C T Mt σt M σ i c s n mss ns) (hi : i < ct C) (hc : 120 ≤ c) (hs : 12000 ≤ s) (hn : 20 ≤ n) :
    (∃ M' σ' i' fo, K_X2_function (msI M 405 90 (nI (i + 1))) = some (.inl (), M') ∧ F_readFunction σ = some ((), σ') ∧ TI (fnC C fo) T Mt σt M' σ' i' c s n mss ns ∧ i < i') ∨ ∃ w M' σ', K_X2_function (msI M 405 90 (nI (i + 1))) = some (.inr w, M') ∧ F_readFunction σ = some ((), σ') ∧ FL C Mt σt M' w σ' := by
  have I0 := I
  obtain ⟨⟨P0, hcn, hcr, hcl, hf1⟩, ⟨⟨L88, L97⟩, HC⟩, hS, ⟨Pq, hT⟩, -, ⟨F0, ha0, h167t⟩, htw, hqz, h49t, h48t⟩ := I
  have hnf := P0.nf12
  have h167 := P0.n167
  have hc6 := P0.c6
  have k90 := P0.en.1
  have hit := P0.it
  obtain ⟨fs, nfs, l89, l96, hfl, hle, t48, hfn⟩ := P0.en.2.2.2.1
  obtain ⟨σ1, n1, P1, E1⟩ := z_step P0 hi
  have fn1 := fS_F_next _ _ _ n1
  obtain ⟨M1, hM1⟩ : ∃ M1, M1 = msI M 405 90 (nI (i + 1)) := ⟨_, rfl⟩
  have nm1 : mn M1 = mn M := by rw [hM1]; rfl
  rw [← hM1] at P1 E1 ⊢
  have r408 : mR M1 408 90 = 0 := by
    rcases P1.en.2.2.2.2 with ⟨_, q, _⟩ | ⟨q, _⟩
    · exact q
    · omega
  have cap1 := P1.cap (k := 4000) (by omega)
  have cN1 := P1.2.2.2.1
  obtain ⟨M2, hM2⟩ : ∃ M2, M2 = fxM M1 := ⟨_, rfl⟩
  obtain ⟨c1, ⟨c2, c2'⟩, ⟨c3, c4⟩, ⟨c5, c6⟩, c7, c8⟩ := fxM_ok M1 (by omega) (by omega) r408
  have hal := fx_al (fs := fs) (nfs := nfs) (M := M1) ⟨by omega, by omega⟩ (by omega)
  rw [← hM2] at c1 c2 c2' c3 c4 c5 c6 c7 c8 hal
  rw [nm1] at c2 c3 c4 c5 c6 c7 c8 hal
  have G2 : Fz (fun o => o = 90) M M2 := (E1.1.tr (c1.mono (fun _ _ z => absurd z (fun q => q)))).tr (Ph.sf M2 0)
  have x23 : ∀ o, o = 90 → mk M o ≠ 22 ∧ mk M o ≠ 55 := fun o z => by rw [z, k90]; exact ⟨by decide, by decide⟩
  have L2 : ∀ l xs, Ls M l xs → l < 167 → Ls M2 l xs := fun l xs h hl => h.fz G2 (by omega) x23
  have wc2 : ∀ w, wc M2 w = wc M w := fun w => P0.wcs G2 (fun o z => by rw [z]; exact k90) w
  have P2 : Ph C M2 σ1 (i + 1) (c + 14) (s + 2042) (n + 4) := P1.al c1 (by show mn M2 + _ ≤ _; omega) (by show ms M2 + _ ≤ _; omega)
  rw [hal (L2 89 fs l89 (by decide)) (L2 96 nfs l96 (by decide))]
  have hH2 : CnR (cm C) M2 σ1 (mss ++ ns) := by
    refine ⟨by rw [(fn1 49 rfl).1]; exact HC.1, HC.2.1, fun k hk => ?_⟩
    obtain ⟨b1, b2, w', b3, b4, b5, b6⟩ := HC.2.2 k hk
    have hlt := (hT.nx (hT.2.1 k hk).1.1.1).1
    have s := G2.so hlt.2 (by omega)
    exact ⟨by rw [s.k]; exact b1, b2, w', by rw [s.i]; exact b3, b4, b5, by rw [(fn1 41 rfl).2.2.2, wc2]; exact b6⟩
  have h48 : tI σ1 48 = nI (fs.length + nfs.length) := by rw [(fn1 48 rfl).1, ← hfl]; exact t48
  obtain ⟨full, hf, hfull, hgo⟩ : ∃ full : Nat, (full = 0 ∨ full = 1) ∧ (full = 1 ↔ tI σ1 48 = nI 12) ∧ (if nI fs.length + nI nfs.length = 12 then KJ_X2_function_44 (mn M) 90 1 M2 else KJ_X2_function_44 (mn M) 90 0 M2) = KJ_X2_function_44 (mn M) 90 (nI full) M2 := by
    have e : nI fs.length + nI nfs.length = nI (fs.length + nfs.length) := bI_add _ _
    by_cases q : fs.length + nfs.length = 12
    · exact ⟨1, Or.inr rfl, ⟨fun _ => by rw [h48, q], fun _ => rfl⟩, by rw [ifT (show nI fs.length + nI nfs.length = 12 from by rw [e, q]; rfl)]; rfl⟩
    · have hne : ¬ nI fs.length + nI nfs.length = 12 := fun h => q ((bI_eq (by omega) (by decide)).mp (e.symm.trans h))
      refine ⟨0, Or.inl rfl, ⟨fun h => absurd h (by decide), fun h => ?_⟩, by rw [ifF hne]; rfl⟩
      rw [h48] at h
      exact absurd ((bI_eq (by omega) (by decide)).mp h) q
  rw [hgo]
  unfold KJ_X2_function_44 F_readFunction
  rw [ifT (⟨rfl, P2.k90⟩ : (90 : Nat) = 90 ∧ mk M2 90 = 3), nm_eq, n1, ob_some]
  have fsub1 : Ft sFn σ σ1 := fn1.mono (by decide)
  have fx := fun {M' : CM} {σ' σ1 : TS} {w : Nat} (h : Fh C M σ M' w σ1) (g : Tf σ1 σ') (f : Ft sFn σ σ1) => FL.fn P0 hS L97 F0 ha0 htw h49t h48t h g f
  obtain ⟨fo, hfo⟩ : ∃ fo, fo = mn M := ⟨_, rfl⟩
  rw [← hfo] at c2 c3 c4 c5 c6 c7 c8 ⊢
  rcases z_newFn (kT := fun r s => J_readFunction_42 r s) P2 (by omega) (by omega) hH2 (L2 88 mss L88 (by decide)) (L2 97 ns L97 (by decide)) (Or.inl ⟨rfl, rfl⟩) hf hfull with ⟨w, σ3, a1, a2, hw1, hw2, hne, P3, E3, hi3, n3, hnew⟩ | ⟨w, M', r, σ', a1, a2, fb, ft⟩
  rotate_left
  · have a2' : (nm (tI σ1 12) fun v9 => ob (F_newName σ1) fun r11 s10 => ob (F_isBad s10) fun r15 s14 => if r15 = 0 then if tI s14 48 = 12 then ob (F_bad 7 v9 s14) fun r109 s108 => J_readFunction_42 r11 s108 else J_readFunction_42 r11 s14 else J_readFunction_42 r11 s14) = _ := a2
    obtain ⟨σ'', e, g⟩ := t_42b fb.2.2.2 r
    rw [a1, obS_inr, a2', e]
    exact Or.inr ⟨w, M', σ'', rfl, rfl, fx (fb.fh G2 E1.2.2.2.1) g (fsub1.tr (ft.mono (by decide)))⟩
  have a2' : (nm (tI σ1 12) fun v9 => ob (F_newName σ1) fun r11 s10 => ob (F_isBad s10) fun r15 s14 => if r15 = 0 then if tI s14 48 = 12 then ob (F_bad 7 v9 s14) fun r109 s108 => J_readFunction_42 r11 s108 else J_readFunction_42 r11 s14 else J_readFunction_42 r11 s14) = _ := a2
  rw [a1, obS_inl, a2']
  have fn3 := fS_F_next _ _ _ n3
  have hcnf : cnf C < 12 := by
    have : fs.length + nfs.length ≠ 12 := fun z => hne (by rw [h48, z])
    omega
  obtain ⟨M3, hM3⟩ : ∃ M3, M3 = msI M2 405 90 (nI (i + 1 + 1)) := ⟨_, rfl⟩
  rw [← hM3] at P3 E3 ⊢
  have nm3 : mn M3 = mn M2 := by rw [hM3]; rfl
  have k3 : ∀ o, mk M3 o = mk M2 o := fun o => by rw [hM3]; rfl
  have r3 : ∀ g o, mR M3 g o = mR M2 g o := fun g o => by rw [hM3]; rfl
  have G3 := G2.tr E3.1
  have kfo3 : mk M3 fo = 6 := by rw [k3]; exact c3
  rw [ifT kfo3, nm_eq]
  obtain ⟨M4, hM4⟩ : ∃ M4, M4 = msI M3 1000 fo (nI w) := ⟨_, rfl⟩
  have nm4 : mn M4 = mn M2 := by rw [hM4]; exact nm3
  have F4 : Fz (fun o => o = fo) M3 M4 := by rw [hM4]; exact Fz.rf.msI (fun _ => rfl)
  have G4 : Fz (fun o => o = 90) M M4 := G3.tr2 F4 (fun o ho z => by omega)
  rw [← hM4]
  have nd : ∀ (M' : CM), Fz (fun o => o = 90) M M' → mk M' fo = 6 → (∃ L, WN M' (cm C) L ∧ cm C ≤ 1280) → mn M' ≤ 601024 → ∀ o, o < mn M' → o = fo → ¬ Dp C (msR M' 408 90 0) o := fun M' G hk ⟨L, W, _⟩ hc o ho z => by
    rw [z] at ho ⊢
    exact nd_new P0 hS hT G W hc fo (by omega) ho (by rw [hk]; decide) (by rw [hk]; decide)
  unfold J_readFunction_42
  rw [nm_eq]
  obtain ⟨σ4, hσ4⟩ : ∃ σ4, σ4 = tsI σ3 38 0 := ⟨_, rfl⟩
  have f4 : Ft [36, 38] σ3 σ4 := by rw [hσ4]; exact (Ft.rf _ σ3).p_tsI rfl
  have fsub4 : Ft sFn σ σ4 := (fsub1.tr (fn3.mono (by decide))).tr (f4.mono (by decide))
  have z4 : Tz σ σ4 := (E1.2.2.2.1.tr E3.2.2.2.1).tr (Tz.ft f4 (by decide))
  rw [← hσ4]
  have P4 : Ph C M4 σ4 (i + 1 + 1) (c + 14) (s + 2042) (n + 4) := by
    have h := Pe.mu (c' := c + 14) (s' := s + 2042) P3 hcr (fz_408 F4) (nd M3 G3 kfo3 P3.wb (P3.cap (k := 0) (Nat.zero_le _)).1) (by show mn M4 + _ ≤ mn M3 + _; omega) (by rw [hM4]; show ms M3 + _ ≤ ms M3 + _; omega)
    exact (Ph.ta h hcr f4).wk (Nat.le_refl _) (Nat.le_refl _) (by omega)
  rcases z_passH P4 (by omega) (by omega) (x := 40) (by decide) with ⟨_, _, σ5, b1, b2, P5, E5, hi5, _, n5⟩ | ⟨w', M', y, σ', b1, b2, fb⟩
  rotate_left
  · obtain ⟨σ'', e, g⟩ := t_53b fb.2.2.2 (wc M2 w)
    rw [b1, obS_inr, b2, ob_some, e]
    exact Or.inr ⟨w', M', σ'', rfl, rfl, fx (fb.fh G4 z4) g (fsub4.tr ((fS_F_pass _ _ _ _ b2).mono (by decide)))⟩
  rw [b1, obS_inl, b2, ob_some]
  have fn5 := fS_F_next _ _ _ n5
  obtain ⟨M5, hM5⟩ : ∃ M5, M5 = msI M4 405 90 (nI (i + 1 + 1 + 1)) := ⟨_, rfl⟩
  rw [← hM5] at P5 E5 ⊢
  have nm5 : mn M5 = mn M2 := by rw [hM5]; exact nm4
  have G5 := G4.tr E5.1
  have z5 : Tz σ σ5 := z4.tr E5.2.2.2.1
  have fsub5 : Ft sFn σ σ5 := fsub4.tr (fn5.mono (by decide))
  have k5 : ∀ o, mk M5 o = mk M2 o := fun o => by rw [hM5, hM4, hM3]; rfl
  have r5 : ∀ g o, mR M5 g o = mR M2 g o := fun g o => by rw [hM5, hM4, hM3]; rfl
  have F25 : Fz (fun o => o = 90 ∨ o = fo) M2 M5 := ((E3.1.mono (fun o _ z => Or.inl z)).tr2 F4 (fun o _ z => Or.inr z)).tr2 E5.1 (fun o _ z => Or.inl z)
  obtain ⟨⟨L5, -⟩, L5'⟩ := lsq_e (Mb := M) (c7 M (by omega)) c8 F25 (by omega) (by omega) (by omega)
  have A5 : Fa C M M5 σ5 fo (fo + 1) [] := ⟨G5, ⟨by rw [r5]; exact c6, by rw [k5]; exact c3, by omega, by omega, by rw [r5]; exact c5⟩, L5, by rw [(fn5 38 rfl).1, hσ4]; rfl, fun k hk => absurd hk (Nat.not_lt_zero _)⟩
  have P5' : Ph C M5 σ5 (i + 1 + 1 + 1) c s n := P5.wk (by omega) (by omega) (by omega)
  have fu : 3 < FU := by have := FUb; omega
  rcases fargs_loop P0 hS hT hcr (by omega) (by omega) (wc M2 w) 3 M5 σ5 (i + 1 + 1 + 1) FU FU [] rfl fu fu P5' z5 A5 with ⟨M6, σ6, i6, bs, d1, d2, P6, hi6, z6, A6, hbs, s6⟩ | ⟨w', M', σ', d1, d2, fh⟩ | ⟨w', M6, M', σ', d1, d2, d3, fh⟩
  rotate_left
  · obtain ⟨σ'', e, g⟩ := t_174b fh.2.2.2.2 (wc M2 w)
    rw [d1, obS_inr, d2, ob_some, e]
    exact Or.inr ⟨w', M', σ'', rfl, rfl, fx fh g (fsub5.tr ((fS_L_readFunction_53 _ _ _ _ _ d2).mono (by decide)))⟩
  · obtain ⟨σ'', e, g⟩ := t_174b fh.2.2.2.2 (wc M2 w)
    unfold KJ_X2_function_123
    rw [d1, obS_inl, d2, obS_inr, d3, ob_some, e]
    exact Or.inr ⟨w', M', σ'', rfl, rfl, fx fh g (fsub5.tr ((fS_L_readFunction_53 _ _ _ _ _ d3).mono (by decide)))⟩
  rw [d1, obS_inl, d2, ob_some]
  have fsub6 : Ft sFn σ σ6 := fsub5.tr ((fS_L_readFunction_53 _ _ _ _ _ d2).mono (by decide))
  have bad174 : ∀ {s : TS}, Bd C s → ∃ σ'', (ob (F_pass 61 s) fun _ s73 => nm (tsI s73 39 1) fun s77 => ob (F_expression s77) fun r79 s78 => nm (tsI s78 39 0) fun s82 => ob (F_pass 59 s82) fun _ s83 => ob (F_isBad s83) fun r88 s87 => if r88 = 0 then if inb (tI s87 48) 12 then nm (tsB s87 40 (ix (tI s87 48)) (wc M2 w)) fun s92 => if inb (tI s92 48) 12 then nm (tsA s92 42 (ix (tI s92 48)) (tI s92 38)) fun s94 => if inb (tI s94 48) 12 then nm (tsA s94 43 (ix (tI s94 48)) r79) fun s96 => nm (tsI s96 48 ((tI s96 48) + 1)) fun s97 => nm (tsI s97 38 0) fun s98 => some ((), s98) else none else none else none else some ((), s87)) = some ((), σ'') ∧ Tf s σ'' := fun {s} hb => by
    obtain ⟨σ'', e, g⟩ := t_174b hb (wc M2 w)
    unfold J_readFunction_174 at e
    rw [t_passb hb.1, ob_some] at e
    exact ⟨σ'', e, g⟩
  unfold KJ_X2_function_123 J_readFunction_174
  rcases z_passH P6 (by omega) (by omega) (x := 41) (by decide) with ⟨_, _, σ7, b3, b4, P7, E7, hi7, _, n7⟩ | ⟨w', M', y, σ', b3, b4, fb⟩
  rotate_left
  · obtain ⟨σ'', e, g⟩ := bad174 fb.2.2.2
    rw [b3, obS_inr, b4, ob_some, e]
    exact Or.inr ⟨w', M', σ'', rfl, rfl, fx (fb.fh A6.1 z6) g (fsub6.tr ((fS_F_pass _ _ _ _ b4).mono (by decide)))⟩
  rw [b3, obS_inl, b4, ob_some]
  have fn7 := fS_F_next _ _ _ n7
  have fsub7 : Ft sFn σ σ7 := fsub6.tr (fn7.mono (by decide))
  have z7 : Tz σ σ7 := z6.tr E7.2.2.2.1
  have G7 := A6.1.tr E7.1
  rcases z_passH P7 (by omega) (by omega) (x := 61) (by decide) with ⟨_, _, σ8, b5, b6, P8, E8, hi8, _, n8⟩ | ⟨w', M', y, σ', b5, b6, fb⟩
  rotate_left
  · obtain ⟨σ'', e, g⟩ := bad174 fb.2.2.2
    rw [t_passb fb.2.2.2.1, ob_some] at e
    rw [b5, obS_inr, b6, ob_some, e]
    exact Or.inr ⟨w', M', σ'', rfl, rfl, fx (fb.fh G7 z7) g (fsub7.tr ((fS_F_pass _ _ _ _ b6).mono (by decide)))⟩
  rw [b5, obS_inl, b6, ob_some, nm_eq]
  have fn8 := fS_F_next _ _ _ n8
  have fsub8 : Ft sFn σ σ8 := fsub7.tr (fn8.mono (by decide))
  have z8 : Tz σ σ8 := z7.tr E8.2.2.2.1
  obtain ⟨M8, hM8⟩ : ∃ M8, M8 = msI (msI M6 405 90 (nI (i6 + 1))) 405 90 (nI (i6 + 1 + 1)) := ⟨_, rfl⟩
  rw [← hM8] at P8 E8 ⊢
  have G8 : Fz (fun o => o = 90) M M8 := G7.tr E8.1
  have E68 : Fz (fun o => o = 90) M6 M8 := E7.1.tr E8.1
  obtain ⟨B1, ⟨B2, B3, B4, B5, B6⟩, B7, B8, B9⟩ := A6
  have k906 : mk M6 90 = 3 := P6.k90
  have nm8 : mn M8 = mn M6 := by rw [hM8]; rfl
  have A8 : Fa C M M8 σ8 fo (fo + 1) bs := ⟨G8, ⟨by rw [hM8]; exact B2, by rw [hM8]; exact B3, B4, by omega, by rw [hM8]; exact B6⟩, ⟨B7.1.fz E68 B7.2.1.2 (fun o z => by rw [z, k906]; exact ⟨by decide, by decide⟩), ⟨B7.2.1.1, by have := B7.2.1.2; omega⟩, by rw [hM8]; exact B7.2.2⟩, by rw [(fn8 38 rfl).1, (fn7 38 rfl).1]; exact B8, fun k hk => by
    obtain ⟨w', b1, b2⟩ := B9 k hk
    exact ⟨w', b1.fz E68 (fun o z => by rw [z, k906]; decide), by rw [(fn8 36 rfl).2.2.2, (fn7 36 rfl).2.2.2, b2, hM8]; rfl⟩⟩
  have P9 := P8.ar A8 hbs h167
  obtain ⟨σ9, hσ9⟩ : ∃ σ9, σ9 = tsI σ8 39 1 := ⟨_, rfl⟩
  have f9 : Ft [39] σ8 σ9 := by rw [hσ9]; exact (Ft.rf _ σ8).p_tsI rfl
  rw [← hσ9] at P9 ⊢
  have fsub9 : Ft sFn σ σ9 := fsub8.tr (f9.mono (by decide))
  have z9 : Tz σ σ9 := z8.tr (Tz.ft f9 (by decide))
  have f408 : mR M8 408 90 = fo := A8.2.1.1
  rcases z_expr P9 hcl (by omega) (by omega) (by omega) with ⟨a, M9, x, σ10, i9, g1, g2, P10, hi9, E9, R⟩ | ⟨w', M', y, σ', g1, g2, fb⟩
  rotate_left
  · have hb : Bd C σ' := fb.2.2.2
    have f0 : Ft [39] σ' (tsI σ' 39 0) := (Ft.rf _ σ').p_tsI rfl
    rw [g1, obS_inr, g2, ob_some, t_174e hb.1]
    have FH : Fh C M σ M' w' σ' := FB.fh (C := arC C bs.length) fb G8 z9
    exact Or.inr ⟨w', M', _, rfl, rfl, fx FH ⟨⟨rfl, rfl⟩, Tz.ft f0 (by decide), f0.mono (by decide)⟩ (fsub9.tr ((fS_F_expression _ _ _ g2).mono (by decide)))⟩
  have nm9 := E9.1.1
  have s89 : So M8 M9 fo := E9.1.so A8.2.1.2.2.2.1 (by omega)
  have kfo9 : mk M9 fo = 6 := by rw [s89.k]; exact A8.2.1.2.1
  have fex := fS_F_expression _ _ _ g2
  have G9 := G8.tr E9.1
  rw [g1, obS_inl, g2, ob_some, f408, ifT kfo9, nm_eq, nm_eq]
  obtain ⟨M10, hM10⟩ : ∃ M10, M10 = msR M9 1002 fo a := ⟨_, rfl⟩
  have nm10 : mn M10 = mn M9 := by rw [hM10]; rfl
  have F10 : Fz (fun o => o = fo) M9 M10 := by rw [hM10]; exact Fz.rf.msR (fun _ => rfl)
  obtain ⟨σ11, hσ11⟩ : ∃ σ11, σ11 = tsI σ10 39 0 := ⟨_, rfl⟩
  have f11 : Ft [39] σ10 σ11 := by rw [hσ11]; exact (Ft.rf _ σ10).p_tsI rfl
  have P11a := P10.ra hcr
  rw [← hM10, ← hσ11]
  rw [← hσ11] at P11a
  have P11 : Ph C M10 σ11 i9 c s n := by
    have h := Pe.mu (c' := c) (s' := s) P11a hcr (fz_408 F10) (nd M9 G9 kfo9 P11a.wb (P11a.cap (k := 0) (Nat.zero_le _)).1) (by show mn M10 + _ ≤ mn M9 + _; omega) (by rw [hM10]; show ms M9 + _ ≤ ms M9 + _; omega)
    exact Ph.wk h (Nat.le_refl _) (Nat.le_refl _) (by omega)
  have G10 : Fz (fun o => o = 90) M M10 := G9.tr2 F10 (fun o ho z => by omega)
  have fsub11 : Ft sFn σ σ11 := (fsub9.tr (fex.mono (by decide))).tr (f11.mono (by decide))
  have z11 : Tz σ σ11 := (z9.tr E9.2.2.2.1).tr (Tz.ft f11 (by decide))
  rcases z_passH P11 (by omega) (by omega) (x := 59) (by decide) with ⟨_, _, σ12, b7, b8, P12, E12, hi12, _, n12⟩ | ⟨w', M', y, σ', b7, b8, fb⟩
  rotate_left
  · rw [b7, obS_inr, b8, ob_some, t_isBad1 fb.2.2.2.1, ob_some, ifF (show ¬ (1 : Int32) = 0 from by decide)]
    exact Or.inr ⟨w', M', σ', rfl, rfl, fx (fb.fh G10 z11) (Tf.rf _) (fsub11.tr ((fS_F_pass _ _ _ _ b8).mono (by decide)))⟩
  rw [b7, obS_inl, b8, ob_some, t_isBad0 P12.g0, ob_some, ifT (rfl : (0 : Int32) = 0)]
  have fn12 := fS_F_next _ _ _ n12
  obtain ⟨M12, hM12⟩ : ∃ M12, M12 = msI M10 405 90 (nI (i9 + 1)) := ⟨_, rfl⟩
  rw [← hM12] at P12 E12 ⊢
  have nm12 : mn M12 = mn M10 := by rw [hM12]; rfl
  have k12 : ∀ o, mk M12 o = mk M9 o := fun o => by rw [hM12, hM10]; rfl
  have r12 : ∀ g o, g ≠ 1002 → mR M12 g o = mR M9 g o := fun g o hg => by rw [hM12, mR_msI, hM10, mR_msR, ifF (fun z => hg z.1)]
  have i12 : ∀ g, mI M12 g fo = mI M9 g fo := fun g => by rw [hM12, mI_msI, ifF (by omega), hM10, mI_msR]
  have s912 : ∀ o, o < mn M9 → o ≠ 90 → o ≠ fo → So M9 M12 o := fun o h1 h2 h3 => (F10.so h1 h3).tr (E12.1.so (by omega) h2)
  have w9 : ∀ w, wc M9 w = wc M w := fun w => P0.wcs G9 (fun o z => by rw [z]; exact k90) w
  have w12 : ∀ w, wc M12 w = wc M9 w := fun w => by rw [hM12, hM10]; rfl
  -- the body
  obtain ⟨d, R⟩ := R
  have v912 : Wz C C (fun o => mn M8 ≤ o ∧ o < mn M9) M9 M12 σ10 σ12 := ⟨⟨by omega, fun o _ => k12 o⟩, ⟨fun o ho => s912 o ho.2 (by have := ho.1; omega) (by have := ho.1; omega), fun o ho hk => s912 o ho (fun z => by rw [z, P10.en.1] at hk; exact absurd hk (by decide)) (fun z => by rw [z, kfo9] at hk; exact absurd hk (by decide))⟩, ⟨Nat.le_refl _, fun w _ => w12 w⟩, ⟨(Tz.ft f11 (by decide)).tr E12.2.2.2.1, (Qz.ft f11 (by decide)).tr (Qz.ft fn12 (by decide)), (Mz.ft f11 (by decide)).tr (Mz.ft fn12 (by decide)), (Ez.ft f11 (by decide)).tr (Ez.ft fn12 (by decide))⟩, ⟨⟨Nat.le_refl _, hnf⟩, fun _ _ => rfl, Nat.le_refl _⟩, fun k _ => by rw [(fn12 42 rfl).2.2.1, (f11 42 rfl).2.2.1], rfl⟩
  have R12 : AR (fun o => mn M ≤ o ∧ o < mn M12) (tN σ12) (tQ σ12) (cm C) bs.length (cnf C) (cfn C) M12 σ12 d 0 a x := AR.wz v912 (fun o ho => ⟨by have := ho.1; have := B1.1; omega, by have := ho.2; omega⟩) ⟨Nat.le_refl _, hnf, Nat.le_refl _⟩ d d 0 a x (Nat.le_refl _) R
  have hx9 : x < 9000 := by
    have t9 := (Pe.tN9 P10).1
    cases d with
    | zero => exact absurd R (fun z => z)
    | succ d => exact Nat.lt_of_lt_of_le R.1.2.2.2 t9
  have e12 : mR M12 4201 (fo + 1) = mR M8 4201 (fo + 1) := by rw [r12 _ _ (by decide)]; exact (E9.1.so (by have := A8.2.2.1.2.1.2; omega) (by omega)).r 4201
  have s8912 : ∀ o, mn M ≤ o → o < mn M8 → o ≠ fo → So M8 M12 o := fun o h1 h2 h3 => (E9.1.so h2 (by omega)).tr (s912 o (by omega) (by omega) h3)
  have k22 := A8.2.2.1.1.1
  have LB : LsB M M12 (fo + 1) bs := by
    obtain ⟨l1, ⟨l2, l3⟩, l4, l5⟩ := A8.2.2.1
    have F812 : Fz (fun o => o = 90 ∨ o = fo) M8 M12 := ((E9.1.mono (fun o _ z => Or.inl z)).tr2 F10 (fun o _ z => Or.inr z)).tr2 E12.1 (fun o _ z => Or.inl z)
    refine ⟨l1.so2 F812 (s8912 _ l2 l3 (by omega)) (fun z => s8912 _ (l5 (fun q => by rw [q] at z; have := P8.cap (k := 0) (Nat.zero_le _); omega)) z (fun q => ?_)), ⟨l2, by omega⟩, by rw [e12]; exact l4, fun z => by rw [e12] at z ⊢; exact l5 z⟩
    have k55 := l1.k55 (P8.cap (k := 0) (Nat.zero_le _)).1 z
    rw [q, A8.2.1.2.1] at k55
    exact absurd k55 (by decide)
  have name12 : mI M12 1000 fo = nI w := by
    rw [i12, s89.i, hM8, mI_msI, ifF (by omega), mI_msI, ifF (by omega), s6.i, hM5, mI_msI, ifF (by omega), hM4, mI_msI, ifT ⟨rfl, rfl⟩]
  have w2 : wc M2 w = wc M w := wc2 w
  have P12' : Ph C M12 σ12 (i9 + 1) (c + 2) (s + 64) n := P12.wk (by omega) (by omega) (by omega)
  have e38 : tI σ12 38 = nI bs.length := by
    rw [(fn12 38 rfl).1, (f11 38 rfl).1, (fex 38 rfl).1, (f9 38 rfl).1]; exact A8.2.2.2.1
  obtain ⟨M14, σ13, g3, g4, g5⟩ := fn_fin (fo := fo) (row := fo + 1) (bs := bs) (w := w) (a := a) (x := x) I0 (by omega) P12' (G10.tr E12.1) (by rw [r12 _ _ (by decide), E9.2.1]; exact f408) (by rw [k12]; exact kfo9) ⟨by omega, by omega⟩ (by rw [r12 _ _ (by decide), s89.r]; exact A8.2.1.2.2.2.2) LB hbs e38 ⟨name12, hw1, hw2⟩ (by rw [hM12, mR_msI, hM10, mR_msR, ifT ⟨rfl, rfl⟩]) hx9 ⟨d, R12⟩ (z11.tr E12.2.2.2.1) (fsub11.tr (fn12.mono (by decide))) hcnf
  left
  rw [w2]
  exact ⟨M14, σ13, i9 + 1, fo, g3, g4, g5, by omega⟩
end ZFUN
