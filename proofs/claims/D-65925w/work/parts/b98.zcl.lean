/-! Layer B: a class is read: from its keyword -/
set_option maxRecDepth 100000
section ZCL
variable {C C' : PC} {T P P' X : Nat → Prop} {Mt Mb M N M' M1 M2 M7 : CM} {σt σ σ' σ1 σ2 σ3 σ7 σb : TS} {i i' dep c s n w l cc v E0 : Nat} {mss ns cs xs : List Nat} {x1 : Int32}
/-- what the reading of a class's head gives to its reading -/
theorem clT_es (E : Es Mb σ1 N σ3) (h : Ft sF_txt σ1 σ3) (n : Int64) (x1 : Int32) : Es Mb (tsI σ1 73 0) N (clT σ3 cc n x1) := by
  obtain ⟨e1, e2, e3, e4, e5⟩ := E
  obtain ⟨f, ⟨_, _, _, _, _, v73, _⟩, _⟩ := clT_v σ3 cc n x1
  have g1 : Ft [73] σ1 (tsI σ1 73 0) := (Ft.rf _ σ1).p_tsI rfl
  refine ⟨e1, e2, e3, ((Tz.ft g1.sy (by decide)).tr e4).tr (Tz.ft f (by decide)), fun k hk => ?_⟩
  obtain ⟨a1, a2, a3, a4⟩ := h k hk
  by_cases q : k = 73
  · subst q
    have hA : ∀ i, tA (clT σ3 cc n x1) 73 i = tA σ3 73 i := fun i => by
      show tA (tsA (tsA (tsA (tsA (tsB σ3 41 cc n) 44 cc x1) 45 cc (tI σ3 58)) 46 cc 0) 47 cc 0) 73 i = _
      rw [tA_tsA, ifF (by omega), tA_tsA, ifF (by omega), tA_tsA, ifF (by omega), tA_tsA, ifF (by omega)]
      rfl
    have hB : ∀ i, tB (clT σ3 cc n x1) 73 i = tB σ3 73 i := fun i => by
      show tB (tsB σ3 41 cc n) 73 i = _
      rw [tB_tsB, ifF (by omega)]
    exact ⟨by rw [v73]; rfl, a2, fun i => (hA i).trans (a3 i), fun i => (hB i).trans (a4 i)⟩
  · have hk2 : ([41, 44, 45, 46, 47, 73, 49] : List Nat).contains k = false := by
      have e : ∀ m, sF_txt.contains m = true → k ≠ m := fun m hm z => by rw [z, hm] at hk; exact absurd hk (by decide)
      have e1 := e 41 (by decide); have e2 := e 44 (by decide); have e3 := e 45 (by decide); have e4 := e 46 (by decide); have e5 := e 47 (by decide); have e6 := e 49 (by decide)
      simp only [List.contains_cons, List.contains_nil, Bool.or_false, Bool.or_eq_false_iff, beq_eq_false_iff_ne]
      exact ⟨e1, e2, e3, e4, e5, q, e6⟩
    obtain ⟨b1, b2, b3, b4⟩ := f k hk2
    obtain ⟨c1, c2, c3, c4⟩ := g1 k (by simp only [List.contains_cons, List.contains_nil, Bool.or_false, beq_eq_false_iff_ne]; exact q)
    exact ⟨by rw [b1, a1, c1], by rw [b2, a2, c2], fun i => by rw [b3, a3, c3], fun i => by rw [b4, a4, c4]⟩
set_option maxHeartbeats 4000000 in
theorem z_class (I : TI C T Mt σt M σ i c s n mss ns) (hi : i < ct C) (hx : x1 = 0 ∨ x1 = 1) (hkw : F_isWord 470020285804 σ = some (if x1 = 0 then 1 else 0, σ)) (hc : 120 ≤ c) (hs : 12000 ≤ s) (hn : 20 ≤ n) :
    ClO C T Mt σt i c s n mss ns (K_X2_newModel x1 (msI M 405 90 (nI (i + 1)))) (F_readClass σ) := by
  have I0 := I
  obtain ⟨⟨P0, hcn, hcr, hcl, hf1⟩, ⟨⟨L88, L97⟩, HC⟩, hS, ⟨Pq, hT⟩, ⟨⟨E00, e58, hE0⟩, ⟨K1, k65, k1, k2⟩, ⟨Q1, q72, q1, q2⟩⟩, ⟨F0, ha0, h167t⟩, htw, hqz, h49t, h48t⟩ := I
  have hnf := P0.nf12
  have h167 := P0.n167
  have hc6 := P0.c6
  have k90 := P0.en.1
  have hit := P0.it
  have t1280 := P0.t1280
  obtain ⟨σ1, n1, P1, E1⟩ := z_step P0 hi
  have fn1 := fS_F_next _ _ _ n1
  obtain ⟨M1, hM1⟩ : ∃ M1, M1 = msI M 405 90 (nI (i + 1)) := ⟨_, rfl⟩
  have nm1 : mn M1 = mn M := by rw [hM1]; rfl
  rw [← hM1] at P1 E1 ⊢
  -- the twin
  have htwin : F_readClass σ = J_readClass_15 x1 σ := by
    unfold F_readClass
    rw [hkw, ob_some]
    rcases hx with h | h
    · rw [ifT h, ifF (show ¬ (1 : Int32) = 0 from by decide), h]
    · rw [ifF (show ¬ x1 = 0 from by rw [h]; decide), ifT (rfl : (0 : Int32) = 0), h]
  rw [htwin]
  unfold J_readClass_15
  rw [n1, ob_some]
  -- the new class
  have cap1 := P1.cap (k := 4000) (by omega)
  have cN1 := P1.2.2.2.1
  obtain ⟨M2, hM2⟩ : ∃ M2, M2 = cxM M1 x1 := ⟨_, rfl⟩
  obtain ⟨Mb, hMb⟩ : ∃ Mb, Mb = msR M1 411 90 (mn M1) := ⟨_, rfl⟩
  obtain ⟨c1, ⟨c2, c2'⟩, ⟨c3, c4, c5⟩, ⟨c6, c7, c8, c9, c10⟩, ⟨c11, c12⟩, c13, c14⟩ := cxM_ok M1 x1 (by omega) (by omega)
  have PMb : Pe C Mb σ1 (i + 1) 0 (c + 16) (s + 2048) (n + 4) := by rw [hMb]; exact P1.s411
  have nMb : mn Mb = mn M := by rw [hMb]; exact nm1
  have FMb : Fz (fun o => o = 90) M Mb := E1.1.tr (by rw [hMb]; exact Fz.rf.msR (fun _ => rfl))
  have hal := cx_al (mss := mss) (ns := ns) x1 (M := M1) ⟨by omega, by omega⟩ (by omega)
  rw [← hM2] at c1 c2 c2' c3 c4 c5 c6 c7 c8 c9 c10 c11 c12 c13 c14 hal
  rw [← hMb] at c1
  rw [nm1] at c2 c3 c4 c5 c6 c7 c8 c9 c10 c11 c12 c13 c14
  have G2 : Fz (fun o => o = 90) M M2 := FMb.tr (c1.mono (fun _ _ z => absurd z (fun q => q)))
  have x23 : ∀ o, o = 90 → mk M o ≠ 22 ∧ mk M o ≠ 55 := fun o z => by rw [z, k90]; exact ⟨by decide, by decide⟩
  have L882 : Ls M2 88 mss := L88.fz G2 (by omega) x23
  have L972 : Ls M2 97 ns := L97.fz G2 (by omega) x23
  rw [hal L882 L972]
  have ms12 : ms M2 = ms Mb + 11 := by rw [c2', hMb]; rfl
  have P2 : Pe C M2 σ1 (i + 1) 0 (c + 13) (s + 2037) (n + 4) := PMb.al c1 (by omega) (by omega)
  have Eb2 : Es Mb σ1 M2 σ1 := Es.al c1 (by omega)
  have wc2 : ∀ w, wc M2 w = wc M w := fun w => P0.wcs G2 (fun o z => by rw [z]; exact k90) w
  have hH2 : CnR (cm C) M2 σ1 (mss ++ ns) := by
    refine ⟨by rw [(fn1 49 rfl).1]; exact HC.1, HC.2.1, fun k hk => ?_⟩
    obtain ⟨b1, b2, w', b3, b4, b5, b6⟩ := HC.2.2 k hk
    have hlt : (mss ++ ns).getD k 0 < mn M := (hT.nx (hT.2.1 k hk).1.1.1).1.2
    have h167' : 167 ≤ (mss ++ ns).getD k 0 := (hT.nx (hT.2.1 k hk).1.1.1).1.1
    have s := G2.so hlt (by omega)
    exact ⟨by rw [s.k]; exact b1, b2, w', by rw [s.i]; exact b3, b4, b5, by rw [(fn1 41 rfl).2.2.2, wc2]; exact b6⟩
  have hlen : (mss ++ ns).length = mss.length + ns.length := List.length_append
  have h49 : tI σ1 49 = nI (mss.length + ns.length) := by rw [← hlen]; exact hH2.1
  have h24 := HC.2.1
  obtain ⟨full, hf, hfull, hgo⟩ : ∃ full : Nat, (full = 0 ∨ full = 1) ∧ (full = 1 ↔ tI σ1 49 = nI 24) ∧ (if nI mss.length + nI ns.length = 24 then KJ_X2_newModel_52 x1 (mn M1) 90 1 M2 else KJ_X2_newModel_52 x1 (mn M1) 90 0 M2) = KJ_X2_newModel_52 x1 (mn M1) 90 (nI full) M2 := by
    have e : nI mss.length + nI ns.length = nI (mss.length + ns.length) := bI_add _ _
    by_cases q : mss.length + ns.length = 24
    · exact ⟨1, Or.inr rfl, ⟨fun _ => by rw [h49, q], fun _ => rfl⟩, by rw [ifT (show nI mss.length + nI ns.length = 24 from by rw [e, q]; rfl)]; rfl⟩
    · have hne : ¬ nI mss.length + nI ns.length = 24 := fun h => q ((bI_eq (by omega) (by decide)).mp (e.symm.trans h))
      refine ⟨0, Or.inl rfl, ⟨fun h => absurd h (by decide), fun h => ?_⟩, by rw [ifF hne]; rfl⟩
      rw [h49] at h
      exact absurd ((bI_eq (by omega) (by decide)).mp h) q
  rw [hgo]
  unfold KJ_X2_newModel_52
  rw [ifT (⟨rfl, by rw [P2.en.1]⟩ : (90 : Nat) = 90 ∧ mk M2 90 = 3)]
  -- the old state's frame and faults
  have tw1 : Tw σ σ1 := Tw.ft fn1 (by decide)
  have c491 : ix (tI σ 49) ≤ ix (tI σ1 49) := by rw [(fn1 49 rfl).1]; exact Nat.le_refl _
  have c481 : ix (tI σ 48) ≤ ix (tI σ1 48) := by rw [(fn1 48 rfl).1]; exact Nat.le_refl _
  rcases z_newName (kT := fun r s => J_readClass_53 x1 r s) P2 (by omega) (by omega) hH2 L882 L972 (Or.inr ⟨rfl, rfl⟩) hf hfull with ⟨w, σ3, a1, a2, hw1, hw2, hne, P3, E3, hi3, n3, hnew⟩ | ⟨w, M', r, σ', a1, a2, fb, ft⟩
  · have a2' : (nm (tI σ1 12) fun v9 => ob (F_newName σ1) fun r11 s10 => ob (F_isBad s10) fun r15 s14 => if r15 = 0 then if tI s14 49 = 24 then ob (F_bad 7 v9 s14) fun r109 s108 => J_readClass_53 x1 r11 s108 else J_readClass_53 x1 r11 s14 else J_readClass_53 x1 r11 s14) = _ := a2
    rw [a1, obS_inl, a2']
    have fn3 := fS_F_next _ _ _ n3
    have hcc : mss.length + ns.length < 24 := by
      have : mss.length + ns.length ≠ 24 := fun z => hne (by rw [h49, z])
      omega
    obtain ⟨cc, hcc'⟩ : ∃ cc, cc = mss.length + ns.length := ⟨_, rfl⟩
    rw [← hcc'] at h49 hcc
    obtain ⟨M3, hM3⟩ : ∃ M3, M3 = msI M2 405 90 (nI (i + 1 + 1)) := ⟨_, rfl⟩
    rw [← hM3] at P3 E3 ⊢
    have nm3 : mn M3 = mn M2 := by rw [hM3]; rfl
    have Eb3 := Eb2.tr E3
    have k3 : ∀ o, mk M3 o = mk M2 o := fun o => by rw [hM3]; rfl
    obtain ⟨v, hv⟩ : ∃ v, v = mn M := ⟨_, rfl⟩
    rw [nm1, ← hv, ifT (show mk M3 v = 10 from by rw [k3, hv]; exact c3), nm_eq]
    rw [← hv] at c2 c3 c4 c5 c6 c7 c8 c9 c10 c11 c12 c13 c14
    obtain ⟨N, hN⟩ : ∃ N, N = msI M3 1800 v (nI w) := ⟨_, rfl⟩
    have nmN : mn N = mn M2 := by rw [hN]; exact nm3
    have FN : Fz (fun o => o = v) M3 N := by rw [hN]; exact Fz.rf.msI (fun _ => rfl)
    have FbN : Fz none_ Mb N → Es Mb σ1 N σ1 := fun F => Es.al F (by omega)
    rw [← hN]
    rw [t_class53 P3.g0 (by rw [(fn3 49 rfl).1]; exact h49) hcc]
    -- both stand before the elements
    have so3 : ∀ o, o < mn M2 → o ≠ 90 → So M2 M3 o := fun o h1 h2 => E3.1.so h1 h2
    have soN : ∀ o, o < mn M2 → o ≠ v → So M3 N o := fun o h1 h2 => FN.so (by omega) h2
    have EbN : Es Mb σ1 N σ3 := by
      have s90 := soN 90 (by omega) (by omega)
      refine ⟨Eb3.1.tr2 FN (fun o ho z => by omega), fun g => (s90.r g).trans (Eb3.2.1 g), fun g h1 h2 => (s90.i g).trans (Eb3.2.2.1 g h1 h2), Eb3.2.2.2.1, Eb3.2.2.2.2⟩
    have EB := clT_es (cc := cc) EbN Eb3.2.2.2.2 (wc M2 w) x1
    obtain ⟨fT, ⟨t41, t44, t45, t46, t47, t73, t49⟩, tO⟩ := clT_v σ3 cc (wc M2 w) x1
    obtain ⟨σ4, hσ4⟩ : ∃ σ4, σ4 = clT σ3 cc (wc M2 w) x1 := ⟨_, rfl⟩
    rw [← hσ4] at EB fT t41 t44 t45 t46 t47 t73 t49 tO ⊢
    have nd : ∀ o, o < mn M3 → o = v → ¬ Dp C M3 o := fun o ho z hd => by
      have := Dp.kd P3 hd ho (by omega)
      rw [z, k3, c3] at this
      revert this; decide
    have PN : Pe C N σ4 (i + 1 + 1) 0 c s n := ((P3.mu (c' := c) (s' := s) hcr FN nd (by omega) (by rw [show ms N = ms M3 by rw [hN]; rfl]; omega)).wk (Nat.le_refl _) (Nat.le_refl _) (by omega) (n' := n)).clt fT
    have wcN : ∀ w, wc N w = wc M2 w := fun w => by
      obtain ⟨L, W, _⟩ := P3.wb
      have e3 : wc M3 w = wc M2 w := by rw [hM3]; rfl
      rw [← e3]
      refine wc_so (soN 4 (by omega) (by omega)) (soN _ (by have := W.2.2.2.2.2.2.2.1; omega) (fun z => ?_)) w
      have := W.2.1
      rw [z, k3, c3] at this; exact absurd this (by decide)
    have rN : ∀ g o, mR N g o = mR M2 g o := fun g o => by rw [hN, hM3]; rfl
    have iN : ∀ g, g ≠ 1800 → mI N g v = mI M2 g v := fun g hg => by rw [hN, mI_msI, ifF (by omega), hM3, mI_msI, ifF (by omega)]
    have kN : ∀ o, mk N o = mk M2 o := fun o => by rw [hN, hM3]; rfl
    have F2N : Fz (fun o => o = 90 ∨ o = v) M2 N := (E3.1.mono (fun o _ z => Or.inl z)).tr2 FN (fun o _ z => Or.inr z)
    obtain ⟨⟨La, _⟩, La'⟩ := lsq_e (Mb := Mb) (c11 Mb (by omega)) c12 F2N (by omega) (by omega) (by omega)
    obtain ⟨⟨Lb, _⟩, Lb'⟩ := lsq_e (Mb := Mb) (c13 Mb (by omega)) c14 F2N (by omega) (by omega) (by omega)
    have t58 : tI σ4 58 = nI E00 := by rw [(fT 58 rfl).1, (fn3 58 rfl).1, (fn1 58 rfl).1]; exact e58
    have hX0 : ClX C Mb N σ4 v (v + 1) cc E00 [] := by
      refine ⟨⟨by rw [rN]; exact c8, ⟨by omega, by omega⟩, by rw [kN]; exact c3, by rw [rN]; exact c6, by omega⟩, ?_, La, ⟨hcc, by rw [t45, (fn3 58 rfl).1, (fn1 58 rfl).1]; exact e58, t46, t58, by decide, by rw [hlen] at hE0; omega, by omega⟩, fun j hj => absurd hj (Nat.not_lt_zero _)⟩
      rw [iN 1801 (by decide), c9, t44]
      rcases hx with h | h
      · exact Or.inl ⟨h, h⟩
      · exact Or.inr ⟨h, h⟩
    have g73 : Ft [73] σ1 (tsI σ1 73 0) := (Ft.rf _ σ1).p_tsI rfl
    have TcT : Tc cc σ3 σ4 := ⟨⟨(Qz.ft fT (by decide)).b, Mz.ft fT (by decide), Ez.ft fT (by decide)⟩, fun k hk => ⟨fun g _ => (tO k hk).1 g, (tO k hk).2⟩, fun k => ⟨fun g hg => by rcases hg with rfl | rfl <;> exact (fT _ rfl).2.2.1 k, (fT 40 rfl).2.2.2 k⟩⟩
    exact cl_body I0 (by rw [hlen, hcc']) hcc hv hx hc hs hn (PMb.clt (g73.mono (by decide))) FMb nMb PN (by omega) EB hX0 ⟨by rw [hN, mI_msI, ifT ⟨rfl, rfl⟩], hw1, hw2, by rw [wcN]; exact t41⟩ (by rw [iN 1801 (by decide)]; exact c9) (by rw [rN]; exact c7) (by rw [iN 1804 (by decide)]; exact c10) Lb Lb' La' t73 t47 (((Tc.ft fn1 (by decide)).tr (Tc.ft fn3 (by decide))).tr TcT) ((E1.2.2.2.1.tr E3.2.2.2.1).tr (Tz.ft fT (by decide))) (E1.2.2.2.1.tr (Tz.ft g73 (by decide))) (((Qz.ft fn1 (by decide)).tr (Qz.ft fn3 (by decide))).tr (Qz.ft fT (by decide))) t49 (by rw [(fT 48 rfl).1, (fn3 48 rfl).1, (fn1 48 rfl).1]) (by rw [(fT 65 rfl).1, (fn3 65 rfl).1, (fn1 65 rfl).1]) (by rw [(fT 72 rfl).1, (fn3 72 rfl).1, (fn1 72 rfl).1]) (fun k => ⟨by rw [(fT 42 rfl).2.2.1, (fn3 42 rfl).2.2.1, (fn1 42 rfl).2.2.1], by rw [(fT 43 rfl).2.2.1, (fn3 43 rfl).2.2.1, (fn1 43 rfl).2.2.1]⟩)
  · have a2' : (nm (tI σ1 12) fun v9 => ob (F_newName σ1) fun r11 s10 => ob (F_isBad s10) fun r15 s14 => if r15 = 0 then if tI s14 49 = 24 then ob (F_bad 7 v9 s14) fun r109 s108 => J_readClass_53 x1 r11 s108 else J_readClass_53 x1 r11 s14 else J_readClass_53 x1 r11 s14) = _ := a2
    rw [a1, obS_inr, a2', t_class53b fb.2.2.2.1]
    have FB' := fb.tr Eb2
    obtain ⟨f1, f2, f3, f4⟩ := FB'
    have G := FMb.tr f2.1
    obtain ⟨bs, l95⟩ := P0.l95
    exact Or.inr ⟨w, M', σ', rfl, rfl, FL.of P0 hS L97 F0 ha0 htw h49t h48t G (fun o _ z => Or.inl z) (Or.inl ((G.so (by omega) (by decide)).r _)) ⟨bs, l95.fz G (by omega) (fun o z => x23 o z)⟩ f1 f3 (tw1.tr (Tw.ft ft (by decide)) c491 c481)⟩
end ZCL
