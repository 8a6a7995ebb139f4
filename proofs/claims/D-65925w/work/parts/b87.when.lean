/-! Layer B: equations: actions of a when; when -/
set_option maxRecDepth 100000
section WHEN
variable {C Cb : PC} {M M' M0 M1 M2 M4 M5 Ma Mb Ms : CM} {σ σ' σ0 σ1 σ2 σ4 σ5 σb s1 : TS} {i dep c s n i' dep' c' s' n' d0 w so v a o q i0 ib depb cb' sb' nb' l p L : Nat} {os ns : List Nat} {X P : Nat → Prop} {α β γ δ : Type} {G : γ → CM → δ → TS → Prop}
theorem when_step (P : PE C M σ i dep c s n) (hc : 80 ≤ c) (hs : 8000 ≤ s) (h3 : K_X2_isKey 3 M = some (0, M)) (f x : Nat) : (F_isWord 125779886106996 σ = some (0, σ) ∧ KL_X2_when_24 (f + 1) x M = obS (kAc 61 (mn M) (kA6 (mn M)) (eqM M 61)) (fun w M => some (.inr (.inr w), M)) (kAr f x)) ∨ ∃ σ', F_isWord 125779886106996 σ = some (1, σ) ∧ F_next σ = some ((), σ') ∧ Pe C (msI (eqM M 28) 405 90 (nI (i + 1))) σ' (i + 1) dep (c + 13) (s + 2034) (n + 4) ∧ Es (eqM M 28) σ (msI (eqM M 28) 405 90 (nI (i + 1))) σ' ∧ KL_X2_when_24 (f + 1) x M = obS (kB7 (mn M) (msI (eqM M 28) 405 90 (nI (i + 1)))) (fun w M => some (.inr (.inr w), M)) (kAr f x) := by
  obtain ⟨a4, a5, a6, a7, a8⟩ := P.1.2.2.2.1
  have h167 := P.1.n167
  have P7 : Pe C (mnew M 13 0 8) σ i dep (c - 1) (s - 8) n := P.1.al Fz.rf.mnew (by rw [mn_mnew]; omega) (by rw [ms_mnew]; omega)
  obtain ⟨j1, j2, j3, -⟩ := eqM_ok M 28 P.1.c6
  have P2 : Pe C (eqM M 28) σ i dep (c - 3) (s - 14) n := P.1.al j1 (by omega) (by omega)
  obtain ⟨j1', j2', j3', -⟩ := eqM_ok M 61 P.1.c6
  have P3 : Pe C (eqM M 61) σ i dep (c - 3) (s - 14) n := P.1.al j1' (by omega) (by omega)
  rw [KL_X2_when_24, h3, ob_some, ifT (rfl : (0 : Int32) = 0), ifT ⟨by omega, by omega⟩, nm_eq, nm_eq]
  rcases y_key P7.px (j := 28) (x := 28) (c := 125779886106996) rfl (by decide) (by decide) with ⟨k1, k2, k3, k4, k5⟩ | ⟨k1, k2, -⟩
  · right
    rcases z_takeKey P2 (j := 28) (x := 28) (y := 125779886106996) rfl (by decide) (by decide) with ⟨σ', t1, t2, t3, P4, E4, hi⟩ | ⟨t1, t2⟩
    · refine ⟨σ', k2, t3, P4.wk (by omega) (by omega) (by omega), E4, ?_⟩
      rw [k1, ob_some, ifF (show ¬ (1 : Int32) = 0 from by decide)]
      unfold KJ_X2_when_52_24 kB7 kAc kA7 kA6
      rw [ifT (show ¬ mn M = 0 by omega), x13_init ⟨by omega, by omega⟩ h167, ob_some, t1, ob_some, ifF (show ¬ (1 : Int32) = 0 from by decide)]
      simp only [obS_as, obS_ite, obS_nm, obS_inl]
      rfl
    · rw [k2] at t2
      injection t2 with t2; injection t2 with t2 _; exact absurd t2 (by decide)
  · left
    rcases z_takeKey P3 (j := 28) (x := 28) (y := 125779886106996) rfl (by decide) (by decide) with ⟨σ', t1, t2, t3, P4, E4, hi⟩ | ⟨t1, t2⟩
    · rw [k2] at t2
      injection t2 with t2; injection t2 with t2 _; exact absurd t2 (by decide)
    · refine ⟨k2, ?_⟩
      rw [k1, ob_some, ifT (rfl : (0 : Int32) = 0)]
      unfold KJ_X2_when_52_24 kAc kA6
      rw [ifT (show ¬ mn M = 0 by omega), x13_init ⟨by omega, by omega⟩ h167, ob_some, t1, ob_some, ifT (rfl : (0 : Int32) = 0)]
      simp only [obS_as, obS_ite, obS_nm, obS_inl]
      rfl
theorem bwe_when (h : Bre C σ s1) (f : Nat) (x y z : Int32) : BWe C σ (L_readWhen_20 (f + 1) x y z s1) := by
  rw [L_readWhen_20, t_isBad1 h.b, ob_some, ifF (by decide)]
  exact BWe.sm h
theorem tA61_as (f : Nat) (x1 x2 x3 : Int32) : (ob (F_ref σ) fun r26 s25 => ob (F_pass 61 s25) fun _ s29 => ob (F_expression s29) fun r34 s33 => ob (F_pass 59 s33) fun _ s37 => ob (F_eq 6 r26 r34 0 s37) fun r42 s41 => if x2 = 0 then L_readWhen_20 f x1 r42 r42 s41 else if inb x3 3000 then nm (tsA s41 70 (ix x3) r42) fun s46 => L_readWhen_20 f x1 x2 r42 s46 else none) = ob (tAc 61 (tA6 6) σ) (tAr f x1 x2 x3) := by
  unfold tAc tA6
  simp only [ob_as, ob_some]
  rfl
theorem tA28_as (f : Nat) (x1 x2 x3 : Int32) : (ob (F_pass 40 σ) fun _ s52 => ob (F_ref s52) fun r57 s56 => ob (F_pass 44 s56) fun _ s60 => ob (F_expression s60) fun r65 s64 => ob (F_pass 41 s64) fun _ s68 => ob (F_pass 59 s68) fun _ s72 => ob (F_eq 7 r57 r65 0 s72) fun r77 s76 => if x2 = 0 then L_readWhen_20 f x1 r77 r77 s76 else if inb x3 3000 then nm (tsA s76 70 (ix x3) r77) fun s81 => L_readWhen_20 f x1 x2 r77 s81 else none) = ob (tB7 σ) (tAr f x1 x2 x3) := by
  unfold tB7 tAc tA7 tA6
  simp only [ob_as, ob_some]
  rfl
/-- the actions -/
theorem when_loop {x : Int32} (Pb : PE Cb Mb σ0 ib depb cb' sb' nb') (hD : ∀ M o, Dp C M o → Dp Cb M o) (hms : mn Mb ≤ mn Ms) (hc : 80 ≤ c) (hs : 8000 ≤ s) (hn : 20 ≤ n) (hvb : mn Mb ≤ v) :
    ∀ (g : Nat) (M : CM) (σ : TS) (i f f' : Nat) (os ns : List Nat), ct C - i < g → g < f → g < f' → ib ≤ i → Ee Mb σb M σ → PE C M σ i dep c s n → LsQ Mb M l os → os.length ≤ i → mn Ms ≤ mn M → (v < mn M ∧ mk M v = 13 ∧ mR M 2406 v = l) → EqsR (gb 1 - dep) C Ms l (tE σb) 1 M σ os ns →
    (∃ M' σ' i' os' ns', KL_X2_when_24 f v M = some (.inl (), M') ∧ L_readWhen_20 f' x (if os.length = 0 then 0 else nI (ns.getD 0 0)) (if os.length = 0 then 0 else nI (ns.getD (os.length - 1) 0)) σ = some ((if os'.length = 0 then 0 else nI (ns'.getD 0 0)), σ') ∧ PE C M' σ' i' dep c s n ∧ i ≤ i' ∧ Ee Mb σb M' σ' ∧ LsQ Mb M' l os' ∧ EqsR (gb 1 - dep) C Ms l (tE σb) 1 M' σ' os' ns' ∧ Fz (fun o => Xe M o ∨ o = l ∨ o = mR M 4201 l) M M' ∧ (mR M' 4201 95 = mR M 4201 95 ∨ mn M ≤ mR M' 4201 95)) ∨
    (∃ w M' y σ', KL_X2_when_24 f v M = some (.inr (.inr w), M') ∧ L_readWhen_20 f' x (if os.length = 0 then 0 else nI (ns.getD 0 0)) (if os.length = 0 then 0 else nI (ns.getD (os.length - 1) 0)) σ = some (y, σ') ∧ FBe C Mb σb M' w σ') := by
  have h167 := Pb.1.n167
  have hmo := Pb.2.1.2
  intro g
  induction g with
  | zero => intro M σ i f f' os ns hg; exact absurd hg (Nat.not_lt_zero _)
  | succ g ih =>
    intro M σ i f f' os ns hg hf hf' hib E P hL hoi hsM ⟨hv1, hv2, hv3⟩ hR
    obtain ⟨f, rfl⟩ : ∃ g, f = g + 1 := ⟨f - 1, by omega⟩
    obtain ⟨f', rfl⟩ : ∃ g, f' = g + 2 := ⟨f' - 2, by omega⟩
    have hit := P.1.it
    rcases y_key P.1.px (j := 3) (x := 3) (c := 6647396) rfl (by decide) (by decide) with ⟨q1, q2, _⟩ | ⟨q1, q2, _⟩
    · rw [KL_X2_when_24, L_readWhen_20, t_isBad0 P.1.g0, ob_some, ifT (rfl : (0 : Int32) = 0), q1, ob_some, ifF (show ¬ (1 : Int32) = 0 from by decide), q2, ob_some, ifF (show ¬ (1 : Int32) = 0 from by decide)]
      exact Or.inl ⟨M, σ, i, os, ns, rfl, rfl, P, Nat.le_refl _, E, hL, hR, Fz.rf, Or.inl rfl⟩
    have hU : ∃ oo pp, KL_X2_when_24 (f + 1) v M = obS oo (fun w M => some (.inr (.inr w), M)) (kAr f v) ∧ L_readWhen_20 (f' + 2) x (if os.length = 0 then 0 else nI (ns.getD 0 0)) (if os.length = 0 then 0 else nI (ns.getD (os.length - 1) 0)) σ = ob pp (tAr (f' + 1) x (if os.length = 0 then 0 else nI (ns.getD 0 0)) (if os.length = 0 then 0 else nI (ns.getD (os.length - 1) 0))) ∧ Rje C M σ (GE C M σ i dep (c + 16) (s + 2048) n 1) oo pp := by
      rcases when_step P hc hs q1 f v with ⟨u1, u2⟩ | ⟨σ1, u1, u2, P1, E1, u3⟩
      · refine ⟨_, _, u2, ?_, act_61 P hc hs hn⟩
        rw [L_readWhen_20, t_isBad0 P.1.g0, ob_some, ifT (rfl : (0 : Int32) = 0), q2, ob_some, ifT (rfl : (0 : Int32) = 0), u1, ob_some, ifT (rfl : (0 : Int32) = 0)]
        exact tA61_as _ _ _ _
      · refine ⟨_, _, u3, ?_, act_28 P hc hs hn P1 E1⟩
        rw [L_readWhen_20, t_isBad0 P.1.g0, ob_some, ifT (rfl : (0 : Int32) = 0), q2, ob_some, ifT (rfl : (0 : Int32) = 0), u1, ob_some, ifF (show ¬ (1 : Int32) = 0 from by decide), u2, ob_some]
        exact tA28_as _ _ _ _
    obtain ⟨oo, pp, hu1, hu2, hU⟩ := hU
    rw [hu1, hu2]
    obtain ⟨fT, hfT⟩ : ∃ f'', f'' = f' + 1 := ⟨_, rfl⟩
    rw [← hfT] at hu2 ⊢
    rcases hU with ⟨a, M1, y, σ1, u1, u2, e, i1, d, ⟨g1, gd⟩, P1, hi1, E1, ⟨te, te0⟩, R1, h70⟩ | ⟨w, M1, y, σ1, u1, u2, fb⟩
    · obtain ⟨hL1, sl, harr⟩ := hL.ee Pb E P E1
      have hR1 := hR.ee Pb hms E P E1 harr
      have E01 := E.tr E1
      have n01 := E1.1.1.1
      obtain ⟨d, rfl⟩ : ∃ k, d = k + 1 := by
        rcases d with _ | d
        · exact absurd R1 (fun q => q)
        · exact ⟨d, rfl⟩
      obtain ⟨⟨⟨⟨r1, r2⟩, r3⟩, r4, r5, r6, r7⟩, -⟩ := id R1
      have hgr : gR M1 a := Or.inl ⟨r2, by rw [r4]; decide, by rw [r4]; decide⟩
      have nd := row_nd Pb hD E01 P1.1 hL1
      obtain ⟨M2, b1, hL2, P2, E2, F2, hn2, harr2⟩ := z_addQ Pb.1 Pb.2 E01 P1.1 (fun o h => hD _ o h) P1.2.2.2.2.1.2.1 hL1 hgr (by have := P.1.t1280; omega) (by omega) (by omega)
      have PE2 : PE C M2 σ1 i1 dep c s n := ⟨P2.wk (by omega) (by omega) (Nat.le_refl _), Me.mu P1 F2 nd⟩
      have n12 := F2.1
      have hlt := hL1.1.2.1
      obtain ⟨bs5, l95⟩ := P1.1.l95
      have harr1 : mR M1 4201 l = 4398046511104 ∨ mn Mb ≤ mR M1 4201 l := by
        by_cases q : mR M1 4201 l = 4398046511104
        · exact Or.inl q
        · exact Or.inr (hL1.1.2.2.2 q)
      have c6 := P1.1.c6
      have s95 : So M1 M2 95 := F2.so (by have := P1.1.n167; omega) (fun z => by omega)
      have hw : ∀ w, wc M2 w = wc M1 w := fun w => by rw [E2.1.wc Pb, E01.1.wc Pb]
      have hR2 : EqsR (gb 1 - dep) C Ms l (tE σb) 1 M2 σ1 os ns := hR1.mv P.1.nf12 F2 (fun o z _ => by
        rcases z with z | z
        · exact Or.inl z
        · exact Or.inr (Or.inl z)) (by rcases harr2 with q | q; exact Or.inl q; right; omega) (Or.inl (s95.r _)) hw (Tz.rf _) (fun _ => rfl) (Qz.rf _)
      have hal : mR M 4201 l = 4398046511104 ∨ mR M 4201 l < mn M := hL.1.1.lt
      have hPX : ∀ o, PX M M1 o → o ≠ l ∧ o ≠ mR M1 4201 l := fun o ho => by
        have := hL.1.2.1
        have := ho.1
        rw [harr]
        exact ⟨by omega, by omega⟩
      have R2 : EqR C (PX M M1) M2 σ1 (tE σ) (d + 1) 1 a e := EqR.mv P.1.nf12 ⟨⟨F2.1, fun o ho => F2.k ho⟩, fun o ho => F2.so ho.1.2 (fun z => by
        have := hPX o ho
        rcases z with z | z
        · exact this.1 z
        · exact this.2 z), fun w _ => hw w, fun _ _ _ _ => rfl, fun _ _ _ _ => rfl, fun _ _ _ _ => rfl, fun _ => rfl⟩ (fun _ z => z) ⟨Nat.le_refl _, Nat.le_refl _⟩ hw (Nat.le_refl _) _ _ 1 a e (Nat.le_refl _) (fun _ _ _ => ⟨fun _ _ => rfl, rfl⟩) (fun _ _ _ => rfl) R1
      obtain ⟨σ2, hσ2⟩ : ∃ σ2, σ2 = if os.length = 0 then σ1 else tsA σ1 70 (ns.getD (os.length - 1) 0) (nI e) := ⟨_, rfl⟩
      have hE1 := P1.e1
      have hcxP1 := P1.cx
      have st := hR2.snoc (σ' := σ2) (P := PX M M1) (o := a) (e := e) (d := d + 1) (Lj := tE σ) (dm := gb 1 - dep) (by omega) P.1.nf12 (fun o ho => by
        have h1 := hPX o ho
        refine ⟨⟨by have := ho.1; omega, by have := ho.1; omega⟩, h1.1, ?_, by rw [s95.r]; exact ho.2⟩
        rcases harr2 with q | q
        · rw [q]; exact h1.2
        · have := ho.1; omega) R2 ⟨r5, by omega, te0⟩ E.2.1.2.1 (fun j hj => (hR.2.1 j hj).2.1.2.2) h70 (by omega) hσ2
      have hlen : (os ++ [a]).length = os.length + 1 := by simp
      have hP2 : PE C M2 σ2 i1 dep c s n := by
        rw [hσ2]
        by_cases q : os.length = 0
        · rw [ifT q]; exact PE2
        · rw [ifF q]; exact PE2.lk
      have hE2 : Ee Mb σb M2 σ2 := by
        rw [hσ2]
        by_cases q : os.length = 0
        · rw [ifT q]; exact E2
        · rw [ifF q]; exact E2.lk (hR.2.1 (os.length - 1) (by omega)).2.1.2.1
      have hT : (if (if os.length = 0 then (0 : Int32) else nI (ns.getD 0 0)) = 0 then L_readWhen_20 fT x (nI e) (nI e) σ1 else if inb (if os.length = 0 then (0 : Int32) else nI (ns.getD (os.length - 1) 0)) 3000 then nm (tsA σ1 70 (ix (if os.length = 0 then (0 : Int32) else nI (ns.getD (os.length - 1) 0))) (nI e)) fun s22 => L_readWhen_20 fT x (if os.length = 0 then (0 : Int32) else nI (ns.getD 0 0)) (nI e) s22 else none) = L_readWhen_20 fT x (if (os ++ [a]).length = 0 then 0 else nI ((ns ++ [e]).getD 0 0)) (if (os ++ [a]).length = 0 then 0 else nI ((ns ++ [e]).getD ((os ++ [a]).length - 1) 0)) σ2 := by
        have hnl := hR.1
        rw [hlen, ifF (show ¬ os.length + 1 = 0 by omega), ifF (show ¬ os.length + 1 = 0 by omega), show (ns ++ [e]).getD (os.length + 1 - 1) 0 = e from by rw [show os.length + 1 - 1 = ns.length + 0 by omega, getD_app_r]; rfl, hσ2]
        by_cases q : os.length = 0
        · have e2 : ns = [] := List.eq_nil_of_length_eq_zero (by omega)
          subst e2
          rw [ifT q, ifT q, ifT (rfl : (0 : Int32) = 0), ifT q]
          rfl
        · obtain ⟨z1, z2, z3⟩ := (hR.2.1 0 (by omega)).2.1
          obtain ⟨w1, w2, w3⟩ := (hR.2.1 (os.length - 1) (by omega)).2.1
          have t3 := P.e1
          have hcxP := P.cx
          rw [ifF q, ifF q, ifF q, ifF (show ¬ nI (ns.getD 0 0) = 0 from by rw [show (0 : Int32) = nI 0 from rfl, bI_eq (by omega) (by decide)]; omega), ifT (show inb (nI (ns.getD (os.length - 1) 0)) 3000 from inb_nI' (by omega) (by decide)), nm_eq, ix_nI (by omega), getD_app_l (by omega)]
      obtain ⟨bsM, lM⟩ := P.1.l95
      have sv1 : So M M1 v := E1.1.1.so hv1 (fun z => by
        rcases z with z | z | z | z
        · omega
        · omega
        · have := lM.k55 P.1.c6 (by rw [← z]; exact hv1)
          rw [← z, hv2] at this; exact absurd this (by decide)
        · have := E.1.2.2.1 411
          omega)
      have kv1 : mk M1 v = 13 := by rw [sv1.k]; exact hv2
      have rv1 : mR M1 2406 v = l := by rw [sv1.r]; exact hv3
      have sv2 : So M1 M2 v := F2.so (by omega) (fun z => by
        rcases z with z | z
        · have := hL1.1.1.1
          rw [← z, kv1] at this; exact absurd this (by decide)
        · have := hL1.1.1.k55 c6 (by rw [← z]; omega)
          rw [← z, kv1] at this; exact absurd this (by decide))
      rw [u1, obS_inl, u2, ob_some, g1]
      unfold kAr tAr
      rw [ifT kv1, rv1, ifT (show mk M1 l = 22 from hL1.1.1.1), b1, ob_some, hT]
      have F02 : Fz (fun o => Xe M o ∨ o = l ∨ o = mR M 4201 l) M M2 := (E1.1.1.mono (fun o _ z => Or.inl z)).tr2 F2 (fun o _ z => by rw [harr] at z; exact Or.inr z)
      rcases ih M2 σ2 i1 f fT (os ++ [a]) (ns ++ [e]) (by have := P1.1.it; omega) (by omega) (by omega) (by omega) hE2 hP2 hL2 (by rw [hlen]; omega) (by omega) ⟨by omega, by rw [sv2.k]; exact kv1, by rw [sv2.r]; exact rv1⟩ st with ⟨M3, σ3, i3, os3, ns3, v1, v2, v3, v4, v5, v6, v7, v8, v9⟩ | v
      · have h95 : mR M3 4201 95 = mR M 4201 95 ∨ mn M ≤ mR M3 4201 95 := by
          rcases v9 with q | q
          · rw [q, s95.r]; exact E1.1.2.1
          · right; omega
        refine Or.inl ⟨M3, σ3, i3, os3, ns3, v1, v2, v3, by omega, v5, v6, v7, F02.tr2 v8 (fun o ho z => ?_), h95⟩
        have e90 : mR M2 411 90 = mR M 411 90 := by rw [E2.1.2.2.1, E.1.2.2.1]
        rcases z with (z | z | z | z) | z | z
        · exact Or.inl (Or.inl z)
        · exact Or.inl (Or.inr (Or.inl z))
        · rw [s95.r] at z
          rcases E1.1.2.1 with q | q
          · rw [q] at z; exact Or.inl (Or.inr (Or.inr (Or.inl z)))
          · omega
        · rw [e90] at z; exact Or.inl (Or.inr (Or.inr (Or.inr z)))
        · exact Or.inr (Or.inl z)
        · rcases harr2 with q | q
          · rw [q, harr] at z; exact Or.inr (Or.inr z)
          · omega
      · exact Or.inr v
    · rw [u1, obS_inr, u2, ob_some, hfT]
      unfold tAr
      by_cases h0 : (if os.length = 0 then (0 : Int32) else nI (ns.getD 0 0)) = 0
      · rw [ifT h0, L_readWhen_20, t_isBad1 fb.bd.b, ob_some, ifF (show ¬ (1 : Int32) = 0 from by decide)]
        exact Or.inr ⟨w, M1, _, σ1, rfl, rfl, fb.tr E⟩
      · have hne : ¬ os.length = 0 := fun z => h0 (by rw [ifT z])
        obtain ⟨w1, w2, w3⟩ := (hR.2.1 (os.length - 1) (by omega)).2.1
        have t3 := P.e1
        have hcxP := P.cx
        rw [ifF h0, ifF hne, ifF hne, ifT (show inb (nI (ns.getD (os.length - 1) 0)) 3000 from inb_nI' (by omega) (by decide)), nm_eq]
        rw [ix_nI (by omega), L_readWhen_20, t_isBad1 (show tI (tsA σ1 70 (ns.getD (os.length - 1) 0) y) 0 ≠ 0 from fb.bd.b), ob_some, ifF (show ¬ (1 : Int32) = 0 from by decide)]
        exact Or.inr ⟨w, M1, _, _, rfl, rfl, (fb.tr E).a70 (fun m m1 m2 => by omega)⟩
theorem k_when {γ : Type} (hc : mn M + 3 ≤ 601024 ∧ ms M + 24 ≤ 7293034) (h0 : 167 ≤ mn M) : K_X2_when M = obS (K_X2_condition (eqM M 16)) (fun w13 M9 => some (.inr w13, M9)) fun r10 M9 => if mk M9 (mn M) = 13 then nm (msR M9 2401 (mn M) r10) fun M15 => obS (K_X2_key 17 M15) (fun w20 M16 => some (.inr w20, M16)) fun _ M16 => obS (KL_X2_when_24 FU (mn M) M16) (fun r128 M115 => some (r128, M115)) fun _ M115 => obS (K_X2_key 3 M115) (fun w121 M117 => some (.inr w121, M117)) fun _ M117 => obS (K_X2_sign 59 M117) (fun w126 M122 => some (.inr w126, M122)) fun _ M122 => some (.inl (mn M), M122) else none := by
  unfold K_X2_when
  exact eq_al M 16 (fun v2 M5 => obS (K_X2_condition M5) (fun w13 M9 => some (.inr w13, M9)) fun r10 M9 => if mk M9 v2 = 13 then nm (msR M9 2401 v2 r10) fun M15 => obS (K_X2_key 17 M15) (fun w20 M16 => some (.inr w20, M16)) fun _ M16 => obS (KL_X2_when_24 FU v2 M16) (fun r128 M115 => some (r128, M115)) fun _ M115 => obS (K_X2_key 3 M115) (fun w121 M117 => some (.inr w121, M117)) fun _ M117 => obS (K_X2_sign 59 M117) (fun w126 M122 => some (.inr w126, M122)) fun _ M122 => some (.inl v2, M122) else none) hc h0
set_option maxHeartbeats 4000000 in
theorem eqn_16 (P : PE C M σ i dep c s n) (hc : 80 ≤ c) (hs : 8000 ≤ s) (hn : 20 ≤ n) (hi : i < ct C) : Rje C M σ (GE C M σ i dep (c + 16) (s + 2048) n 2) (obS (K_X2_when (msI M 405 90 (nI (i + 1)))) (fun w56 M52 => some (.inr w56, M52)) fun r53 M52 => some (.inl r53, M52)) (ob (F_readWhen σ) fun r43 s42 => some (r43, s42)) := by
  have h167 := P.1.n167
  have hnf := P.1.nf12
  have hcr := P.2.2.2.2.1.2.1
  have hl := P.2.2.2.2.1.2.2
  rw [ob_id, obS_id]
  obtain ⟨σ1, q3, P1, E1⟩ := z_step P.1 hi
  obtain ⟨M1, hM1⟩ : ∃ M1, M1 = msI M 405 90 (nI (i + 1)) := ⟨_, rfl⟩
  rw [← hM1] at P1 E1 ⊢
  have hm : mn M1 = mn M := by rw [hM1]; rfl
  obtain ⟨a4, a5, a6, a7, a8⟩ := P1.2.2.2.1
  rw [k_when (γ := Nat) ⟨by omega, by omega⟩ P1.n167]
  unfold F_readWhen
  rw [q3, ob_some]
  have PE1 := P.es E1 P1 (Nat.le_succ _)
  have EE1 := E1.ee h167
  obtain ⟨j1, j2, j3, ⟨j4, j5, j6⟩, ⟨j7, j8, j9⟩, ⟨j10, j10'⟩, j11, j11'⟩ := eqM_ok M1 16 P1.c6
  obtain ⟨P2, E2⟩ := PE1.alq j1 (c' := c + 13) (s' := s + 2034) (by omega) (by omega)
  have EE2 := EE1.tr E2
  have s95 : mR (eqM M1 16) 4201 95 = mR M1 4201 95 := (j1.so (by have := P1.n167; omega) (fun z => z)).r 4201
  obtain ⟨N, hN⟩ : ∃ N, N = eqM M1 16 := ⟨_, rfl⟩
  rw [← hN] at j1 j2 j3 j4 j5 j6 j7 j8 j9 j10 j10' j11 j11' P2 E2 EE2 s95 ⊢
  obtain ⟨v, hv⟩ : ∃ v, v = mn M1 := ⟨_, rfl⟩
  rw [← hv] at j2 j4 j5 j6 j7 j8 j9 j10 j10' j11 j11' ⊢
  refine Rje.ok EE2 P2 (z_cond P2.1 hl (by omega) (by omega) (by omega) hcr) (fun a N3 x σ3 i3 P3 hi3 E3 E23 R3 => ?_) (fun σ1 r s hb => BWe.bo (BWe.o hb (bw_passWord hb.br _)) (fun _ s hb => BWe.bo (by rw [FUs]; exact bwe_when hb _ _ _ _) (by intro r s hb; repeat' (first | with_reducible (exact BWe.sm hb) | with_reducible (refine BWe.bo (BWe.o hb (bw_next hb.br)) ?_; intro r s hb) | with_reducible (refine BWe.bo (BWe.o hb (bw_ref hb.br)) ?_; intro r s hb) | with_reducible (refine BWe.bo (BWe.o hb (bw_passName hb.br)) ?_; intro r s hb) | with_reducible (refine BWe.bo (BWe.o hb (bw_Fexpression hb.br)) ?_; intro r s hb) | with_reducible (refine BWe.bo (BWe.o hb (bw_Fcondition hb.br)) ?_; intro r s hb) | with_reducible (refine BWe.bo (BWe.o hb (bw_pass hb.br _)) ?_; intro r s hb) | with_reducible (refine BWe.bo (BWe.o hb (bw_isSign hb.br _)) ?_; intro r s hb) | with_reducible (refine BWe.bo (BWe.o hb (bw_passWhole hb.br _)) ?_; intro r s hb) | with_reducible (refine BWe.bo (BWe.o hb (bw_passWord hb.br _)) ?_; intro r s hb) | with_reducible (refine BWe.bo (BWe.o hb (bw_isWord hb.br _)) ?_; intro r s hb) | with_reducible (refine BWe.eq hb _ _ _ _ ?_; intro j s hj1 hj2 hj3 hb) | with_reducible (refine BWe.nmI hb (by decide) ?_; intro s hb) | with_reducible (refine BWe.nmB hb (by assumption) (by assumption) ?_; intro s hb) | with_reducible (refine BWe.isBad hb ?_) | with_reducible (refine BWe.itT (inb_nI' (by assumption) (by decide)) ?_) | with_reducible (refine BWe.ite ?_ ?_) | exact BWe.sm hb | (refine BWe.bo (BWe.o hb (bw_next hb.br)) ?_; intro r s hb) | (refine BWe.bo (BWe.o hb (bw_ref hb.br)) ?_; intro r s hb) | (refine BWe.bo (BWe.o hb (bw_passName hb.br)) ?_; intro r s hb) | (refine BWe.bo (BWe.o hb (bw_Fexpression hb.br)) ?_; intro r s hb) | (refine BWe.bo (BWe.o hb (bw_Fcondition hb.br)) ?_; intro r s hb) | (refine BWe.bo (BWe.o hb (bw_pass hb.br _)) ?_; intro r s hb) | (refine BWe.bo (BWe.o hb (bw_isSign hb.br _)) ?_; intro r s hb) | (refine BWe.bo (BWe.o hb (bw_passWhole hb.br _)) ?_; intro r s hb) | (refine BWe.bo (BWe.o hb (bw_passWord hb.br _)) ?_; intro r s hb) | (refine BWe.bo (BWe.o hb (bw_isWord hb.br _)) ?_; intro r s hb) | (refine BWe.eq hb _ _ _ _ ?_; intro j s hj1 hj2 hj3 hb) | (refine BWe.nmI hb (by decide) ?_; intro s hb) | (refine BWe.nmB hb (by assumption) (by assumption) ?_; intro s hb) | refine BWe.isBad hb ?_ | refine BWe.itT (inb_nI' (by assumption) (by decide)) ?_ | refine BWe.ite ?_ ?_))))
  have n23 := E23.1.1
  have sv3 : So N N3 v := E23.1.so (by omega) (by omega)
  have k3 : mk N3 v = 13 := by rw [sv3.k]; exact j4
  rw [ifT k3, nm_eq]
  have F4 : Fz (fun o => o = v) N3 (msR N3 2401 v a) := Fz.rf.msR (fun _ => rfl)
  have P4 := P3.wr F4 ⟨rfl, rfl⟩ k3 (by omega) (by omega)
  have E4 := E3.wr P F4 (by omega)
  refine Rje.st E4 P4 (z_passKey P4.1 (by omega) (by omega) (j := 17) (x := 17) (y := 1952998766) rfl (by decide) (by decide)) (fun _ _ σ5 P5 E5 E45 hi5 _ => ?_) (fun σ1 r s hb => BWe.bo (by rw [FUs]; exact bwe_when hb _ _ _ _) (by intro r s hb; repeat' (first | with_reducible (exact BWe.sm hb) | with_reducible (refine BWe.bo (BWe.o hb (bw_next hb.br)) ?_; intro r s hb) | with_reducible (refine BWe.bo (BWe.o hb (bw_ref hb.br)) ?_; intro r s hb) | with_reducible (refine BWe.bo (BWe.o hb (bw_passName hb.br)) ?_; intro r s hb) | with_reducible (refine BWe.bo (BWe.o hb (bw_Fexpression hb.br)) ?_; intro r s hb) | with_reducible (refine BWe.bo (BWe.o hb (bw_Fcondition hb.br)) ?_; intro r s hb) | with_reducible (refine BWe.bo (BWe.o hb (bw_pass hb.br _)) ?_; intro r s hb) | with_reducible (refine BWe.bo (BWe.o hb (bw_isSign hb.br _)) ?_; intro r s hb) | with_reducible (refine BWe.bo (BWe.o hb (bw_passWhole hb.br _)) ?_; intro r s hb) | with_reducible (refine BWe.bo (BWe.o hb (bw_passWord hb.br _)) ?_; intro r s hb) | with_reducible (refine BWe.bo (BWe.o hb (bw_isWord hb.br _)) ?_; intro r s hb) | with_reducible (refine BWe.eq hb _ _ _ _ ?_; intro j s hj1 hj2 hj3 hb) | with_reducible (refine BWe.nmI hb (by decide) ?_; intro s hb) | with_reducible (refine BWe.nmB hb (by assumption) (by assumption) ?_; intro s hb) | with_reducible (refine BWe.isBad hb ?_) | with_reducible (refine BWe.itT (inb_nI' (by assumption) (by decide)) ?_) | with_reducible (refine BWe.ite ?_ ?_) | exact BWe.sm hb | (refine BWe.bo (BWe.o hb (bw_next hb.br)) ?_; intro r s hb) | (refine BWe.bo (BWe.o hb (bw_ref hb.br)) ?_; intro r s hb) | (refine BWe.bo (BWe.o hb (bw_passName hb.br)) ?_; intro r s hb) | (refine BWe.bo (BWe.o hb (bw_Fexpression hb.br)) ?_; intro r s hb) | (refine BWe.bo (BWe.o hb (bw_Fcondition hb.br)) ?_; intro r s hb) | (refine BWe.bo (BWe.o hb (bw_pass hb.br _)) ?_; intro r s hb) | (refine BWe.bo (BWe.o hb (bw_isSign hb.br _)) ?_; intro r s hb) | (refine BWe.bo (BWe.o hb (bw_passWhole hb.br _)) ?_; intro r s hb) | (refine BWe.bo (BWe.o hb (bw_passWord hb.br _)) ?_; intro r s hb) | (refine BWe.bo (BWe.o hb (bw_isWord hb.br _)) ?_; intro r s hb) | (refine BWe.eq hb _ _ _ _ ?_; intro j s hj1 hj2 hj3 hb) | (refine BWe.nmI hb (by decide) ?_; intro s hb) | (refine BWe.nmB hb (by assumption) (by assumption) ?_; intro s hb) | refine BWe.isBad hb ?_ | refine BWe.itT (inb_nI' (by assumption) (by decide)) ?_ | refine BWe.ite ?_ ?_)))
  obtain ⟨N5, hN5⟩ : ∃ N5, N5 = msI (msR N3 2401 v a) 405 90 (nI (i3 + 1)) := ⟨_, rfl⟩
  have k5 : mk N5 v = 13 := by rw [hN5]; exact k3
  have n5 : mn N5 = mn N3 := by rw [hN5]; rfl
  have F35 : Fz (fun o => o = 90 ∨ o = v) N3 N5 := by rw [hN5]; exact (Fz.rf.msR (fun _ => Or.inr rfl)).msI (fun _ => Or.inl rfl)
  have F5 : Fz (fun o => o = 90 ∨ o = v) N N5 := (E23.1.mono (fun o _ z => Or.inl z)).tr F35
  have r5 : mR N5 2401 v = a ∧ mR N5 2406 v = v + 1 := by
    rw [hN5]
    refine ⟨?_, ?_⟩
    · rw [mR_msI, mR_msR, ifT ⟨rfl, rfl⟩]
    · rw [mR_msI, mR_msR, ifF (by omega), sv3.r]; exact j7
  have i5 : mI N5 2400 v = 16 := by rw [hN5, mI_msI, ifF (by omega), mI_msR, sv3.i]; exact j9
  have e95 : mR N5 4201 95 = mR M1 4201 95 := by rw [(F5.so (by have := P2.1.n167; omega) (by omega)).r]; exact s95
  rw [← hN5] at P5 E5 ⊢
  obtain ⟨L5, L5'⟩ := lsq_e (Mb := M) j10 j10' F5 (fun z => by omega) (by omega) P2.1.c6
  have PE5 : PE C N5 σ5 (i3 + 1) dep c s n := P5.wk (by omega) (by omega) (by omega)
  have hc6 := P5.1.c6
  obtain ⟨bs1, l1⟩ := P1.l95
  have arr1 : mR M1 4201 95 = 4398046511104 ∨ mR M1 4201 95 < v := by rw [hv]; exact l1.lt
  have hn5 : mn M ≤ mn N5 := E5.1.1.1
  have hit := P5.1.it
  have ht := P5.1.t1280
  rcases when_loop (x := nI x) (l := v + 1) (v := v) (Ms := N5) (σb := σ5) P (fun _ _ h => h) hn5 hc hs hn (by omega) 2001 N5 σ5 (i3 + 1) FU FU [] [] (by omega) (by have := FUb; omega) (by have := FUb; omega) (by omega) ⟨E5.1, ⟨Tz.rf σ5, Qz.rf σ5⟩, Ft.rf _ σ5⟩ PE5 L5 (Nat.zero_le _) (Nat.le_refl _) ⟨by omega, k5, r5.2⟩ ⟨rfl, fun j hj => absurd hj (Nat.not_lt_zero _), fun j k _ hk => absurd hk (Nat.not_lt_zero _)⟩ with ⟨N6, σ6, i6, os, ns, u1, u2, P6, hi6, E56, g5, g6, F6, K6⟩ | ⟨w, N6, y, σ6, u1, u2, fb⟩
  rotate_left
  · have u2 : L_readWhen_20 FU (nI x) 0 0 σ5 = _ := u2
    rw [u1, obS_inr, u2, ob_some]
    exact Or.inr (FBe.ko (fb.ft E5.fe) (((by intro σ1 r s hb; repeat' (first | with_reducible (exact BWe.sm hb) | with_reducible (refine BWe.bo (BWe.o hb (bw_next hb.br)) ?_; intro r s hb) | with_reducible (refine BWe.bo (BWe.o hb (bw_ref hb.br)) ?_; intro r s hb) | with_reducible (refine BWe.bo (BWe.o hb (bw_passName hb.br)) ?_; intro r s hb) | with_reducible (refine BWe.bo (BWe.o hb (bw_Fexpression hb.br)) ?_; intro r s hb) | with_reducible (refine BWe.bo (BWe.o hb (bw_Fcondition hb.br)) ?_; intro r s hb) | with_reducible (refine BWe.bo (BWe.o hb (bw_pass hb.br _)) ?_; intro r s hb) | with_reducible (refine BWe.bo (BWe.o hb (bw_isSign hb.br _)) ?_; intro r s hb) | with_reducible (refine BWe.bo (BWe.o hb (bw_passWhole hb.br _)) ?_; intro r s hb) | with_reducible (refine BWe.bo (BWe.o hb (bw_passWord hb.br _)) ?_; intro r s hb) | with_reducible (refine BWe.bo (BWe.o hb (bw_isWord hb.br _)) ?_; intro r s hb) | with_reducible (refine BWe.eq hb _ _ _ _ ?_; intro j s hj1 hj2 hj3 hb) | with_reducible (refine BWe.nmI hb (by decide) ?_; intro s hb) | with_reducible (refine BWe.nmB hb (by assumption) (by assumption) ?_; intro s hb) | with_reducible (refine BWe.isBad hb ?_) | with_reducible (refine BWe.itT (inb_nI' (by assumption) (by decide)) ?_) | with_reducible (refine BWe.ite ?_ ?_) | exact BWe.sm hb | (refine BWe.bo (BWe.o hb (bw_next hb.br)) ?_; intro r s hb) | (refine BWe.bo (BWe.o hb (bw_ref hb.br)) ?_; intro r s hb) | (refine BWe.bo (BWe.o hb (bw_passName hb.br)) ?_; intro r s hb) | (refine BWe.bo (BWe.o hb (bw_Fexpression hb.br)) ?_; intro r s hb) | (refine BWe.bo (BWe.o hb (bw_Fcondition hb.br)) ?_; intro r s hb) | (refine BWe.bo (BWe.o hb (bw_pass hb.br _)) ?_; intro r s hb) | (refine BWe.bo (BWe.o hb (bw_isSign hb.br _)) ?_; intro r s hb) | (refine BWe.bo (BWe.o hb (bw_passWhole hb.br _)) ?_; intro r s hb) | (refine BWe.bo (BWe.o hb (bw_passWord hb.br _)) ?_; intro r s hb) | (refine BWe.bo (BWe.o hb (bw_isWord hb.br _)) ?_; intro r s hb) | (refine BWe.eq hb _ _ _ _ ?_; intro j s hj1 hj2 hj3 hb) | (refine BWe.nmI hb (by decide) ?_; intro s hb) | (refine BWe.nmB hb (by assumption) (by assumption) ?_; intro s hb) | refine BWe.isBad hb ?_ | refine BWe.itT (inb_nI' (by assumption) (by decide)) ?_ | refine BWe.ite ?_ ?_)) : ∀ σ1 (_ : Unit) s, Bre C σ1 s → BWe C σ1 (ob (F_passWord 6647396 s) fun _ s89 => ob (F_pass 59 s89) fun _ s93 => ob (F_eq 5 (nI x) y 0 s93) fun r98 s97 => some (r98, s97))) _ () _ fb.bd))
  have u2 : L_readWhen_20 FU (nI x) 0 0 σ5 = _ := u2
  have hE6 : tE σ6 ≤ 3000 := by have := P6.e1; have := P6.cx; omega
  have hg : GR C M σ5 (i3 + 1) dep c s n 1 (v + 1) N5 () N6 (if os.length = 0 then 0 else nI (ns.getD 0 0)) σ6 := ⟨i6, os, ns, rfl, P6, hi6, E56, g5, g6, F6, K6⟩
  have R6 := (hg.row hnf hn5 hE6).lo hnf E5.2.1.2.1
  obtain ⟨y6, hy6⟩ : ∃ y6 : Int32, y6 = if os.length = 0 then 0 else nI (ns.getD 0 0) := ⟨_, rfl⟩
  rw [u1, obS_inl, u2, ob_some]
  rw [← hy6] at R6 ⊢
  have E6 := E5.rb E56
  have n6 := F6.1
  have hmo6 : mR N6 411 90 < mn M := by rw [E6.1.2.2.1]; exact P.2.1.2
  have sv6 : So N5 N6 v := F6.so (by omega) (fun z => by
    rcases z with (z | z | z | z) | z | z
    · omega
    · omega
    · rw [e95] at z; omega
    · have := E5.1.2.2.1 411; have := P.2.1.2; omega
    · omega
    · rw [L5'] at z; omega)
  have k6 : mk N6 v = 13 := by rw [sv6.k]; exact k5
  have hmo5 : mR N5 411 90 < mn M := by rw [E5.1.2.2.1]; exact P.2.1.2
  have F36 : Fz (fun o => (o = 90 ∨ o = v) ∨ Xe N5 o ∨ o = v + 1 ∨ o = mR N5 4201 (v + 1)) N3 N6 := (F35.mono (fun o _ z => Or.inl z)).tr2 F6 (fun o _ z => Or.inr z)
  have hX36 : ∀ o, mn N ≤ o → o < mn N3 → ¬ ((o = 90 ∨ o = v) ∨ Xe N5 o ∨ o = v + 1 ∨ o = mR N5 4201 (v + 1)) := fun o h1 h2 z => by
    rcases z with z | (z | z | z | z) | z | z
    · omega
    · omega
    · omega
    · rw [e95] at z; omega
    · omega
    · omega
    · rw [L5'] at z; omega
  have a6' : mR N6 4201 95 < v ∨ mR N6 4201 95 = 4398046511104 ∨ mn N5 ≤ mR N6 4201 95 := by
    rcases K6 with q | q
    · rw [q, e95]; rcases arr1 with g | g; exact Or.inr (Or.inl g); exact Or.inl g
    · exact Or.inr (Or.inr q)
  have hc66 := P6.1.c6
  have z36 : Tz σ3 σ6 := E45.2.2.2.1.tr E56.2.1.1
  have c36 : ∀ j, tA σ6 42 j = tA σ3 42 j := fun j => by rw [(E56.2.2 42 rfl).2.2.1, (E45.2.2.2.2 42 rfl).2.2.1]
  have b3 := R3.b
  have t3 := P3.1.tN9
  have hcd : EqP C (PX M N6) N6 σ6 1 (mR N6 2401 v) (nI x) := by
    rw [sv6.r, r5.1]
    exact R3.eqp (by omega) hnf F36 hX36 (fun w => by rw [E6.1.wc P, E3.1.wc P]) z36 c36 (fun o h1 h2 => ⟨⟨by omega, by omega⟩, by omega⟩)
  have R7 := R6.mp (P' := PX M N6) hnf (Nat.le_refl _) (fun o ho => ho.1.1.2) (fun o ho => ho.1)
  obtain ⟨e1, e2, e3⟩ := P6.e1
  have hcxP6 := P6.cx
  refine eq_close (kK := fun M122 => some (.inl v, M122)) (kT := fun s93 => ob (F_eq 5 (nI x) y6 0 s93) fun r98 s97 => some (r98, s97)) E6 P6 hc hs (fun M7 σ7 P7 E7 E67 => ?_) (by intro σ1 s hb; repeat' (first | with_reducible (exact BWe.sm hb) | with_reducible (refine BWe.bo (BWe.o hb (bw_next hb.br)) ?_; intro r s hb) | with_reducible (refine BWe.bo (BWe.o hb (bw_ref hb.br)) ?_; intro r s hb) | with_reducible (refine BWe.bo (BWe.o hb (bw_passName hb.br)) ?_; intro r s hb) | with_reducible (refine BWe.bo (BWe.o hb (bw_Fexpression hb.br)) ?_; intro r s hb) | with_reducible (refine BWe.bo (BWe.o hb (bw_Fcondition hb.br)) ?_; intro r s hb) | with_reducible (refine BWe.bo (BWe.o hb (bw_pass hb.br _)) ?_; intro r s hb) | with_reducible (refine BWe.bo (BWe.o hb (bw_isSign hb.br _)) ?_; intro r s hb) | with_reducible (refine BWe.bo (BWe.o hb (bw_passWhole hb.br _)) ?_; intro r s hb) | with_reducible (refine BWe.bo (BWe.o hb (bw_passWord hb.br _)) ?_; intro r s hb) | with_reducible (refine BWe.bo (BWe.o hb (bw_isWord hb.br _)) ?_; intro r s hb) | with_reducible (refine BWe.eq hb _ _ _ _ ?_; intro j s hj1 hj2 hj3 hb) | with_reducible (refine BWe.nmI hb (by decide) ?_; intro s hb) | with_reducible (refine BWe.nmB hb (by assumption) (by assumption) ?_; intro s hb) | with_reducible (refine BWe.isBad hb ?_) | with_reducible (refine BWe.itT (inb_nI' (by assumption) (by decide)) ?_) | with_reducible (refine BWe.ite ?_ ?_) | exact BWe.sm hb | (refine BWe.bo (BWe.o hb (bw_next hb.br)) ?_; intro r s hb) | (refine BWe.bo (BWe.o hb (bw_ref hb.br)) ?_; intro r s hb) | (refine BWe.bo (BWe.o hb (bw_passName hb.br)) ?_; intro r s hb) | (refine BWe.bo (BWe.o hb (bw_Fexpression hb.br)) ?_; intro r s hb) | (refine BWe.bo (BWe.o hb (bw_Fcondition hb.br)) ?_; intro r s hb) | (refine BWe.bo (BWe.o hb (bw_pass hb.br _)) ?_; intro r s hb) | (refine BWe.bo (BWe.o hb (bw_isSign hb.br _)) ?_; intro r s hb) | (refine BWe.bo (BWe.o hb (bw_passWhole hb.br _)) ?_; intro r s hb) | (refine BWe.bo (BWe.o hb (bw_passWord hb.br _)) ?_; intro r s hb) | (refine BWe.bo (BWe.o hb (bw_isWord hb.br _)) ?_; intro r s hb) | (refine BWe.eq hb _ _ _ _ ?_; intro j s hj1 hj2 hj3 hb) | (refine BWe.nmI hb (by decide) ?_; intro s hb) | (refine BWe.nmB hb (by assumption) (by assumption) ?_; intro s hb) | refine BWe.isBad hb ?_ | refine BWe.itT (inb_nI' (by assumption) (by decide)) ?_ | refine BWe.ite ?_ ?_))
  have te7 := tE_es E67
  try dsimp only
  have hit7 := P7.1.it
  obtain ⟨q1, q2, q3, q4⟩ := z_eqn (i' := i6 + 1) P7 (by omega) 5 (nI x) y6 0 rfl (by omega)
  obtain ⟨v1, v2, v3, v4, v5, v6, v7⟩ := eqT_v σ7 (tE σ7) 5 (nI x) y6 0
  obtain ⟨g1, g2, g3⟩ := P7.e1
  have hcxP7 := P7.cx
  rw [q1, ob_some]
  have E8 := (E67.ee P6.1.n167).tr q3
  have sv : So N6 M7 v := E67.1.so (by omega) (by omega)
  have hn := E8.1.1.1
  have s957 : mR M7 4201 95 = mR N6 4201 95 := (E67.1.so (by have := P6.1.n167; omega) (by decide)).r 4201
  have hPX : ∀ o, PX M N6 o → PX M M7 o := fun o ho => ⟨⟨ho.1.1, by have := ho.1.2; omega⟩, by rw [s957]; exact ho.2⟩
  have w8 : ∀ w, wc M7 w = wc N6 w := fun w => E8.1.wc P6 w
  have c8 := fun j => (E8.2.2 42 rfl).2.2.1 j
  obtain ⟨os', p, d, r1, r2, ⟨r3, rdm⟩, r4⟩ := R7.up (P' := PX M M7) hnf (Nat.le_refl _) (E' := tE σ7) (by omega) E8.1.1 (fun o ho => ho.nx h167 hmo6) w8 E8.2.1.1 c8 E8.2.1.2 hPX
  have hcd7 := hcd.mv hnf (M' := M7) (σ' := eqT σ7 (tE σ7) 5 (nI x) y6 0) ⟨⟨E8.1.1.1, fun o ho => E8.1.1.k ho⟩, fun o ho => E8.1.1.so (ho.nx h167 hmo6).1 (ho.nx h167 hmo6).2, fun w _ => w8 w, E8.2.1.1.2.1, E8.2.1.1.2.2.1, E8.2.1.1.2.2.2, c8⟩ hPX E8.2.1.1.1
  have et : tE σ ≤ tE σ6 := E6.2.1.2.1
  refine Or.inl ⟨v, _, _, _, rfl, rfl, tE σ7, i6 + 2, d + 1, ⟨rfl, by have : d ≤ 17 - dep := rdm; have := P.1.2.2.1.2.2; show d + 1 + dep ≤ 18; omega⟩, (q2 P7.1.it.1).wk (by omega) (by omega) (by omega), by omega, E6.tr E8, ⟨q4, by omega⟩, ⟨⟨⟨⟨by omega, by omega⟩, by rw [s957]; omega⟩, by rw [sv.k]; exact k6, g2, by omega, by omega⟩, Or.inr (Or.inr (Or.inr (Or.inr (Or.inl ⟨rfl, by rw [sv.i, sv6.i]; exact i5, v1, ?_, os', p, by rw [sv.r, sv6.r, r5.2]; exact r1, v3.trans r2, r3, r4⟩))))⟩, v5⟩
  rw [v2, sv.r]
  exact hcd7
end WHEN
