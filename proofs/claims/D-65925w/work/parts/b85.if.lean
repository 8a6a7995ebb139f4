/-! Layer B: equations: if -/
set_option maxRecDepth 100000
def kIf3 (cE : Nat → Int32 → CM → Option ((Unit ⊕ Nat) × CM)) (v : Nat) (M28 : CM) : Option ((Nat ⊕ Nat) × CM) :=
  ob (K_X2_takeKey 22 M28) fun r34 M33 => if r34 = 0 then kFor4 v M33 else if mk M33 v = 13 then obS (cE (mR M33 2407 v) 0 M33) (fun w53 M49 => some (.inr w53, M49)) fun _ M49 => kFor4 v M49 else none
def kIf2 (cE : Nat → Int32 → CM → Option ((Unit ⊕ Nat) × CM)) (v : Nat) (M11 : CM) : Option ((Nat ⊕ Nat) × CM) :=
  obS (K_X2_condition M11) (fun w19 M15 => some (.inr w19, M15)) fun r16 M15 => if mk M15 v = 13 then nm (msR M15 2401 v r16) fun M21 => obS (K_X2_key 17 M21) (fun w26 M22 => some (.inr w26, M22)) fun _ M22 => if mk M22 v = 13 then obS (cE (mR M22 2406 v) 0 M22) (fun w32 M28 => some (.inr w32, M28)) fun _ M28 => kIf3 cE v M28 else none else none
def tIf4 (z y y2 : Int32) (s : TS) : Option (Int32 × TS) :=
  ob (F_passWord 6647396 s) fun _ s25 => ob (F_pass 59 s25) fun _ s29 => nm (tsI s29 20 ((tI s29 20) - 1)) fun s33 => ob (F_eq 4 z y y2 s33) fun r35 s34 => some (r35, s34)
def tIf3 (cf : Int32 → TS → Option (Int32 × TS)) (r10 r18 : Int32) (s17 : TS) : Option (Int32 × TS) :=
  ob (F_isBad s17) fun r22 s21 => if r22 = 0 then ob (F_isWord 1701606245 s21) fun r39 s38 => if r39 = 0 then tIf4 r10 r18 0 s38 else ob (F_next s38) fun _ s42 => ob (cf 0 s42) fun r47 s46 => tIf4 r10 r18 r47 s46 else tIf4 r10 r18 0 s21
def tIf2 (cf : Int32 → TS → Option (Int32 × TS)) (s5 : TS) : Option (Int32 × TS) :=
  ob (F_condition s5) fun r10 s9 => ob (F_passWord 1952998766 s9) fun _ s13 => ob (cf 0 s13) fun r18 s17 => tIf3 cf r10 r18 s17
section IFE
variable {C Cb : PC} {M M' M0 M1 M2 M4 M5 Ma Mb Ms : CM} {σ σ' σ0 σ1 σ2 σ4 σ5 σb s1 : TS} {i dep c s n i' dep' c' s' n' d0 w so v a b x o q fl i0 ib depb cb' sb' nb' l l2 p L E E' e : Nat} {os ns : List Nat} {X P P' : Nat → Prop} {y y2 z : Int32} {α β γ δ : Type} {G : γ → CM → δ → TS → Prop}
theorem kIf_as {cE : Nat → Int32 → CM → Option ((Unit ⊕ Nat) × CM)} {x : Int32} (P : Pe C M σ i dep c s n) (h : K_X2_deeper x (msI M 405 90 (nI (i + 1))) = some (.inl (), M1)) (hc : mn M1 + 3 ≤ 601024 ∧ ms M1 + 24 ≤ 7293034) (h0 : 167 ≤ mn M1) : KB_X2_ifEquation cE x M = kIf2 cE (mn M1) (eqM M1 21) := by
  unfold KB_X2_ifEquation
  rw [nm_eq, P.i5, nI_addL, h, obS_inl]
  exact eq_al M1 21 (fun v M => kIf2 cE v M) hc h0
theorem kIf_ko {cE : Nat → Int32 → CM → Option ((Unit ⊕ Nat) × CM)} {x : Int32} (P : Pe C M σ i dep c s n) (h : K_X2_deeper x (msI M 405 90 (nI (i + 1))) = some (.inr w, M1)) : KB_X2_ifEquation cE x M = some (.inr w, M1) := by
  unfold KB_X2_ifEquation
  rw [nm_eq, P.i5, nI_addL, h, obS_inr]
theorem tIf_as {cf : Int32 → TS → Option (Int32 × TS)} (h : F_deeper σ = some ((), σ1)) (h2 : F_next σ1 = some ((), σ2)) : B_readIf cf σ = tIf2 cf σ2 := by
  unfold B_readIf
  rw [h, ob_some, h2, ob_some]
  rfl
theorem PX.nx (h : PX M0 M o) (h167 : 167 ≤ mn M0) (hmo : mR M 411 90 < mn M0) : o < mn M ∧ ¬ Xe M o := by
  obtain ⟨⟨a1, a2⟩, a3⟩ := h
  refine ⟨a2, fun z => ?_⟩
  rcases z with z | z | z | z
  · omega
  · omega
  · exact a3 z
  · omega

set_option maxHeartbeats 4000000 in
theorem if4 (P0 : PE C M σ i0 dep cb' sb' nb') (P : PE C M5 σ5 i (dep + 1) c s n) (hi0 : i0 < i) (hd : cnl C ≤ dep) (E : Ee M σ M5 σ5) (hc : 80 ≤ c) (hs : 8000 ≤ s) (hfl : fl ≠ 1) (hv : (mn M ≤ v ∧ v < mn M5) ∧ mk M5 v = 13 ∧ v ≠ mR M5 4201 95) (h24 : mI M5 2400 v = 21) (ha : EqP C (PX M M5) M5 σ5 1 (mR M5 2401 v) z) (h26 : mR M5 2406 v = l) (R : RwR (18 - (dep + 1)) C (PX M M5) M5 σ5 (tE σ) (tE σ5) 0 l y) (h27 : mR M5 2407 v = l2) (R2 : RwR (18 - (dep + 1)) C (PX M M5) M5 σ5 (tE σ) (tE σ5) 0 l2 y2) : Rje C M σ (GE C M σ i0 dep (c + 16) (s + 2048) n fl) (kFor4 v M5) (tIf4 z y y2 σ5) := by
  have h167 := P0.1.n167
  have hnf := P.1.nf12
  obtain ⟨e1, e2, e3⟩ := P.e1
  have hcxP := P.cx
  unfold kFor4 tIf4
  refine eq_close (kT := fun s29 => nm (tsI s29 20 ((tI s29 20) - 1)) fun s33 => ob (F_eq 4 z y y2 s33) fun r35 s34 => some (r35, s34)) E P hc hs (fun M6 σ6 P6 E6 E56 => ?_) (by intro σ1 s hb; repeat' (first | with_reducible (exact BWe.sm hb) | with_reducible (refine BWe.bo (BWe.o hb (bw_next hb.br)) ?_; intro r s hb) | with_reducible (refine BWe.bo (BWe.o hb (bw_ref hb.br)) ?_; intro r s hb) | with_reducible (refine BWe.bo (BWe.o hb (bw_passName hb.br)) ?_; intro r s hb) | with_reducible (refine BWe.bo (BWe.o hb (bw_Fexpression hb.br)) ?_; intro r s hb) | with_reducible (refine BWe.bo (BWe.o hb (bw_Fcondition hb.br)) ?_; intro r s hb) | with_reducible (refine BWe.bo (BWe.o hb (bw_pass hb.br _)) ?_; intro r s hb) | with_reducible (refine BWe.bo (BWe.o hb (bw_isSign hb.br _)) ?_; intro r s hb) | with_reducible (refine BWe.bo (BWe.o hb (bw_passWhole hb.br _)) ?_; intro r s hb) | with_reducible (refine BWe.bo (BWe.o hb (bw_passWord hb.br _)) ?_; intro r s hb) | with_reducible (refine BWe.bo (BWe.o hb (bw_isWord hb.br _)) ?_; intro r s hb) | with_reducible (refine BWe.eq hb _ _ _ _ ?_; intro j s hj1 hj2 hj3 hb) | with_reducible (refine BWe.nmI hb (by decide) ?_; intro s hb) | with_reducible (refine BWe.nmB hb (by assumption) (by assumption) ?_; intro s hb) | with_reducible (refine BWe.isBad hb ?_) | with_reducible (refine BWe.itT (inb_nI' (by assumption) (by decide)) ?_) | with_reducible (refine BWe.ite ?_ ?_) | exact BWe.sm hb | (refine BWe.bo (BWe.o hb (bw_next hb.br)) ?_; intro r s hb) | (refine BWe.bo (BWe.o hb (bw_ref hb.br)) ?_; intro r s hb) | (refine BWe.bo (BWe.o hb (bw_passName hb.br)) ?_; intro r s hb) | (refine BWe.bo (BWe.o hb (bw_Fexpression hb.br)) ?_; intro r s hb) | (refine BWe.bo (BWe.o hb (bw_Fcondition hb.br)) ?_; intro r s hb) | (refine BWe.bo (BWe.o hb (bw_pass hb.br _)) ?_; intro r s hb) | (refine BWe.bo (BWe.o hb (bw_isSign hb.br _)) ?_; intro r s hb) | (refine BWe.bo (BWe.o hb (bw_passWhole hb.br _)) ?_; intro r s hb) | (refine BWe.bo (BWe.o hb (bw_passWord hb.br _)) ?_; intro r s hb) | (refine BWe.bo (BWe.o hb (bw_isWord hb.br _)) ?_; intro r s hb) | (refine BWe.eq hb _ _ _ _ ?_; intro j s hj1 hj2 hj3 hb) | (refine BWe.nmI hb (by decide) ?_; intro s hb) | (refine BWe.nmB hb (by assumption) (by assumption) ?_; intro s hb) | refine BWe.isBad hb ?_ | refine BWe.itT (inb_nI' (by assumption) (by decide)) ?_ | refine BWe.ite ?_ ?_))
  obtain ⟨f1, f2, P7, E67⟩ := P6.dp (v := v) hd
  have te6 := tE_es E56
  have te7 : tE (tsI σ6 20 (nI dep)) = tE σ6 := rfl
  try dsimp only
  rw [f1, f2, nm_eq]
  have hit := P6.1.it
  obtain ⟨q1, q2, q3, q4⟩ := z_eqn (i' := i + 1) P7 (by omega) 4 z y y2 rfl (by omega)
  obtain ⟨v1, v2, v3, v4, v5, v6, v7⟩ := eqT_v (tsI σ6 20 (nI dep)) (tE (tsI σ6 20 (nI dep))) 4 z y y2
  obtain ⟨g1, g2, g3⟩ := P7.e1
  have hcxP7 := P7.cx
  rw [q1, ob_some]
  have P8 := q2 P7.1.it.1
  have E7 : Ee M5 σ5 (msI M6 406 90 (nI dep)) (tsI σ6 20 (nI dep)) := (E56.ee P.1.n167).tr (E67.ee P6.1.n167)
  have E8 := E7.tr q3
  have E58 := E56.tr E67
  have sv : So M5 (msI M6 406 90 (nI dep)) v := E58.1.so hv.1.2 (by omega)
  have hn := E8.1.1.1
  have s95 : mR (msI M6 406 90 (nI dep)) 4201 95 = mR M5 4201 95 := (E58.1.so (by have := P.1.n167; omega) (by decide)).r 4201
  have hmo : mR M5 411 90 < mn M := by rw [E.1.2.2.1]; exact P0.2.1.2
  have hPX : ∀ o, PX M M5 o → PX M (msI M6 406 90 (nI dep)) o := fun o ho => ⟨⟨ho.1.1, by have := ho.1.2; omega⟩, by rw [s95]; exact ho.2⟩
  have w8 : ∀ w, wc (msI M6 406 90 (nI dep)) w = wc M5 w := fun w => E8.1.wc P w
  have c8 := fun j => (E8.2.2 42 rfl).2.2.1 j
  obtain ⟨os, p, d, r1, r2, ⟨r3, rdm⟩, r4⟩ := R.up (P' := PX M (msI M6 406 90 (nI dep))) hnf (Nat.le_refl _) (E' := tE (tsI σ6 20 (nI dep))) (by omega) E8.1.1 (fun o ho => ho.nx h167 hmo) w8 E8.2.1.1 c8 E8.2.1.2 hPX
  obtain ⟨os', p', d', r1', r2', ⟨r3', rdm'⟩, r4'⟩ := R2.up (P' := PX M (msI M6 406 90 (nI dep))) hnf (Nat.le_refl _) (E' := tE (tsI σ6 20 (nI dep))) (by omega) E8.1.1 (fun o ho => ho.nx h167 hmo) w8 E8.2.1.1 c8 E8.2.1.2 hPX
  have up : ∀ (d0 : Nat) (os : List Nat) (p : Nat), d0 ≤ max d d' → EqL (EqR C (PX M (msI M6 406 90 (nI dep))) (msI M6 406 90 (nI dep)) (eqT (tsI σ6 20 (nI dep)) (tE (tsI σ6 20 (nI dep))) 4 z y y2) (tE σ) d0 0) (tE σ) (tE (tsI σ6 20 (nI dep))) (eqT (tsI σ6 20 (nI dep)) (tE (tsI σ6 20 (nI dep))) 4 z y y2) os p → EqL (EqR C (PX M (msI M6 406 90 (nI dep))) (msI M6 406 90 (nI dep)) (eqT (tsI σ6 20 (nI dep)) (tE (tsI σ6 20 (nI dep))) 4 z y y2) (tE σ) (max d d') 0) (tE σ) (tE (tsI σ6 20 (nI dep))) (eqT (tsI σ6 20 (nI dep)) (tE (tsI σ6 20 (nI dep))) 4 z y y2) os p := fun d0 os p hd0 => EqL.mv (Nat.le_refl _) (Nat.le_refl _) (fun _ _ _ => rfl) (fun o p _ _ R => EqR.mv hnf Mv.rf (fun _ z => z) ⟨Nat.le_refl _, Nat.le_refl _⟩ (fun _ => rfl) (Nat.le_refl _) d0 _ 0 o p hd0 (fun _ _ _ => ⟨fun _ _ => rfl, rfl⟩) (fun _ _ _ => rfl) R) os p
  have et : tE σ ≤ tE σ5 := E.2.1.2.1
  have hcd := ha.mv hnf (M' := msI M6 406 90 (nI dep)) (σ' := eqT (tsI σ6 20 (nI dep)) (tE (tsI σ6 20 (nI dep))) 4 z y y2) ⟨⟨E8.1.1.1, fun o ho => E8.1.1.k ho⟩, fun o ho => E8.1.1.so (ho.nx h167 hmo).1 (ho.nx h167 hmo).2, fun w _ => w8 w, E8.2.1.1.2.1, E8.2.1.1.2.2.1, E8.2.1.1.2.2.2, c8⟩ hPX E8.2.1.1.1
  refine Or.inl ⟨v, _, _, _, rfl, rfl, tE (tsI σ6 20 (nI dep)), i + 2, max d d' + 1, ⟨rfl, by rw [gb_n hfl]; have := P.1.2.2.1.2.2; have := Nat.max_le.mpr ⟨rdm, rdm'⟩; omega⟩, P8.wk (by omega) (by omega) (by omega), by omega, E.tr E8, ⟨q4, by omega⟩, ⟨⟨⟨⟨hv.1.1, by omega⟩, by rw [s95]; exact hv.2.2⟩, by rw [sv.k]; exact hv.2.1, g2, by omega, by omega⟩, Or.inr (Or.inr (Or.inr (Or.inl ⟨hfl, by rw [sv.i]; exact h24, v1, ?_, ⟨os, p, by rw [sv.r, h26]; exact r1, v3.trans r2, r3, up d os p (Nat.le_max_left _ _) r4⟩, os', p', by rw [sv.r, h27]; exact r1', v4.trans r2', r3', up d' os' p' (Nat.le_max_right _ _) r4'⟩)))⟩, v5⟩
  rw [v2, sv.r]
  exact hcd
set_option maxHeartbeats 4000000 in
theorem eqn_21 {cE : Nat → Int32 → CM → Option ((Unit ⊕ Nat) × CM)} {cf : Int32 → TS → Option (Int32 × TS)} (P : PE C M σ i dep c s n) (hc : 80 ≤ c) (hs : 8000 ≤ s) (hn : 20 ≤ n) (hfl : fl ≠ 1) (hi : i < ct C) (hcf : ∀ σ1 s, Bre C σ1 s → BWe C σ1 (cf 0 s)) (hR : dep < 16 → ∀ (M4 : CM) (σ4 : TS) (i4 l : Nat), i ≤ i4 → Ee M σ M4 σ4 → PE C M4 σ4 i4 (dep + 1) c s n → LsQ M M4 l [] → Rje C M σ4 (GR C M σ4 i4 (dep + 1) c s n 0 l M4) (cE l 0 M4) (cf 0 σ4)) : Rje C M σ (GE C M σ i dep (c + 16) (s + 2048) n fl) (obS (KB_X2_ifEquation cE (mA M 94 i) M) (fun w68 M64 => some (.inr w68, M64)) fun r65 M64 => some (.inl r65, M64)) (ob (B_readIf cf σ) fun r49 s48 => some (r49, s48)) := by
  have h167 := P.1.n167
  have hnf := P.1.nf12
  have hcn := P.2.2.2.2.1.1
  have hcr := P.2.2.2.2.1.2.1
  have hl := P.2.2.2.2.1.2.2
  rw [ob_id, obS_id]
  rcases z_deepNext P.1 (by omega) (by omega) hi with ⟨M1, s1, σ1, q1, q2, q3, P1, E1, hd, hm⟩ | ⟨w, M1, σ1, q1, q2, fb⟩
  rotate_left
  · rw [kIf_ko P.1 q1]
    unfold B_readIf J_readIf_55
    rw [q2, ob_some]
    have fb := fb.fe P.1 P.2
    exact Or.inr (FBe.ko fb (BWe.bo (BWe.o fb.bd (bw_next fb.bd.br)) (by intro r s hb; repeat' (first | with_reducible (refine BWe.bo (hcf _ _ hb) ?_; intro r s hb) | with_reducible (exact BWe.sm hb) | with_reducible (refine BWe.bo (BWe.o hb (bw_next hb.br)) ?_; intro r s hb) | with_reducible (refine BWe.bo (BWe.o hb (bw_ref hb.br)) ?_; intro r s hb) | with_reducible (refine BWe.bo (BWe.o hb (bw_passName hb.br)) ?_; intro r s hb) | with_reducible (refine BWe.bo (BWe.o hb (bw_Fexpression hb.br)) ?_; intro r s hb) | with_reducible (refine BWe.bo (BWe.o hb (bw_Fcondition hb.br)) ?_; intro r s hb) | with_reducible (refine BWe.bo (BWe.o hb (bw_pass hb.br _)) ?_; intro r s hb) | with_reducible (refine BWe.bo (BWe.o hb (bw_isSign hb.br _)) ?_; intro r s hb) | with_reducible (refine BWe.bo (BWe.o hb (bw_passWhole hb.br _)) ?_; intro r s hb) | with_reducible (refine BWe.bo (BWe.o hb (bw_passWord hb.br _)) ?_; intro r s hb) | with_reducible (refine BWe.bo (BWe.o hb (bw_isWord hb.br _)) ?_; intro r s hb) | with_reducible (refine BWe.eq hb _ _ _ _ ?_; intro j s hj1 hj2 hj3 hb) | with_reducible (refine BWe.nmI hb (by decide) ?_; intro s hb) | with_reducible (refine BWe.nmB hb (by assumption) (by assumption) ?_; intro s hb) | with_reducible (refine BWe.isBad hb ?_) | with_reducible (refine BWe.itT (inb_nI' (by assumption) (by decide)) ?_) | with_reducible (refine BWe.ite ?_ ?_) | exact BWe.sm hb | (refine BWe.bo (BWe.o hb (bw_next hb.br)) ?_; intro r s hb) | (refine BWe.bo (BWe.o hb (bw_ref hb.br)) ?_; intro r s hb) | (refine BWe.bo (BWe.o hb (bw_passName hb.br)) ?_; intro r s hb) | (refine BWe.bo (BWe.o hb (bw_Fexpression hb.br)) ?_; intro r s hb) | (refine BWe.bo (BWe.o hb (bw_Fcondition hb.br)) ?_; intro r s hb) | (refine BWe.bo (BWe.o hb (bw_pass hb.br _)) ?_; intro r s hb) | (refine BWe.bo (BWe.o hb (bw_isSign hb.br _)) ?_; intro r s hb) | (refine BWe.bo (BWe.o hb (bw_passWhole hb.br _)) ?_; intro r s hb) | (refine BWe.bo (BWe.o hb (bw_passWord hb.br _)) ?_; intro r s hb) | (refine BWe.bo (BWe.o hb (bw_isWord hb.br _)) ?_; intro r s hb) | (refine BWe.eq hb _ _ _ _ ?_; intro j s hj1 hj2 hj3 hb) | (refine BWe.nmI hb (by decide) ?_; intro s hb) | (refine BWe.nmB hb (by assumption) (by assumption) ?_; intro s hb) | refine BWe.isBad hb ?_ | refine BWe.itT (inb_nI' (by assumption) (by decide)) ?_ | refine BWe.ite ?_ ?_))))
  have hr := hR hd
  obtain ⟨a4, a5, a6, a7, a8⟩ := P1.2.2.2.1
  rw [kIf_as P.1 q1 ⟨by omega, by omega⟩ P1.n167, tIf_as q2 q3]
  have PE1 : PE C M1 σ1 (i + 1) (dep + 1) (c + 16) (s + 2048) (n + 4) := ⟨P1, P.2.es P.1 E1 (Nat.le_succ _) (by omega)⟩
  have EE1 := E1.ee h167
  obtain ⟨j1, j2, j3, ⟨j4, j5, j6⟩, ⟨j7, j8, j9⟩, ⟨j10, j10'⟩, j11, j11'⟩ := eqM_ok M1 21 P1.c6
  obtain ⟨P2, E2⟩ := PE1.alq j1 (c' := c + 13) (s' := s + 2034) (by omega) (by omega)
  have EE2 := EE1.tr E2
  have s95 : mR (eqM M1 21) 4201 95 = mR M1 4201 95 := (j1.so (by have := P1.n167; omega) (fun z => z)).r 4201
  obtain ⟨N, hN⟩ : ∃ N, N = eqM M1 21 := ⟨_, rfl⟩
  rw [← hN] at j1 j2 j3 j4 j5 j6 j7 j8 j9 j10 j10' j11 j11' P2 E2 EE2 s95 ⊢
  obtain ⟨v, hv⟩ : ∃ v, v = mn M1 := ⟨_, rfl⟩
  rw [← hv] at j2 j4 j5 j6 j7 j8 j9 j10 j10' j11 j11' ⊢
  unfold kIf2 tIf2
  refine Rje.ok EE2 P2 (z_cond P2.1 hl (by omega) (by omega) (by omega) hcr) (fun a N3 x σ3 i3 P3 hi3 E3 E23 R3 => ?_) (by unfold tIf3 tIf4; exact (by intro σ1 r s hb; repeat' (first | with_reducible (refine BWe.bo (hcf _ _ hb) ?_; intro r s hb) | with_reducible (exact BWe.sm hb) | with_reducible (refine BWe.bo (BWe.o hb (bw_next hb.br)) ?_; intro r s hb) | with_reducible (refine BWe.bo (BWe.o hb (bw_ref hb.br)) ?_; intro r s hb) | with_reducible (refine BWe.bo (BWe.o hb (bw_passName hb.br)) ?_; intro r s hb) | with_reducible (refine BWe.bo (BWe.o hb (bw_Fexpression hb.br)) ?_; intro r s hb) | with_reducible (refine BWe.bo (BWe.o hb (bw_Fcondition hb.br)) ?_; intro r s hb) | with_reducible (refine BWe.bo (BWe.o hb (bw_pass hb.br _)) ?_; intro r s hb) | with_reducible (refine BWe.bo (BWe.o hb (bw_isSign hb.br _)) ?_; intro r s hb) | with_reducible (refine BWe.bo (BWe.o hb (bw_passWhole hb.br _)) ?_; intro r s hb) | with_reducible (refine BWe.bo (BWe.o hb (bw_passWord hb.br _)) ?_; intro r s hb) | with_reducible (refine BWe.bo (BWe.o hb (bw_isWord hb.br _)) ?_; intro r s hb) | with_reducible (refine BWe.eq hb _ _ _ _ ?_; intro j s hj1 hj2 hj3 hb) | with_reducible (refine BWe.nmI hb (by decide) ?_; intro s hb) | with_reducible (refine BWe.nmB hb (by assumption) (by assumption) ?_; intro s hb) | with_reducible (refine BWe.isBad hb ?_) | with_reducible (refine BWe.itT (inb_nI' (by assumption) (by decide)) ?_) | with_reducible (refine BWe.ite ?_ ?_) | exact BWe.sm hb | (refine BWe.bo (BWe.o hb (bw_next hb.br)) ?_; intro r s hb) | (refine BWe.bo (BWe.o hb (bw_ref hb.br)) ?_; intro r s hb) | (refine BWe.bo (BWe.o hb (bw_passName hb.br)) ?_; intro r s hb) | (refine BWe.bo (BWe.o hb (bw_Fexpression hb.br)) ?_; intro r s hb) | (refine BWe.bo (BWe.o hb (bw_Fcondition hb.br)) ?_; intro r s hb) | (refine BWe.bo (BWe.o hb (bw_pass hb.br _)) ?_; intro r s hb) | (refine BWe.bo (BWe.o hb (bw_isSign hb.br _)) ?_; intro r s hb) | (refine BWe.bo (BWe.o hb (bw_passWhole hb.br _)) ?_; intro r s hb) | (refine BWe.bo (BWe.o hb (bw_passWord hb.br _)) ?_; intro r s hb) | (refine BWe.bo (BWe.o hb (bw_isWord hb.br _)) ?_; intro r s hb) | (refine BWe.eq hb _ _ _ _ ?_; intro j s hj1 hj2 hj3 hb) | (refine BWe.nmI hb (by decide) ?_; intro s hb) | (refine BWe.nmB hb (by assumption) (by assumption) ?_; intro s hb) | refine BWe.isBad hb ?_ | refine BWe.itT (inb_nI' (by assumption) (by decide)) ?_ | refine BWe.ite ?_ ?_)))
  have n23 := E23.1.1
  have sv3 : So N N3 v := E23.1.so (by omega) (by omega)
  have k3 : mk N3 v = 13 := by rw [sv3.k]; exact j4
  rw [ifT k3, nm_eq]
  have F4 : Fz (fun o => o = v) N3 (msR N3 2401 v a) := Fz.rf.msR (fun _ => rfl)
  have P4 := P3.wr F4 ⟨rfl, rfl⟩ k3 (by omega) (by omega)
  have E4 := E3.wr P F4 (by omega)
  refine Rje.st E4 P4 (z_passKey P4.1 (by omega) (by omega) (j := 17) (x := 17) (y := 1952998766) rfl (by decide) (by decide)) (fun _ _ σ5 P5 E5 E45 hi5 _ => ?_) (by unfold tIf3 tIf4; exact (by intro σ1 r s hb; repeat' (first | with_reducible (refine BWe.bo (hcf _ _ hb) ?_; intro r s hb) | with_reducible (exact BWe.sm hb) | with_reducible (refine BWe.bo (BWe.o hb (bw_next hb.br)) ?_; intro r s hb) | with_reducible (refine BWe.bo (BWe.o hb (bw_ref hb.br)) ?_; intro r s hb) | with_reducible (refine BWe.bo (BWe.o hb (bw_passName hb.br)) ?_; intro r s hb) | with_reducible (refine BWe.bo (BWe.o hb (bw_Fexpression hb.br)) ?_; intro r s hb) | with_reducible (refine BWe.bo (BWe.o hb (bw_Fcondition hb.br)) ?_; intro r s hb) | with_reducible (refine BWe.bo (BWe.o hb (bw_pass hb.br _)) ?_; intro r s hb) | with_reducible (refine BWe.bo (BWe.o hb (bw_isSign hb.br _)) ?_; intro r s hb) | with_reducible (refine BWe.bo (BWe.o hb (bw_passWhole hb.br _)) ?_; intro r s hb) | with_reducible (refine BWe.bo (BWe.o hb (bw_passWord hb.br _)) ?_; intro r s hb) | with_reducible (refine BWe.bo (BWe.o hb (bw_isWord hb.br _)) ?_; intro r s hb) | with_reducible (refine BWe.eq hb _ _ _ _ ?_; intro j s hj1 hj2 hj3 hb) | with_reducible (refine BWe.nmI hb (by decide) ?_; intro s hb) | with_reducible (refine BWe.nmB hb (by assumption) (by assumption) ?_; intro s hb) | with_reducible (refine BWe.isBad hb ?_) | with_reducible (refine BWe.itT (inb_nI' (by assumption) (by decide)) ?_) | with_reducible (refine BWe.ite ?_ ?_) | exact BWe.sm hb | (refine BWe.bo (BWe.o hb (bw_next hb.br)) ?_; intro r s hb) | (refine BWe.bo (BWe.o hb (bw_ref hb.br)) ?_; intro r s hb) | (refine BWe.bo (BWe.o hb (bw_passName hb.br)) ?_; intro r s hb) | (refine BWe.bo (BWe.o hb (bw_Fexpression hb.br)) ?_; intro r s hb) | (refine BWe.bo (BWe.o hb (bw_Fcondition hb.br)) ?_; intro r s hb) | (refine BWe.bo (BWe.o hb (bw_pass hb.br _)) ?_; intro r s hb) | (refine BWe.bo (BWe.o hb (bw_isSign hb.br _)) ?_; intro r s hb) | (refine BWe.bo (BWe.o hb (bw_passWhole hb.br _)) ?_; intro r s hb) | (refine BWe.bo (BWe.o hb (bw_passWord hb.br _)) ?_; intro r s hb) | (refine BWe.bo (BWe.o hb (bw_isWord hb.br _)) ?_; intro r s hb) | (refine BWe.eq hb _ _ _ _ ?_; intro j s hj1 hj2 hj3 hb) | (refine BWe.nmI hb (by decide) ?_; intro s hb) | (refine BWe.nmB hb (by assumption) (by assumption) ?_; intro s hb) | refine BWe.isBad hb ?_ | refine BWe.itT (inb_nI' (by assumption) (by decide)) ?_ | refine BWe.ite ?_ ?_)))
  obtain ⟨N5, hN5⟩ : ∃ N5, N5 = msI (msR N3 2401 v a) 405 90 (nI (i3 + 1)) := ⟨_, rfl⟩
  have k5 : mk N5 v = 13 := by rw [hN5]; exact k3
  have n5 : mn N5 = mn N3 := by rw [hN5]; rfl
  have F35 : Fz (fun o => o = 90 ∨ o = v) N3 N5 := by rw [hN5]; exact (Fz.rf.msR (fun _ => Or.inr rfl)).msI (fun _ => Or.inl rfl)
  have F5 : Fz (fun o => o = 90 ∨ o = v) N N5 := (E23.1.mono (fun o _ z => Or.inl z)).tr F35
  have r5 : mR N5 2401 v = a ∧ mR N5 2406 v = v + 1 ∧ mR N5 2407 v = v + 2 := by
    rw [hN5]
    refine ⟨?_, ?_, ?_⟩
    · rw [mR_msI, mR_msR, ifT ⟨rfl, rfl⟩]
    · rw [mR_msI, mR_msR, ifF (by omega), sv3.r]; exact j7
    · rw [mR_msI, mR_msR, ifF (by omega), sv3.r]; exact j8
  have i5 : mI N5 2400 v = 21 := by rw [hN5, mI_msI, ifF (by omega), mI_msR, sv3.i]; exact j9
  have e95 : mR N5 4201 95 = mR M1 4201 95 := by rw [(F5.so (by have := P2.1.n167; omega) (by omega)).r]; exact s95
  rw [← hN5] at P5 E5 ⊢
  rw [ifT k5, r5.2.1]
  obtain ⟨L5, L5'⟩ := lsq_e (Mb := M) j10 j10' F5 (fun z => by omega) (by omega) P2.1.c6
  obtain ⟨L6, L6'⟩ := lsq_e (Mb := M) j11 j11' F5 (fun z => by omega) (by omega) P2.1.c6
  have PE5 : PE C N5 σ5 (i3 + 1) (dep + 1) c s n := P5.wk (by omega) (by omega) (by omega)
  have hc6 := P5.1.c6
  obtain ⟨bs1, l1⟩ := P1.l95
  have arr1 : mR M1 4201 95 = 4398046511104 ∨ mR M1 4201 95 < v := by rw [hv]; exact l1.lt
  refine Rje.bo (C := C) (A := GR C M σ5 (i3 + 1) (dep + 1) c s n 0 (v + 1) N5) (hr N5 σ5 _ (v + 1) (by omega) E5 PE5 L5) E5.fe (fun _ N6 y6 σ6 hg => ?_) (by unfold tIf3 tIf4; exact (by intro σ1 r s hb; repeat' (first | with_reducible (refine BWe.bo (hcf _ _ hb) ?_; intro r s hb) | with_reducible (exact BWe.sm hb) | with_reducible (refine BWe.bo (BWe.o hb (bw_next hb.br)) ?_; intro r s hb) | with_reducible (refine BWe.bo (BWe.o hb (bw_ref hb.br)) ?_; intro r s hb) | with_reducible (refine BWe.bo (BWe.o hb (bw_passName hb.br)) ?_; intro r s hb) | with_reducible (refine BWe.bo (BWe.o hb (bw_Fexpression hb.br)) ?_; intro r s hb) | with_reducible (refine BWe.bo (BWe.o hb (bw_Fcondition hb.br)) ?_; intro r s hb) | with_reducible (refine BWe.bo (BWe.o hb (bw_pass hb.br _)) ?_; intro r s hb) | with_reducible (refine BWe.bo (BWe.o hb (bw_isSign hb.br _)) ?_; intro r s hb) | with_reducible (refine BWe.bo (BWe.o hb (bw_passWhole hb.br _)) ?_; intro r s hb) | with_reducible (refine BWe.bo (BWe.o hb (bw_passWord hb.br _)) ?_; intro r s hb) | with_reducible (refine BWe.bo (BWe.o hb (bw_isWord hb.br _)) ?_; intro r s hb) | with_reducible (refine BWe.eq hb _ _ _ _ ?_; intro j s hj1 hj2 hj3 hb) | with_reducible (refine BWe.nmI hb (by decide) ?_; intro s hb) | with_reducible (refine BWe.nmB hb (by assumption) (by assumption) ?_; intro s hb) | with_reducible (refine BWe.isBad hb ?_) | with_reducible (refine BWe.itT (inb_nI' (by assumption) (by decide)) ?_) | with_reducible (refine BWe.ite ?_ ?_) | exact BWe.sm hb | (refine BWe.bo (BWe.o hb (bw_next hb.br)) ?_; intro r s hb) | (refine BWe.bo (BWe.o hb (bw_ref hb.br)) ?_; intro r s hb) | (refine BWe.bo (BWe.o hb (bw_passName hb.br)) ?_; intro r s hb) | (refine BWe.bo (BWe.o hb (bw_Fexpression hb.br)) ?_; intro r s hb) | (refine BWe.bo (BWe.o hb (bw_Fcondition hb.br)) ?_; intro r s hb) | (refine BWe.bo (BWe.o hb (bw_pass hb.br _)) ?_; intro r s hb) | (refine BWe.bo (BWe.o hb (bw_isSign hb.br _)) ?_; intro r s hb) | (refine BWe.bo (BWe.o hb (bw_passWhole hb.br _)) ?_; intro r s hb) | (refine BWe.bo (BWe.o hb (bw_passWord hb.br _)) ?_; intro r s hb) | (refine BWe.bo (BWe.o hb (bw_isWord hb.br _)) ?_; intro r s hb) | (refine BWe.eq hb _ _ _ _ ?_; intro j s hj1 hj2 hj3 hb) | (refine BWe.nmI hb (by decide) ?_; intro s hb) | (refine BWe.nmB hb (by assumption) (by assumption) ?_; intro s hb) | refine BWe.isBad hb ?_ | refine BWe.itT (inb_nI' (by assumption) (by decide)) ?_ | refine BWe.ite ?_ ?_)))
  have hE6 : tE σ6 ≤ 3000 := by
    obtain ⟨i', os, ns, g1, g2, _⟩ := hg
    have := g2.e1
    have hcxg2 := g2.cx
    omega
  have hn5 : mn M ≤ mn N5 := E5.1.1.1
  have R6 := (hg.row hnf hn5 hE6).lo hnf E5.2.1.2.1
  obtain ⟨i6, os, ns, g1, P6, hi6, E56, g5, g6, F6, K6⟩ := hg
  have E6 := E5.rb E56
  have n6 := F6.1
  have hmo5 : mR N5 411 90 < mn M := by rw [E5.1.2.2.1]; exact P.2.1.2
  have hmo6 : mR N6 411 90 < mn M := by rw [E6.1.2.2.1]; exact P.2.1.2
  have fin : ∀ (N8 : CM) (σ8 : TS) (i8 : Nat) (y8 : Int32) (X : Nat → Prop), PE C N8 σ8 i8 (dep + 1) c s n → i < i8 → Ee M σ N8 σ8 → mn N5 ≤ mn N8 → So N5 N8 v → Fz X N3 N8 → (∀ o, mn N ≤ o → o < mn N3 → ¬ X o) → Tz σ3 σ8 → (∀ j, tA σ8 42 j = tA σ3 42 j) → (mR N8 4201 95 < v ∨ mR N8 4201 95 = 4398046511104 ∨ mn N5 ≤ mR N8 4201 95) → RwR (18 - (dep + 1)) C (PX M N8) N8 σ8 (tE σ) (tE σ8) 0 (v + 1) y6 → RwR (18 - (dep + 1)) C (PX M N8) N8 σ8 (tE σ) (tE σ8) 0 (v + 2) y8 → Rje C M σ (GE C M σ i dep (c + 16) (s + 2048) n fl) (kFor4 v N8) (tIf4 (nI x) y6 y8 σ8) := fun N8 σ8 i8 y8 X P8 hi8 E8 n8 sv8 F8 hX8 z8 c8 a8 R1 R2 => by
    have b3 := R3.b
    have t3 := P3.1.tN9
    have hc8 := P8.1.c6
    refine if4 P P8 hi8 hcn E8 hc hs hfl ⟨⟨by omega, by omega⟩, by rw [sv8.k]; exact k5, by omega⟩ (by rw [sv8.i]; exact i5) ?_ (by rw [sv8.r]; exact r5.2.1) R1 (by rw [sv8.r]; exact r5.2.2) R2
    rw [sv8.r, r5.1]
    exact R3.eqp (by omega) hnf F8 hX8 (fun w => by rw [E8.1.wc P, E3.1.wc P]) z8 c8 (fun o h1 h2 => ⟨⟨by omega, by omega⟩, by omega⟩)
  have s56 : ∀ o, mn M ≤ o → o < mn N5 → o ≠ mR N5 4201 95 → o ≠ v + 1 → So N5 N6 o := fun o h1 h2 h3 h4 => F6.so h2 (fun z => by
    rcases z with (z | z | z | z) | z | z
    · omega
    · omega
    · exact h3 z
    · omega
    · omega
    · rw [L5'] at z; omega)
  have sv6 : So N5 N6 v := s56 v (by omega) (by omega) (by omega) (by omega)
  have k6 : mk N6 v = 13 := by rw [sv6.k]; exact k5
  have F36 : Fz (fun o => (o = 90 ∨ o = v) ∨ Xe N5 o ∨ o = v + 1 ∨ o = mR N5 4201 (v + 1)) N3 N6 := (F35.mono (fun o _ z => Or.inl z)).tr2 F6 (fun o _ z => Or.inr (by rcases z with z | z; exact Or.inl z; exact Or.inr z))
  have hX36 : ∀ o, mn N ≤ o → o < mn N3 → ¬ ((o = 90 ∨ o = v) ∨ Xe N5 o ∨ o = v + 1 ∨ o = mR N5 4201 (v + 1)) := fun o h1 h2 z => by
    rcases z with z | (z | z | z | z) | z | z
    · omega
    · omega
    · omega
    · rw [e95] at z; omega
    · omega
    · omega
    · rw [L5'] at z; omega
  have a6' : mR N6 4201 95 < v ∨ mR N6 4201 95 = 4398046511104 ∨ mn N5 ≤ mR N6 4201 95 := by
    rcases K6 with q | q
    · rw [q, e95]; rcases arr1 with g | g; exact Or.inr (Or.inl g); exact Or.inl g
    · exact Or.inr (Or.inr q)
  have z36 : Tz σ3 σ6 := E45.2.2.2.1.tr E56.2.1.1
  have c36 : ∀ j, tA σ6 42 j = tA σ3 42 j := fun j => by rw [(E56.2.2 42 rfl).2.2.1, (E45.2.2.2.2 42 rfl).2.2.1]
  obtain ⟨L7, L7'⟩ := lsq_s L6 L6' F6 (fun z => by
    rcases z with (z | z | z | z) | z | z
    · omega
    · omega
    · rw [e95] at z; omega
    · omega
    · omega
    · rw [L5'] at z; omega) hc6
  have hc66 := P6.1.c6
  unfold kIf3 tIf3
  rw [t_isBad0 P6.1.g0, ob_some, ifT (rfl : (0 : Int32) = 0)]
  rcases z_takeKey P6.1 (j := 22) (x := 22) (y := 1701606245) rfl (by decide) (by decide) with ⟨σ7, t1, t2, t3, P7, E7, hi7⟩ | ⟨t1, t2⟩
  · rw [t1, ob_some, ifF (show ¬ (1 : Int32) = 0 from by decide), t2, ob_some, ifF (show ¬ (1 : Int32) = 0 from by decide), t3, ob_some]
    obtain ⟨N7, hN7⟩ : ∃ N7, N7 = msI N6 405 90 (nI (i6 + 1)) := ⟨_, rfl⟩
    have PE7 := P6.es E7 P7 (Nat.le_succ _)
    rw [← hN7] at P7 E7 PE7 ⊢
    have n7 : mn N7 = mn N6 := by rw [hN7]; rfl
    have k7 : mk N7 v = 13 := by rw [hN7]; exact k6
    have r7 : mR N7 2407 v = v + 2 := by rw [hN7]; show mR N6 2407 v = v + 2; rw [sv6.r]; exact r5.2.2
    have EE7 := E6.tr (E7.ee P6.1.n167)
    obtain ⟨L8, L8'⟩ := lsq_s L7 L7' E7.1 (by omega) hc66
    have e957 : mR N7 4201 95 = mR N6 4201 95 := by rw [hN7]; rfl
    rw [ifT k7, r7]
    refine Rje.bo (C := C) (A := GR C M σ7 (i6 + 1) (dep + 1) c s n 0 (v + 2) N7) (hr N7 σ7 _ (v + 2) (by omega) EE7 (PE7.wk (by omega) (by omega) (by omega)) L8) EE7.fe (fun _ N8 y8 σ8 hg => ?_) (by unfold tIf4; exact (by intro σ1 r s hb; repeat' (first | with_reducible (refine BWe.bo (hcf _ _ hb) ?_; intro r s hb) | with_reducible (exact BWe.sm hb) | with_reducible (refine BWe.bo (BWe.o hb (bw_next hb.br)) ?_; intro r s hb) | with_reducible (refine BWe.bo (BWe.o hb (bw_ref hb.br)) ?_; intro r s hb) | with_reducible (refine BWe.bo (BWe.o hb (bw_passName hb.br)) ?_; intro r s hb) | with_reducible (refine BWe.bo (BWe.o hb (bw_Fexpression hb.br)) ?_; intro r s hb) | with_reducible (refine BWe.bo (BWe.o hb (bw_Fcondition hb.br)) ?_; intro r s hb) | with_reducible (refine BWe.bo (BWe.o hb (bw_pass hb.br _)) ?_; intro r s hb) | with_reducible (refine BWe.bo (BWe.o hb (bw_isSign hb.br _)) ?_; intro r s hb) | with_reducible (refine BWe.bo (BWe.o hb (bw_passWhole hb.br _)) ?_; intro r s hb) | with_reducible (refine BWe.bo (BWe.o hb (bw_passWord hb.br _)) ?_; intro r s hb) | with_reducible (refine BWe.bo (BWe.o hb (bw_isWord hb.br _)) ?_; intro r s hb) | with_reducible (refine BWe.eq hb _ _ _ _ ?_; intro j s hj1 hj2 hj3 hb) | with_reducible (refine BWe.nmI hb (by decide) ?_; intro s hb) | with_reducible (refine BWe.nmB hb (by assumption) (by assumption) ?_; intro s hb) | with_reducible (refine BWe.isBad hb ?_) | with_reducible (refine BWe.itT (inb_nI' (by assumption) (by decide)) ?_) | with_reducible (refine BWe.ite ?_ ?_) | exact BWe.sm hb | (refine BWe.bo (BWe.o hb (bw_next hb.br)) ?_; intro r s hb) | (refine BWe.bo (BWe.o hb (bw_ref hb.br)) ?_; intro r s hb) | (refine BWe.bo (BWe.o hb (bw_passName hb.br)) ?_; intro r s hb) | (refine BWe.bo (BWe.o hb (bw_Fexpression hb.br)) ?_; intro r s hb) | (refine BWe.bo (BWe.o hb (bw_Fcondition hb.br)) ?_; intro r s hb) | (refine BWe.bo (BWe.o hb (bw_pass hb.br _)) ?_; intro r s hb) | (refine BWe.bo (BWe.o hb (bw_isSign hb.br _)) ?_; intro r s hb) | (refine BWe.bo (BWe.o hb (bw_passWhole hb.br _)) ?_; intro r s hb) | (refine BWe.bo (BWe.o hb (bw_passWord hb.br _)) ?_; intro r s hb) | (refine BWe.bo (BWe.o hb (bw_isWord hb.br _)) ?_; intro r s hb) | (refine BWe.eq hb _ _ _ _ ?_; intro j s hj1 hj2 hj3 hb) | (refine BWe.nmI hb (by decide) ?_; intro s hb) | (refine BWe.nmB hb (by assumption) (by assumption) ?_; intro s hb) | refine BWe.isBad hb ?_ | refine BWe.itT (inb_nI' (by assumption) (by decide)) ?_ | refine BWe.ite ?_ ?_)))
    have hE8 : tE σ8 ≤ 3000 := by
      obtain ⟨i', os, ns, g1, g2, _⟩ := hg
      have := g2.e1
      have hcxg2 := g2.cx
      omega
    have R8 := (hg.row hnf (by omega) hE8).lo hnf EE7.2.1.2.1
    obtain ⟨i8, os8, ns8, g18, P8, hi8, E78, g58, g68, F8, K8⟩ := hg
    have E8 := EE7.rb E78
    have n8 := F8.1
    have hmo7 : mR N7 411 90 < mn M := by rw [EE7.1.2.2.1]; exact P.2.1.2
    have sv8 : So N7 N8 v := F8.so (by omega) (fun z => by
      rcases z with (z | z | z | z) | z | z
      · omega
      · omega
      · rw [e957] at z; omega
      · omega
      · omega
      · rw [L8'] at z; omega)
    have sv67 : So N6 N7 v := E7.1.so (by omega) (by omega)
    have F68 : Fz (fun o => o = 90 ∨ Xe N7 o ∨ o = v + 2 ∨ o = mR N7 4201 (v + 2)) N6 N8 := (E7.1.mono (fun o _ z => Or.inl z)).tr2 F8 (fun o _ z => Or.inr (by rcases z with z | z; exact Or.inl z; exact Or.inr z))
    have k62 : mk N6 (v + 2) = 22 := L7.1.1.1
    obtain ⟨⟨c1, ⟨c2, c3⟩, c4, c5⟩, cc6⟩ := g5
    have hX68 : ∀ o, PR M N5 N6 (v + 1) o → o < mn N6 ∧ ¬ (o = 90 ∨ Xe N7 o ∨ o = v + 2 ∨ o = mR N7 4201 (v + 2)) := fun o ho => by
      obtain ⟨⟨⟨b1, b2⟩, b3⟩, b4⟩ := ho
      refine ⟨b2, fun z => ?_⟩
      rcases z with z | (z | z | z | z) | z | z
      · omega
      · omega
      · omega
      · rw [e957] at z; exact b3 z
      · omega
      · rcases b4 with g | g | g
        · omega
        · have := c1.k55 hc66 (by omega)
          rw [← g, z, k62] at this; exact absurd this (by decide)
        · omega
      · rw [L8'] at z; omega
    have R68 := R6.up (P' := PX M N8) hnf (Nat.le_refl _) (E' := tE σ8) (Nat.le_trans (E7.ee P6.1.n167).2.1.2.1 E78.2.1.2.1) F68 hX68 (fun w => by rw [E8.1.wc P, E6.1.wc P]) ((E7.ee P6.1.n167).2.1.1.tr E78.2.1.1) (fun j => by rw [(E78.2.2 42 rfl).2.2.1, (E7.2.2.2.2 42 rfl).2.2.1]) ((E7.ee P6.1.n167).2.1.2.tr E78.2.1.2) (fun o ho => ⟨⟨ho.1.1.1, by have := ho.1.1.2; omega⟩, fun z => by
      have h1 := ho.1.2
      have h2 := ho.1.1.2
      rcases K8 with q | q
      · rw [q, e957] at z; exact h1 z
      · omega⟩)
    have F38 : Fz (fun o => ((o = 90 ∨ o = v) ∨ Xe N5 o ∨ o = v + 1 ∨ o = mR N5 4201 (v + 1)) ∨ (o = 90 ∨ Xe N7 o ∨ o = v + 2 ∨ o = mR N7 4201 (v + 2))) N3 N8 := (F36.mono (fun o _ z => Or.inl z)).tr2 F68 (fun o _ z => Or.inr z)
    refine fin N8 σ8 i8 y8 _ P8 (by omega) E8 (by omega) ((sv6.tr sv67).tr sv8) F38 (fun o h1 h2 z => ?_) (z36.tr ((E7.ee P6.1.n167).2.1.1.tr E78.2.1.1)) (fun j => by rw [(E78.2.2 42 rfl).2.2.1, (E7.2.2.2.2 42 rfl).2.2.1, c36]) ?_ R68 (R8.mp hnf (Nat.le_refl _) (fun o ho => ho.1.1.2) (fun o ho => ho.1))
    · rcases z with z | z | (z | z | z | z) | z | z
      · exact hX36 o h1 h2 z
      · omega
      · omega
      · omega
      · rw [e957] at z; omega
      · omega
      · omega
      · rw [L8'] at z; omega
    · rcases K8 with q | q
      · rw [q, e957]; exact a6'
      · right; right; omega
  · rw [t1, ob_some, ifT (rfl : (0 : Int32) = 0), t2, ob_some, ifT (rfl : (0 : Int32) = 0)]
    exact fin N6 σ6 i6 0 _ P6 (by omega) E6 n6 sv6 F36 hX36 z36 c36 a6' (R6.mp hnf (Nat.le_refl _) (fun o ho => ho.1.1.2) (fun o ho => ho.1)) (RwR.nil L7 L7' ⟨⟨by omega, by omega⟩, by omega⟩)
end IFE
