/-! Layer B: equations: for -/
set_option maxRecDepth 100000
def kFor4 (v : Nat) (M138 : CM) : Option ((Nat ⊕ Nat) × CM) :=
  obS (K_X2_key 3 M138) (fun w146 M142 => some (.inr w146, M142)) fun _ M142 => obS (K_X2_sign 59 M142) (fun w151 M147 => some (.inr w151, M147)) fun _ M147 => nm (msI M147 406 90 ((mI M147 406 90) - 1)) fun M152 => some (.inl v, M152)
def kFor3 (cE : Nat → Int32 → CM → Option ((Unit ⊕ Nat) × CM)) (v : Nat) (M114 : CM) : Option ((Nat ⊕ Nat) × CM) :=
  if mk M114 v = 13 then ob (K_J16_valueOf (mI M114 2403 v) M114) fun r121 M120 => ob (K_J2_add 95 r121 M120) fun _ M124 => if mk M124 v = 13 then obS (cE (mR M124 2406 v) 0 M124) (fun w133 M129 => some (.inr w133, M129)) fun _ M129 => ob (K_J2_size 95 M129) fun r135 M134 => ob (K_J2_remove 95 (r135 - 1) M134) fun _ M138 => kFor4 v M138 else none else none
def kFor2 (cE : Nat → Int32 → CM → Option ((Unit ⊕ Nat) × CM)) (v : Nat) (M79 : CM) : Option ((Nat ⊕ Nat) × CM) :=
  obS (K_X2_name M79) (fun w87 M83 => some (.inr w87, M83)) fun r84 M83 => if mk M83 v = 13 then nm (msI M83 2403 v r84) fun M89 => obS (K_X2_key 19 M89) (fun w94 M90 => some (.inr w94, M90)) fun _ M90 => obS (K_X2_number 0 99 M90) (fun w99 M95 => some (.inr w99, M95)) fun r96 M95 => if mk M95 v = 13 then nm (msI M95 2404 v r96) fun M101 => obS (K_X2_sign 58 M101) (fun w106 M102 => some (.inr w106, M102)) fun _ M102 => obS (K_X2_number 0 99 M102) (fun w111 M107 => some (.inr w111, M107)) fun r108 M107 => if mk M107 v = 13 then nm (msI M107 2405 v r108) fun M113 => obS (K_X2_key 20 M113) (fun w118 M114 => some (.inr w118, M114)) fun _ M114 => kFor3 cE v M114 else none else none else none
def tFor4 (r41 : Int32) (r10 : Int64) (r18 r26 : Int32) (s44 : TS) : Option (Int32 × TS) :=
  ob (F_passWord 6647396 s44) fun _ s45 => ob (F_pass 59 s45) fun _ s49 => nm (tsI s49 20 ((tI s49 20) - 1)) fun s53 => ob (F_eq 3 r41 r18 r26 s53) fun r55 s54 => if inb r55 3000 then nm (tsB s54 71 (ix r55) r10) fun s59 => some (r55, s59) else none
def tFor3 (cf : Int32 → TS → Option (Int32 × TS)) (r10 : Int64) (r18 r26 : Int32) (s29 : TS) : Option (Int32 × TS) :=
  ob (F_isBad s29) fun r34 s33 => if r34 = 0 then if inb (tI s33 37) 20 then nm (tsB s33 35 (ix (tI s33 37)) r10) fun s38 => nm (tsI s38 37 ((tI s38 37) + 1)) fun s39 => ob (cf 0 s39) fun r41 s40 => nm (tsI s40 37 ((tI s40 37) - 1)) fun s44 => tFor4 r41 r10 r18 r26 s44 else none else some (0, s33)
def tFor2 (cf : Int32 → TS → Option (Int32 × TS)) (s5 : TS) : Option (Int32 × TS) :=
  ob (F_passName s5) fun r10 s9 => ob (F_passWord 26990 s9) fun _ s13 => ob (F_passWhole 99 s13) fun r18 s17 => ob (F_pass 58 s17) fun _ s21 => ob (F_passWhole 99 s21) fun r26 s25 => ob (F_passWord 1819242352 s25) fun _ s29 => tFor3 cf r10 r18 r26 s29
section FOR
variable {C Cb : PC} {M M' M0 M1 M2 M4 M5 Ma Mb Ms : CM} {σ σ' σ0 σ1 σ2 σ4 σ5 σb s1 : TS} {i dep c s n i' dep' c' s' n' d0 w so v a b x o q fl i0 ib depb cb' sb' nb' l p L E E' e : Nat} {os ns : List Nat} {X P P' : Nat → Prop} {y : Int32} {α β γ δ : Type} {G : γ → CM → δ → TS → Prop}
theorem kFor_al {cE : Nat → Int32 → CM → Option ((Unit ⊕ Nat) × CM)} {x : Int32} (h : K_X2_deeper x M = some (.inl (), M1)) (hc : mn M1 + 3 ≤ 601024 ∧ ms M1 + 24 ≤ 7293034) (h0 : 167 ≤ mn M1) : kFor cE x M = kFor2 cE (mn M1) (eqM M1 18) := by
  unfold kFor
  rw [h, obS_inl]
  exact eq_al M1 18 (fun v M => kFor2 cE v M) hc h0
theorem tFor_as {cf : Int32 → TS → Option (Int32 × TS)} (h : F_deeper σ = some ((), σ1)) (h2 : F_next σ1 = some ((), σ2)) : B_readFor cf σ = tFor2 cf σ2 := by
  unfold B_readFor
  rw [h, ob_some, h2, ob_some]
  rfl
theorem Ee.b71 {u : Int64} (E : Ee M0 σ0 M σ) (h : tE σ0 ≤ e) : Ee M0 σ0 M (tsB σ 71 e u) := by
  have f : Ft [71] σ (tsB σ 71 e u) := (Ft.rf [71] σ).p_tsB rfl
  refine ⟨E.1, ⟨E.2.1.1.tr (Tz.ft f (by decide)), ⟨E.2.1.2.1, fun m hm => ⟨(E.2.1.2.2 m hm).1, ?_⟩⟩⟩, E.2.2.tr (f.mono (by decide))⟩
  rw [tB_tsB, ifF (by omega)]
  exact (E.2.1.2.2 m hm).2
theorem PE.b71 {u : Int64} (P : PE C M σ i dep c s n) : PE C M (tsB σ 71 e u) i dep c s n := ⟨P.1.tq ((Ft.rf txQ σ).p_tsB rfl), P.2.1, P.2.2.1, P.2.2.2.1, P.2.2.2.2⟩

set_option maxHeartbeats 4000000 in
theorem for4 (P0 : PE C M σ i0 dep cb' sb' nb') (P : PE C M5 σ5 i (dep + 1) c s n) (hi0 : i0 < i) (hd : cnl C ≤ dep) (E : Ee M σ M5 σ5) (hc : 80 ≤ c) (hs : 8000 ≤ s) (hfl : fl ≠ 1) (hv : (mn M ≤ v ∧ v < mn M5) ∧ mk M5 v = 13 ∧ v ≠ mR M5 4201 95) (h24 : mI M5 2400 v = 18) (hw : mI M5 2403 v = nI w ∧ 38 ≤ w ∧ w < 38 + cm C) (ha : mI M5 2404 v = nI a ∧ a ≤ 99) (hb : mI M5 2405 v = nI b ∧ b ≤ 99) (h26 : mR M5 2406 v = l) (R : RwR (18 - (dep + 1)) C (PR M M4 M5 l) M5 σ5 (tE σ) (tE σ5) 0 l y) : Rje C M σ (GE C M σ i0 dep (c + 16) (s + 2048) n fl) (kFor4 v M5) (tFor4 y (wc M5 w) (nI a) (nI b) σ5) := by
  have h167 := P0.1.n167
  have hnf := P.1.nf12
  obtain ⟨e1, e2, e3⟩ := P.e1
  have hcxP := P.cx
  unfold kFor4 tFor4
  refine eq_close (kT := fun s49 => nm (tsI s49 20 ((tI s49 20) - 1)) fun s53 => ob (F_eq 3 y (nI a) (nI b) s53) fun r55 s54 => if inb r55 3000 then nm (tsB s54 71 (ix r55) (wc M5 w)) fun s59 => some (r55, s59) else none) E P hc hs (fun M6 σ6 P6 E6 E56 => ?_) (by intro σ1 s hb; repeat' (first | with_reducible (exact BWe.sm hb) | with_reducible (refine BWe.bo (BWe.o hb (bw_next hb.br)) ?_; intro r s hb) | with_reducible (refine BWe.bo (BWe.o hb (bw_ref hb.br)) ?_; intro r s hb) | with_reducible (refine BWe.bo (BWe.o hb (bw_passName hb.br)) ?_; intro r s hb) | with_reducible (refine BWe.bo (BWe.o hb (bw_Fexpression hb.br)) ?_; intro r s hb) | with_reducible (refine BWe.bo (BWe.o hb (bw_Fcondition hb.br)) ?_; intro r s hb) | with_reducible (refine BWe.bo (BWe.o hb (bw_pass hb.br _)) ?_; intro r s hb) | with_reducible (refine BWe.bo (BWe.o hb (bw_isSign hb.br _)) ?_; intro r s hb) | with_reducible (refine BWe.bo (BWe.o hb (bw_passWhole hb.br _)) ?_; intro r s hb) | with_reducible (refine BWe.bo (BWe.o hb (bw_passWord hb.br _)) ?_; intro r s hb) | with_reducible (refine BWe.bo (BWe.o hb (bw_isWord hb.br _)) ?_; intro r s hb) | with_reducible (refine BWe.eq hb _ _ _ _ ?_; intro j s hj1 hj2 hj3 hb) | with_reducible (refine BWe.nmI hb (by decide) ?_; intro s hb) | with_reducible (refine BWe.nmB hb (by assumption) (by assumption) ?_; intro s hb) | with_reducible (refine BWe.isBad hb ?_) | with_reducible (refine BWe.itT (inb_nI' (by assumption) (by decide)) ?_) | with_reducible (refine BWe.ite ?_ ?_) | exact BWe.sm hb | (refine BWe.bo (BWe.o hb (bw_next hb.br)) ?_; intro r s hb) | (refine BWe.bo (BWe.o hb (bw_ref hb.br)) ?_; intro r s hb) | (refine BWe.bo (BWe.o hb (bw_passName hb.br)) ?_; intro r s hb) | (refine BWe.bo (BWe.o hb (bw_Fexpression hb.br)) ?_; intro r s hb) | (refine BWe.bo (BWe.o hb (bw_Fcondition hb.br)) ?_; intro r s hb) | (refine BWe.bo (BWe.o hb (bw_pass hb.br _)) ?_; intro r s hb) | (refine BWe.bo (BWe.o hb (bw_isSign hb.br _)) ?_; intro r s hb) | (refine BWe.bo (BWe.o hb (bw_passWhole hb.br _)) ?_; intro r s hb) | (refine BWe.bo (BWe.o hb (bw_passWord hb.br _)) ?_; intro r s hb) | (refine BWe.bo (BWe.o hb (bw_isWord hb.br _)) ?_; intro r s hb) | (refine BWe.eq hb _ _ _ _ ?_; intro j s hj1 hj2 hj3 hb) | (refine BWe.nmI hb (by decide) ?_; intro s hb) | (refine BWe.nmB hb (by assumption) (by assumption) ?_; intro s hb) | refine BWe.isBad hb ?_ | refine BWe.itT (inb_nI' (by assumption) (by decide)) ?_ | refine BWe.ite ?_ ?_))
  obtain ⟨f1, f2, P7, E67⟩ := P6.dp (v := v) hd
  have te6 := tE_es E56
  have te7 : tE (tsI σ6 20 (nI dep)) = tE σ6 := rfl
  try dsimp only
  rw [f1, f2, nm_eq]
  obtain ⟨σ7, hσ7⟩ : ∃ σ7, σ7 = tsI σ6 20 (nI dep) := ⟨_, rfl⟩
  obtain ⟨M7, hM7⟩ : ∃ M7, M7 = msI M6 406 90 (nI dep) := ⟨_, rfl⟩
  rw [← hσ7, ← hM7] at P7 E67
  rw [← hσ7] at te7
  rw [← hσ7, ← hM7]
  have hit := P6.1.it
  obtain ⟨q1, q2, q3, q4⟩ := z_eqn (i' := i + 1) P7 (by omega) 3 y (nI a) (nI b) rfl (by omega)
  obtain ⟨v1, v2, v3, v4, v5, v6, v7⟩ := eqT_v σ7 (tE σ7) 3 y (nI a) (nI b)
  obtain ⟨g1, g2, g3⟩ := P7.e1
  have hcxP7 := P7.cx
  obtain ⟨σ8, hσ8⟩ : ∃ σ8, σ8 = eqT σ7 (tE σ7) 3 y (nI a) (nI b) := ⟨_, rfl⟩
  rw [← hσ8] at q1 q2 q3 q4 v1 v2 v3 v4 v5
  rw [q1, ob_some, ifT (inb_nI' (by omega) (by decide)), nm_eq, ix_nI (by omega)]
  obtain ⟨e, he⟩ : ∃ e, e = tE σ7 := ⟨_, rfl⟩
  rw [← he] at v1 v2 v3 v4 v5 q4 g2 g3 te7 ⊢
  obtain ⟨σ9, hσ9⟩ : ∃ σ9, σ9 = tsB σ8 71 e (wc M5 w) := ⟨_, rfl⟩
  have P8 : PE C M7 σ9 (i + 2) dep (c + 32) (s + 4096) (n + 8) := by rw [hσ9]; exact (q2 P7.1.it.1).b71
  have E7 : Ee M5 σ5 M7 σ7 := (E56.ee P.1.n167).tr (E67.ee P6.1.n167)
  have E8 : Ee M5 σ5 M7 σ9 := by rw [hσ9]; exact (E7.tr q3).b71 (by omega)
  have u1 : ∀ f, tA σ9 f e = tA σ8 f e := fun f => by rw [hσ9]; rfl
  have u2 : tB σ9 71 e = wc M5 w := by rw [hσ9, tB_tsB, ifT ⟨rfl, rfl⟩]
  have u3 : tE σ9 = tE σ8 := by rw [hσ9]; rfl
  rw [← hσ9]
  have E58 := E56.tr E67
  have sv : So M5 M7 v := E58.1.so hv.1.2 (by omega)
  have hn := E8.1.1.1
  have s95 : mR M7 4201 95 = mR M5 4201 95 := (E58.1.so (by have := P.1.n167; omega) (by decide)).r 4201
  have hmo : mR M5 411 90 < mn M := by rw [E.1.2.2.1]; exact P0.2.1.2
  have Rf := R.up (P' := PX M M7) hnf (Nat.le_refl _) (E' := e) (by omega) E8.1.1 (fun o ho => ho.nx h167 hmo) (fun w => E8.1.wc P w) E8.2.1.1 (fun j => (E8.2.2 42 rfl).2.2.1 j) E8.2.1.2 (fun o ho => ⟨⟨ho.1.1.1, by have := ho.1.1.2; omega⟩, by rw [s95]; exact ho.1.2⟩)
  obtain ⟨os, p, d0, r1, r2, ⟨r3, rdm⟩, r40⟩ := Rf
  obtain ⟨d, hd1, hd2, r4⟩ : ∃ d, 1 ≤ d ∧ d + 1 + dep ≤ 18 ∧ EqL (EqR C (PX M M7) M7 σ9 (tE σ) d 0) (tE σ) e σ9 os p := by
    have := P.1.2.2.1.2.2
    refine ⟨max d0 1, Nat.le_max_right _ _, by omega, EqL.mv (Nat.le_refl _) (Nat.le_refl _) (fun _ _ _ => rfl) (fun o p _ _ R => EqR.mv hnf Mv.rf (fun _ z => z) ⟨Nat.le_refl _, Nat.le_refl _⟩ (fun _ => rfl) (Nat.le_refl _) d0 _ 0 o p (Nat.le_max_left _ _) (fun _ _ _ => ⟨fun _ _ => rfl, rfl⟩) (fun _ _ _ => rfl) R) os p r40⟩
  have w8 : wc M7 w = wc M5 w := E8.1.wc P w
  have et : tE σ ≤ tE σ5 := E.2.1.2.1
  refine Or.inl ⟨v, M7, nI e, σ9, rfl, rfl, e, i + 2, d + 1, ⟨rfl, by rw [gb_n hfl]; exact hd2⟩, P8.wk (by omega) (by omega) (by omega), by omega, E.tr E8, ⟨by rw [u3]; exact q4, by omega⟩, ⟨⟨⟨⟨hv.1.1, by omega⟩, by rw [s95]; exact hv.2.2⟩, by rw [sv.k]; exact hv.2.1, by omega, by omega, by omega⟩, Or.inr (Or.inr (Or.inl ⟨⟨hfl, hd1⟩, by rw [sv.i]; exact h24, by rw [u1]; exact v1, ⟨w, by rw [sv.i]; exact hw.1, hw.2.1, hw.2.2, by rw [u2, w8]⟩, ⟨a, b, by rw [sv.i]; exact ha.1, by rw [u1]; exact v3, ha.2, by rw [sv.i]; exact hb.1, by rw [u1]; exact v4, hb.2⟩, os, p, by rw [sv.r, h26]; exact r1, ?_, r3, r4⟩))⟩, by rw [u1]; exact v5⟩
  rw [u1]
  exact v2.trans r2
set_option maxHeartbeats 4000000 in
theorem eqn_18 {cE : Nat → Int32 → CM → Option ((Unit ⊕ Nat) × CM)} {cf : Int32 → TS → Option (Int32 × TS)} (P : PE C M σ i dep c s n) (hc : 80 ≤ c) (hs : 8000 ≤ s) (hn : 20 ≤ n) (hfl : fl ≠ 1) (hi : i < ct C) (hR : dep < 16 → ∀ (w : Nat) (M4 : CM) (σ4 : TS) (i4 l : Nat), i ≤ i4 → Ee M σ M4 σ4 → PE (C.fo w) M4 σ4 i4 (dep + 1) c s n → LsQ M M4 l [] → Rje (C.fo w) M σ4 (GR (C.fo w) M σ4 i4 (dep + 1) c s n 0 l M4) (cE l 0 M4) (cf 0 σ4)) : Rje C M σ (GE C M σ i dep (c + 16) (s + 2048) n fl) (kFor cE (mA M 94 i) (msI M 405 90 (nI (i + 1)))) (ob (B_readFor cf σ) fun r54 s53 => some (r54, s53)) := by
  have h167 := P.1.n167
  have hnf := P.1.nf12
  have hcn := P.2.2.2.2.1.1
  rw [ob_id]
  rcases z_deepNext P.1 (by omega) (by omega) hi with ⟨M1, s1, σ1, q1, q2, q3, P1, E1, hd, hm⟩ | ⟨w, M1, σ1, q1, q2, fb⟩
  rotate_left
  · unfold B_readFor kFor
    rw [q1, obS_inr, q2, ob_some]
    have fb := fb.fe P.1 P.2
    exact Or.inr (FBe.ko fb (BWe.bo (BWe.o fb.bd (bw_next fb.bd.br)) (by intro r s hb; repeat' (first | with_reducible (exact BWe.sm hb) | with_reducible (refine BWe.bo (BWe.o hb (bw_next hb.br)) ?_; intro r s hb) | with_reducible (refine BWe.bo (BWe.o hb (bw_ref hb.br)) ?_; intro r s hb) | with_reducible (refine BWe.bo (BWe.o hb (bw_passName hb.br)) ?_; intro r s hb) | with_reducible (refine BWe.bo (BWe.o hb (bw_Fexpression hb.br)) ?_; intro r s hb) | with_reducible (refine BWe.bo (BWe.o hb (bw_Fcondition hb.br)) ?_; intro r s hb) | with_reducible (refine BWe.bo (BWe.o hb (bw_pass hb.br _)) ?_; intro r s hb) | with_reducible (refine BWe.bo (BWe.o hb (bw_isSign hb.br _)) ?_; intro r s hb) | with_reducible (refine BWe.bo (BWe.o hb (bw_passWhole hb.br _)) ?_; intro r s hb) | with_reducible (refine BWe.bo (BWe.o hb (bw_passWord hb.br _)) ?_; intro r s hb) | with_reducible (refine BWe.bo (BWe.o hb (bw_isWord hb.br _)) ?_; intro r s hb) | with_reducible (refine BWe.eq hb _ _ _ _ ?_; intro j s hj1 hj2 hj3 hb) | with_reducible (refine BWe.nmI hb (by decide) ?_; intro s hb) | with_reducible (refine BWe.nmB hb (by assumption) (by assumption) ?_; intro s hb) | with_reducible (refine BWe.isBad hb ?_) | with_reducible (refine BWe.itT (inb_nI' (by assumption) (by decide)) ?_) | with_reducible (refine BWe.ite ?_ ?_) | exact BWe.sm hb | (refine BWe.bo (BWe.o hb (bw_next hb.br)) ?_; intro r s hb) | (refine BWe.bo (BWe.o hb (bw_ref hb.br)) ?_; intro r s hb) | (refine BWe.bo (BWe.o hb (bw_passName hb.br)) ?_; intro r s hb) | (refine BWe.bo (BWe.o hb (bw_Fexpression hb.br)) ?_; intro r s hb) | (refine BWe.bo (BWe.o hb (bw_Fcondition hb.br)) ?_; intro r s hb) | (refine BWe.bo (BWe.o hb (bw_pass hb.br _)) ?_; intro r s hb) | (refine BWe.bo (BWe.o hb (bw_isSign hb.br _)) ?_; intro r s hb) | (refine BWe.bo (BWe.o hb (bw_passWhole hb.br _)) ?_; intro r s hb) | (refine BWe.bo (BWe.o hb (bw_passWord hb.br _)) ?_; intro r s hb) | (refine BWe.bo (BWe.o hb (bw_isWord hb.br _)) ?_; intro r s hb) | (refine BWe.eq hb _ _ _ _ ?_; intro j s hj1 hj2 hj3 hb) | (refine BWe.nmI hb (by decide) ?_; intro s hb) | (refine BWe.nmB hb (by assumption) (by assumption) ?_; intro s hb) | refine BWe.isBad hb ?_ | refine BWe.itT (inb_nI' (by assumption) (by decide)) ?_ | refine BWe.ite ?_ ?_))))
  have hr := hR hd
  obtain ⟨a4, a5, a6, a7, a8⟩ := P1.2.2.2.1
  rw [kFor_al q1 ⟨by omega, by omega⟩ P1.n167, tFor_as q2 q3]
  have PE1 : PE C M1 σ1 (i + 1) (dep + 1) (c + 16) (s + 2048) (n + 4) := ⟨P1, P.2.es P.1 E1 (Nat.le_succ _) (by omega)⟩
  have EE1 := E1.ee h167
  obtain ⟨j1, j2, j3, ⟨j4, j5, j6⟩, ⟨j7, j8, j9⟩, ⟨j10, j10'⟩, j11, j11'⟩ := eqM_ok M1 18 P1.c6
  obtain ⟨P2, E2⟩ := PE1.alq j1 (c' := c + 13) (s' := s + 2034) (by omega) (by omega)
  have EE2 := EE1.tr E2
  have s95 : mR (eqM M1 18) 4201 95 = mR M1 4201 95 := (j1.so (by have := P1.n167; omega) (fun z => z)).r 4201
  obtain ⟨N, hN⟩ : ∃ N, N = eqM M1 18 := ⟨_, rfl⟩
  rw [← hN] at j1 j2 j3 j4 j5 j6 j7 j8 j9 j10 j10' j11 j11' P2 E2 EE2 s95 ⊢
  obtain ⟨v, hv⟩ : ∃ v, v = mn M1 := ⟨_, rfl⟩
  rw [← hv] at j2 j4 j5 j6 j7 j8 j9 j10 j10' j11 j11' ⊢
  unfold kFor2 tFor2
  refine Rje.st EE2 P2 (z_name P2.1 (by omega) (by omega)) (fun x y σ3 P3 E3 E23 hi3 ⟨w, hx, hw1, hw2, hy⟩ => ?_) (by intro σ1 r s hb; repeat' (first | with_reducible (exact BWe.sm hb) | with_reducible (refine BWe.bo (BWe.o hb (bw_next hb.br)) ?_; intro r s hb) | with_reducible (refine BWe.bo (BWe.o hb (bw_ref hb.br)) ?_; intro r s hb) | with_reducible (refine BWe.bo (BWe.o hb (bw_passName hb.br)) ?_; intro r s hb) | with_reducible (refine BWe.bo (BWe.o hb (bw_Fexpression hb.br)) ?_; intro r s hb) | with_reducible (refine BWe.bo (BWe.o hb (bw_Fcondition hb.br)) ?_; intro r s hb) | with_reducible (refine BWe.bo (BWe.o hb (bw_pass hb.br _)) ?_; intro r s hb) | with_reducible (refine BWe.bo (BWe.o hb (bw_isSign hb.br _)) ?_; intro r s hb) | with_reducible (refine BWe.bo (BWe.o hb (bw_passWhole hb.br _)) ?_; intro r s hb) | with_reducible (refine BWe.bo (BWe.o hb (bw_passWord hb.br _)) ?_; intro r s hb) | with_reducible (refine BWe.bo (BWe.o hb (bw_isWord hb.br _)) ?_; intro r s hb) | with_reducible (refine BWe.eq hb _ _ _ _ ?_; intro j s hj1 hj2 hj3 hb) | with_reducible (refine BWe.nmI hb (by decide) ?_; intro s hb) | with_reducible (refine BWe.nmB hb (by assumption) (by assumption) ?_; intro s hb) | with_reducible (refine BWe.isBad hb ?_) | with_reducible (refine BWe.itT (inb_nI' (by assumption) (by decide)) ?_) | with_reducible (refine BWe.ite ?_ ?_) | exact BWe.sm hb | (refine BWe.bo (BWe.o hb (bw_next hb.br)) ?_; intro r s hb) | (refine BWe.bo (BWe.o hb (bw_ref hb.br)) ?_; intro r s hb) | (refine BWe.bo (BWe.o hb (bw_passName hb.br)) ?_; intro r s hb) | (refine BWe.bo (BWe.o hb (bw_Fexpression hb.br)) ?_; intro r s hb) | (refine BWe.bo (BWe.o hb (bw_Fcondition hb.br)) ?_; intro r s hb) | (refine BWe.bo (BWe.o hb (bw_pass hb.br _)) ?_; intro r s hb) | (refine BWe.bo (BWe.o hb (bw_isSign hb.br _)) ?_; intro r s hb) | (refine BWe.bo (BWe.o hb (bw_passWhole hb.br _)) ?_; intro r s hb) | (refine BWe.bo (BWe.o hb (bw_passWord hb.br _)) ?_; intro r s hb) | (refine BWe.bo (BWe.o hb (bw_isWord hb.br _)) ?_; intro r s hb) | (refine BWe.eq hb _ _ _ _ ?_; intro j s hj1 hj2 hj3 hb) | (refine BWe.nmI hb (by decide) ?_; intro s hb) | (refine BWe.nmB hb (by assumption) (by assumption) ?_; intro s hb) | refine BWe.isBad hb ?_ | refine BWe.itT (inb_nI' (by assumption) (by decide)) ?_ | refine BWe.ite ?_ ?_))
  rw [ifT (show mk (msI N 405 90 (nI (i + 1 + 1))) v = 13 from j4), nm_eq]
  have F4 : Fz (fun o => o = v) (msI N 405 90 (nI (i + 1 + 1))) (msI (msI N 405 90 (nI (i + 1 + 1))) 2403 v x) := Fz.rf.msI (fun _ => rfl)
  have P4 := P3.wr F4 ⟨rfl, rfl⟩ j4 (show v < mn N by omega) (by omega)
  have E4 := E3.wr P F4 (by omega)
  refine Rje.st E4 P4 (z_passKey P4.1 (by omega) (by omega) (j := 19) (x := 19) (y := 26990) rfl (by decide) (by decide)) (fun _ _ σ5 P5 E5 E45 hi5 _ => ?_) (by intro σ1 r s hb; repeat' (first | with_reducible (exact BWe.sm hb) | with_reducible (refine BWe.bo (BWe.o hb (bw_next hb.br)) ?_; intro r s hb) | with_reducible (refine BWe.bo (BWe.o hb (bw_ref hb.br)) ?_; intro r s hb) | with_reducible (refine BWe.bo (BWe.o hb (bw_passName hb.br)) ?_; intro r s hb) | with_reducible (refine BWe.bo (BWe.o hb (bw_Fexpression hb.br)) ?_; intro r s hb) | with_reducible (refine BWe.bo (BWe.o hb (bw_Fcondition hb.br)) ?_; intro r s hb) | with_reducible (refine BWe.bo (BWe.o hb (bw_pass hb.br _)) ?_; intro r s hb) | with_reducible (refine BWe.bo (BWe.o hb (bw_isSign hb.br _)) ?_; intro r s hb) | with_reducible (refine BWe.bo (BWe.o hb (bw_passWhole hb.br _)) ?_; intro r s hb) | with_reducible (refine BWe.bo (BWe.o hb (bw_passWord hb.br _)) ?_; intro r s hb) | with_reducible (refine BWe.bo (BWe.o hb (bw_isWord hb.br _)) ?_; intro r s hb) | with_reducible (refine BWe.eq hb _ _ _ _ ?_; intro j s hj1 hj2 hj3 hb) | with_reducible (refine BWe.nmI hb (by decide) ?_; intro s hb) | with_reducible (refine BWe.nmB hb (by assumption) (by assumption) ?_; intro s hb) | with_reducible (refine BWe.isBad hb ?_) | with_reducible (refine BWe.itT (inb_nI' (by assumption) (by decide)) ?_) | with_reducible (refine BWe.ite ?_ ?_) | exact BWe.sm hb | (refine BWe.bo (BWe.o hb (bw_next hb.br)) ?_; intro r s hb) | (refine BWe.bo (BWe.o hb (bw_ref hb.br)) ?_; intro r s hb) | (refine BWe.bo (BWe.o hb (bw_passName hb.br)) ?_; intro r s hb) | (refine BWe.bo (BWe.o hb (bw_Fexpression hb.br)) ?_; intro r s hb) | (refine BWe.bo (BWe.o hb (bw_Fcondition hb.br)) ?_; intro r s hb) | (refine BWe.bo (BWe.o hb (bw_pass hb.br _)) ?_; intro r s hb) | (refine BWe.bo (BWe.o hb (bw_isSign hb.br _)) ?_; intro r s hb) | (refine BWe.bo (BWe.o hb (bw_passWhole hb.br _)) ?_; intro r s hb) | (refine BWe.bo (BWe.o hb (bw_passWord hb.br _)) ?_; intro r s hb) | (refine BWe.bo (BWe.o hb (bw_isWord hb.br _)) ?_; intro r s hb) | (refine BWe.eq hb _ _ _ _ ?_; intro j s hj1 hj2 hj3 hb) | (refine BWe.nmI hb (by decide) ?_; intro s hb) | (refine BWe.nmB hb (by assumption) (by assumption) ?_; intro s hb) | refine BWe.isBad hb ?_ | refine BWe.itT (inb_nI' (by assumption) (by decide)) ?_ | refine BWe.ite ?_ ?_))
  refine Rje.st E5 P5 (z_number P5.1 (by omega) (by omega) (hi := 99) (x2 := 99) rfl (by decide)) (fun x6 y6 σ6 P6 E6 E56 hi6 ⟨a, ha1, ha2, ha3⟩ => ?_) (by intro σ1 r s hb; repeat' (first | with_reducible (exact BWe.sm hb) | with_reducible (refine BWe.bo (BWe.o hb (bw_next hb.br)) ?_; intro r s hb) | with_reducible (refine BWe.bo (BWe.o hb (bw_ref hb.br)) ?_; intro r s hb) | with_reducible (refine BWe.bo (BWe.o hb (bw_passName hb.br)) ?_; intro r s hb) | with_reducible (refine BWe.bo (BWe.o hb (bw_Fexpression hb.br)) ?_; intro r s hb) | with_reducible (refine BWe.bo (BWe.o hb (bw_Fcondition hb.br)) ?_; intro r s hb) | with_reducible (refine BWe.bo (BWe.o hb (bw_pass hb.br _)) ?_; intro r s hb) | with_reducible (refine BWe.bo (BWe.o hb (bw_isSign hb.br _)) ?_; intro r s hb) | with_reducible (refine BWe.bo (BWe.o hb (bw_passWhole hb.br _)) ?_; intro r s hb) | with_reducible (refine BWe.bo (BWe.o hb (bw_passWord hb.br _)) ?_; intro r s hb) | with_reducible (refine BWe.bo (BWe.o hb (bw_isWord hb.br _)) ?_; intro r s hb) | with_reducible (refine BWe.eq hb _ _ _ _ ?_; intro j s hj1 hj2 hj3 hb) | with_reducible (refine BWe.nmI hb (by decide) ?_; intro s hb) | with_reducible (refine BWe.nmB hb (by assumption) (by assumption) ?_; intro s hb) | with_reducible (refine BWe.isBad hb ?_) | with_reducible (refine BWe.itT (inb_nI' (by assumption) (by decide)) ?_) | with_reducible (refine BWe.ite ?_ ?_) | exact BWe.sm hb | (refine BWe.bo (BWe.o hb (bw_next hb.br)) ?_; intro r s hb) | (refine BWe.bo (BWe.o hb (bw_ref hb.br)) ?_; intro r s hb) | (refine BWe.bo (BWe.o hb (bw_passName hb.br)) ?_; intro r s hb) | (refine BWe.bo (BWe.o hb (bw_Fexpression hb.br)) ?_; intro r s hb) | (refine BWe.bo (BWe.o hb (bw_Fcondition hb.br)) ?_; intro r s hb) | (refine BWe.bo (BWe.o hb (bw_pass hb.br _)) ?_; intro r s hb) | (refine BWe.bo (BWe.o hb (bw_isSign hb.br _)) ?_; intro r s hb) | (refine BWe.bo (BWe.o hb (bw_passWhole hb.br _)) ?_; intro r s hb) | (refine BWe.bo (BWe.o hb (bw_passWord hb.br _)) ?_; intro r s hb) | (refine BWe.bo (BWe.o hb (bw_isWord hb.br _)) ?_; intro r s hb) | (refine BWe.eq hb _ _ _ _ ?_; intro j s hj1 hj2 hj3 hb) | (refine BWe.nmI hb (by decide) ?_; intro s hb) | (refine BWe.nmB hb (by assumption) (by assumption) ?_; intro s hb) | refine BWe.isBad hb ?_ | refine BWe.itT (inb_nI' (by assumption) (by decide)) ?_ | refine BWe.ite ?_ ?_))
  obtain ⟨N6, hN6⟩ : ∃ N6, N6 = msI (msI (msI (msI N 405 90 (nI (i + 1 + 1))) 2403 v x) 405 90 (nI (i + 1 + 1 + 1))) 405 90 (nI (i + 1 + 1 + 1 + 1)) := ⟨_, rfl⟩
  have k6 : mk N6 v = 13 := by rw [hN6]; exact j4
  have n6 : mn N6 = mn N := by rw [hN6]; rfl
  have F6 : Fz (fun o => o = 90 ∨ o = v) N N6 := by rw [hN6]; exact (((Fz.rf.msI (fun _ => Or.inl rfl)).msI (fun _ => Or.inr rfl)).msI (fun _ => Or.inl rfl)).msI (fun _ => Or.inl rfl)
  have i6 : mI N6 2403 v = x ∧ mI N6 2400 v = 18 := by rw [hN6]; exact ⟨by simp [mI_msI], by simp [mI_msI, j9]⟩
  have r6 : ∀ g o, mR N6 g o = mR N g o := fun g o => by rw [hN6]; rfl
  have w6 : ∀ w, wc N6 w = wc N w := fun w => by rw [hN6]; rfl
  rw [← hN6] at P6 E6 ⊢
  rw [ifT k6, nm_eq]
  have F7 : Fz (fun o => o = v) N6 (msI N6 2404 v x6) := Fz.rf.msI (fun _ => rfl)
  have P7 := P6.wr F7 ⟨rfl, rfl⟩ k6 (by omega) (by omega)
  have E7 := E6.wr P F7 (by omega)
  refine Rje.st E7 P7 (z_pass P7.1 (by omega) (by omega) (x := 58) (by decide)) (fun _ _ σ8 P8 E8 E78 hi8 _ => ?_) (by intro σ1 r s hb; repeat' (first | with_reducible (exact BWe.sm hb) | with_reducible (refine BWe.bo (BWe.o hb (bw_next hb.br)) ?_; intro r s hb) | with_reducible (refine BWe.bo (BWe.o hb (bw_ref hb.br)) ?_; intro r s hb) | with_reducible (refine BWe.bo (BWe.o hb (bw_passName hb.br)) ?_; intro r s hb) | with_reducible (refine BWe.bo (BWe.o hb (bw_Fexpression hb.br)) ?_; intro r s hb) | with_reducible (refine BWe.bo (BWe.o hb (bw_Fcondition hb.br)) ?_; intro r s hb) | with_reducible (refine BWe.bo (BWe.o hb (bw_pass hb.br _)) ?_; intro r s hb) | with_reducible (refine BWe.bo (BWe.o hb (bw_isSign hb.br _)) ?_; intro r s hb) | with_reducible (refine BWe.bo (BWe.o hb (bw_passWhole hb.br _)) ?_; intro r s hb) | with_reducible (refine BWe.bo (BWe.o hb (bw_passWord hb.br _)) ?_; intro r s hb) | with_reducible (refine BWe.bo (BWe.o hb (bw_isWord hb.br _)) ?_; intro r s hb) | with_reducible (refine BWe.eq hb _ _ _ _ ?_; intro j s hj1 hj2 hj3 hb) | with_reducible (refine BWe.nmI hb (by decide) ?_; intro s hb) | with_reducible (refine BWe.nmB hb (by assumption) (by assumption) ?_; intro s hb) | with_reducible (refine BWe.isBad hb ?_) | with_reducible (refine BWe.itT (inb_nI' (by assumption) (by decide)) ?_) | with_reducible (refine BWe.ite ?_ ?_) | exact BWe.sm hb | (refine BWe.bo (BWe.o hb (bw_next hb.br)) ?_; intro r s hb) | (refine BWe.bo (BWe.o hb (bw_ref hb.br)) ?_; intro r s hb) | (refine BWe.bo (BWe.o hb (bw_passName hb.br)) ?_; intro r s hb) | (refine BWe.bo (BWe.o hb (bw_Fexpression hb.br)) ?_; intro r s hb) | (refine BWe.bo (BWe.o hb (bw_Fcondition hb.br)) ?_; intro r s hb) | (refine BWe.bo (BWe.o hb (bw_pass hb.br _)) ?_; intro r s hb) | (refine BWe.bo (BWe.o hb (bw_isSign hb.br _)) ?_; intro r s hb) | (refine BWe.bo (BWe.o hb (bw_passWhole hb.br _)) ?_; intro r s hb) | (refine BWe.bo (BWe.o hb (bw_passWord hb.br _)) ?_; intro r s hb) | (refine BWe.bo (BWe.o hb (bw_isWord hb.br _)) ?_; intro r s hb) | (refine BWe.eq hb _ _ _ _ ?_; intro j s hj1 hj2 hj3 hb) | (refine BWe.nmI hb (by decide) ?_; intro s hb) | (refine BWe.nmB hb (by assumption) (by assumption) ?_; intro s hb) | refine BWe.isBad hb ?_ | refine BWe.itT (inb_nI' (by assumption) (by decide)) ?_ | refine BWe.ite ?_ ?_))
  refine Rje.st E8 P8 (z_number P8.1 (by omega) (by omega) (hi := 99) (x2 := 99) rfl (by decide)) (fun x9 y9 σ9 P9 E9 E89 hi9 ⟨b, hb1, hb2, hb3⟩ => ?_) (by intro σ1 r s hb; repeat' (first | with_reducible (exact BWe.sm hb) | with_reducible (refine BWe.bo (BWe.o hb (bw_next hb.br)) ?_; intro r s hb) | with_reducible (refine BWe.bo (BWe.o hb (bw_ref hb.br)) ?_; intro r s hb) | with_reducible (refine BWe.bo (BWe.o hb (bw_passName hb.br)) ?_; intro r s hb) | with_reducible (refine BWe.bo (BWe.o hb (bw_Fexpression hb.br)) ?_; intro r s hb) | with_reducible (refine BWe.bo (BWe.o hb (bw_Fcondition hb.br)) ?_; intro r s hb) | with_reducible (refine BWe.bo (BWe.o hb (bw_pass hb.br _)) ?_; intro r s hb) | with_reducible (refine BWe.bo (BWe.o hb (bw_isSign hb.br _)) ?_; intro r s hb) | with_reducible (refine BWe.bo (BWe.o hb (bw_passWhole hb.br _)) ?_; intro r s hb) | with_reducible (refine BWe.bo (BWe.o hb (bw_passWord hb.br _)) ?_; intro r s hb) | with_reducible (refine BWe.bo (BWe.o hb (bw_isWord hb.br _)) ?_; intro r s hb) | with_reducible (refine BWe.eq hb _ _ _ _ ?_; intro j s hj1 hj2 hj3 hb) | with_reducible (refine BWe.nmI hb (by decide) ?_; intro s hb) | with_reducible (refine BWe.nmB hb (by assumption) (by assumption) ?_; intro s hb) | with_reducible (refine BWe.isBad hb ?_) | with_reducible (refine BWe.itT (inb_nI' (by assumption) (by decide)) ?_) | with_reducible (refine BWe.ite ?_ ?_) | exact BWe.sm hb | (refine BWe.bo (BWe.o hb (bw_next hb.br)) ?_; intro r s hb) | (refine BWe.bo (BWe.o hb (bw_ref hb.br)) ?_; intro r s hb) | (refine BWe.bo (BWe.o hb (bw_passName hb.br)) ?_; intro r s hb) | (refine BWe.bo (BWe.o hb (bw_Fexpression hb.br)) ?_; intro r s hb) | (refine BWe.bo (BWe.o hb (bw_Fcondition hb.br)) ?_; intro r s hb) | (refine BWe.bo (BWe.o hb (bw_pass hb.br _)) ?_; intro r s hb) | (refine BWe.bo (BWe.o hb (bw_isSign hb.br _)) ?_; intro r s hb) | (refine BWe.bo (BWe.o hb (bw_passWhole hb.br _)) ?_; intro r s hb) | (refine BWe.bo (BWe.o hb (bw_passWord hb.br _)) ?_; intro r s hb) | (refine BWe.bo (BWe.o hb (bw_isWord hb.br _)) ?_; intro r s hb) | (refine BWe.eq hb _ _ _ _ ?_; intro j s hj1 hj2 hj3 hb) | (refine BWe.nmI hb (by decide) ?_; intro s hb) | (refine BWe.nmB hb (by assumption) (by assumption) ?_; intro s hb) | refine BWe.isBad hb ?_ | refine BWe.itT (inb_nI' (by assumption) (by decide)) ?_ | refine BWe.ite ?_ ?_))
  rw [ifT (show mk (msI (msI (msI N6 2404 v x6) 405 90 (nI (i + 1 + 1 + 1 + 1 + 1))) 405 90 (nI (i + 1 + 1 + 1 + 1 + 1 + 1))) v = 13 from k6), nm_eq]
  have F10 : Fz (fun o => o = v) (msI (msI (msI N6 2404 v x6) 405 90 (nI (i + 1 + 1 + 1 + 1 + 1))) 405 90 (nI (i + 1 + 1 + 1 + 1 + 1 + 1))) (msI (msI (msI (msI N6 2404 v x6) 405 90 (nI (i + 1 + 1 + 1 + 1 + 1))) 405 90 (nI (i + 1 + 1 + 1 + 1 + 1 + 1))) 2405 v x9) := Fz.rf.msI (fun _ => rfl)
  have P10 := P9.wr F10 ⟨rfl, rfl⟩ k6 (show v < mn N6 by omega) (by omega)
  have E10 := E9.wr P F10 (by omega)
  refine Rje.st E10 P10 (z_passKey P10.1 (by omega) (by omega) (j := 20) (x := 20) (y := 1819242352) rfl (by decide) (by decide)) (fun _ _ σ11 P11 E11 E1011 hi11 _ => ?_) (by intro σ1 r s hb; repeat' (first | with_reducible (exact BWe.sm hb) | with_reducible (refine BWe.bo (BWe.o hb (bw_next hb.br)) ?_; intro r s hb) | with_reducible (refine BWe.bo (BWe.o hb (bw_ref hb.br)) ?_; intro r s hb) | with_reducible (refine BWe.bo (BWe.o hb (bw_passName hb.br)) ?_; intro r s hb) | with_reducible (refine BWe.bo (BWe.o hb (bw_Fexpression hb.br)) ?_; intro r s hb) | with_reducible (refine BWe.bo (BWe.o hb (bw_Fcondition hb.br)) ?_; intro r s hb) | with_reducible (refine BWe.bo (BWe.o hb (bw_pass hb.br _)) ?_; intro r s hb) | with_reducible (refine BWe.bo (BWe.o hb (bw_isSign hb.br _)) ?_; intro r s hb) | with_reducible (refine BWe.bo (BWe.o hb (bw_passWhole hb.br _)) ?_; intro r s hb) | with_reducible (refine BWe.bo (BWe.o hb (bw_passWord hb.br _)) ?_; intro r s hb) | with_reducible (refine BWe.bo (BWe.o hb (bw_isWord hb.br _)) ?_; intro r s hb) | with_reducible (refine BWe.eq hb _ _ _ _ ?_; intro j s hj1 hj2 hj3 hb) | with_reducible (refine BWe.nmI hb (by decide) ?_; intro s hb) | with_reducible (refine BWe.nmB hb (by assumption) (by assumption) ?_; intro s hb) | with_reducible (refine BWe.isBad hb ?_) | with_reducible (refine BWe.itT (inb_nI' (by assumption) (by decide)) ?_) | with_reducible (refine BWe.ite ?_ ?_) | exact BWe.sm hb | (refine BWe.bo (BWe.o hb (bw_next hb.br)) ?_; intro r s hb) | (refine BWe.bo (BWe.o hb (bw_ref hb.br)) ?_; intro r s hb) | (refine BWe.bo (BWe.o hb (bw_passName hb.br)) ?_; intro r s hb) | (refine BWe.bo (BWe.o hb (bw_Fexpression hb.br)) ?_; intro r s hb) | (refine BWe.bo (BWe.o hb (bw_Fcondition hb.br)) ?_; intro r s hb) | (refine BWe.bo (BWe.o hb (bw_pass hb.br _)) ?_; intro r s hb) | (refine BWe.bo (BWe.o hb (bw_isSign hb.br _)) ?_; intro r s hb) | (refine BWe.bo (BWe.o hb (bw_passWhole hb.br _)) ?_; intro r s hb) | (refine BWe.bo (BWe.o hb (bw_passWord hb.br _)) ?_; intro r s hb) | (refine BWe.bo (BWe.o hb (bw_isWord hb.br _)) ?_; intro r s hb) | (refine BWe.eq hb _ _ _ _ ?_; intro j s hj1 hj2 hj3 hb) | (refine BWe.nmI hb (by decide) ?_; intro s hb) | (refine BWe.nmB hb (by assumption) (by assumption) ?_; intro s hb) | refine BWe.isBad hb ?_ | refine BWe.itT (inb_nI' (by assumption) (by decide)) ?_ | refine BWe.ite ?_ ?_))
  obtain ⟨N9, hN9⟩ : ∃ N9, N9 = msI (msI (msI (msI (msI N6 2404 v x6) 405 90 (nI (i + 1 + 1 + 1 + 1 + 1))) 405 90 (nI (i + 1 + 1 + 1 + 1 + 1 + 1))) 2405 v x9) 405 90 (nI (i + 1 + 1 + 1 + 1 + 1 + 1 + 1)) := ⟨_, rfl⟩
  have k9 : mk N9 v = 13 := by rw [hN9]; exact k6
  have n9 : mn N9 = mn N := by rw [hN9]; exact n6
  have F9 : Fz (fun o => o = 90 ∨ o = v) N N9 := F6.tr (by rw [hN9]; exact ((((Fz.rf.msI (fun _ => Or.inr rfl)).msI (fun _ => Or.inl rfl)).msI (fun _ => Or.inl rfl)).msI (fun _ => Or.inr rfl)).msI (fun _ => Or.inl rfl))
  have i9 : mI N9 2403 v = x ∧ mI N9 2400 v = 18 ∧ mI N9 2404 v = x6 ∧ mI N9 2405 v = x9 := by rw [hN9]; exact ⟨by simp [mI_msI, i6.1], by simp [mI_msI, i6.2], by simp [mI_msI], by simp [mI_msI]⟩
  have r9 : ∀ g o, mR N9 g o = mR N g o := fun g o => by rw [hN9]; exact r6 g o
  have w9 : ∀ w, wc N9 w = wc N w := fun w => by rw [hN9]; exact w6 w
  rw [← hN9] at P11 E11 ⊢
  unfold kFor3 tFor3
  rw [ifT k9, t_isBad0 P11.1.g0, ob_some, ifT (rfl : (0 : Int32) = 0), i9.1, hx, hy, ← w9]
  obtain ⟨N12, σ12, e1, e2, P12, M12, E12, F12⟩ := z_forIn (w := w) (dep' := dep + 1) (kK := fun M124 => if mk M124 v = 13 then obS (cE (mR M124 2406 v) 0 M124) (fun w133 M129 => some (.inr w133, M129)) fun _ M129 => ob (K_J2_size 95 M129) fun r135 M134 => ob (K_J2_remove 95 (r135 - 1) M134) fun _ M138 => kFor4 v M138 else none) (kT := fun s39 => ob (cf 0 s39) fun r41 s40 => nm (tsI s40 37 ((tI s40 37) - 1)) fun s44 => tFor4 r41 (wc N9 w) y6 y9 s44) P11.1 P11.2 (by omega) (by omega) ⟨hw1, hw2⟩ (by omega) (by omega)
  rw [e1, e2]
  try dsimp only
  obtain ⟨bs9, l9⟩ := P11.1.l95
  have hv95 : v ≠ mR N9 4201 95 := fun z => by
    have := l9.k55 P11.1.c6 (by rw [← z]; omega)
    rw [← z, k9] at this; exact absurd this (by decide)
  have sv12 : So N9 N12 v := F12.so (by omega) (fun z => by rcases z with z | z; omega; exact hv95 z)
  have k12 : mk N12 v = 13 := by rw [sv12.k]; exact k9
  have E12' := E11.tr E12
  have n12 := F12.1
  have hl12 : v + 1 ≠ mR N9 4201 95 := fun z => by
    rw [r9, s95] at z
    obtain ⟨bs1, l1⟩ := P1.l95
    rcases l1.lt with q | q
    · rw [q] at z; have := P11.1.c6; omega
    · omega
  have L12 := lsq_e (Mb := M) j10 j10' (F9.mono (Y := fun o => o = 90 ∨ o = v ∨ o = 95 ∨ o = mR N9 4201 95) (fun o _ z => by rcases z with z | z; exact Or.inl z; exact Or.inr (Or.inl z)) |>.tr2 F12 (fun o _ z => by rcases z with z | z; exact Or.inr (Or.inr (Or.inl z)); exact Or.inr (Or.inr (Or.inr z)))) (fun z => by rcases z with z | z | z | z; omega; omega; omega; exact hl12 z) (by omega) P2.1.c6
  have rr : mR N12 2406 v = v + 1 := by rw [sv12.r, r9]; exact j7
  rw [ifT k12, rr]
  have PE12 : PE (C.fo w) N12 σ12 (i + 1 + 1 + 1 + 1 + 1 + 1 + 1) (dep + 1) c s n := ⟨P12.wk (by omega) (by omega) (by omega), M12⟩
  refine Rje.bo (C := C) (A := GR (C.fo w) M σ12 (i + 1 + 1 + 1 + 1 + 1 + 1 + 1) (dep + 1) c s n 0 (v + 1) N12) (hr w N12 σ12 _ (v + 1) (by omega) E12' PE12 L12.1) E12'.fe (fun _ N13 y13 σ13 hg => ?_) (by intro σ1 r s hb; repeat' (first | with_reducible (exact BWe.sm hb) | with_reducible (refine BWe.bo (BWe.o hb (bw_next hb.br)) ?_; intro r s hb) | with_reducible (refine BWe.bo (BWe.o hb (bw_ref hb.br)) ?_; intro r s hb) | with_reducible (refine BWe.bo (BWe.o hb (bw_passName hb.br)) ?_; intro r s hb) | with_reducible (refine BWe.bo (BWe.o hb (bw_Fexpression hb.br)) ?_; intro r s hb) | with_reducible (refine BWe.bo (BWe.o hb (bw_Fcondition hb.br)) ?_; intro r s hb) | with_reducible (refine BWe.bo (BWe.o hb (bw_pass hb.br _)) ?_; intro r s hb) | with_reducible (refine BWe.bo (BWe.o hb (bw_isSign hb.br _)) ?_; intro r s hb) | with_reducible (refine BWe.bo (BWe.o hb (bw_passWhole hb.br _)) ?_; intro r s hb) | with_reducible (refine BWe.bo (BWe.o hb (bw_passWord hb.br _)) ?_; intro r s hb) | with_reducible (refine BWe.bo (BWe.o hb (bw_isWord hb.br _)) ?_; intro r s hb) | with_reducible (refine BWe.eq hb _ _ _ _ ?_; intro j s hj1 hj2 hj3 hb) | with_reducible (refine BWe.nmI hb (by decide) ?_; intro s hb) | with_reducible (refine BWe.nmB hb (by assumption) (by assumption) ?_; intro s hb) | with_reducible (refine BWe.isBad hb ?_) | with_reducible (refine BWe.itT (inb_nI' (by assumption) (by decide)) ?_) | with_reducible (refine BWe.ite ?_ ?_) | exact BWe.sm hb | (refine BWe.bo (BWe.o hb (bw_next hb.br)) ?_; intro r s hb) | (refine BWe.bo (BWe.o hb (bw_ref hb.br)) ?_; intro r s hb) | (refine BWe.bo (BWe.o hb (bw_passName hb.br)) ?_; intro r s hb) | (refine BWe.bo (BWe.o hb (bw_Fexpression hb.br)) ?_; intro r s hb) | (refine BWe.bo (BWe.o hb (bw_Fcondition hb.br)) ?_; intro r s hb) | (refine BWe.bo (BWe.o hb (bw_pass hb.br _)) ?_; intro r s hb) | (refine BWe.bo (BWe.o hb (bw_isSign hb.br _)) ?_; intro r s hb) | (refine BWe.bo (BWe.o hb (bw_passWhole hb.br _)) ?_; intro r s hb) | (refine BWe.bo (BWe.o hb (bw_passWord hb.br _)) ?_; intro r s hb) | (refine BWe.bo (BWe.o hb (bw_isWord hb.br _)) ?_; intro r s hb) | (refine BWe.eq hb _ _ _ _ ?_; intro j s hj1 hj2 hj3 hb) | (refine BWe.nmI hb (by decide) ?_; intro s hb) | (refine BWe.nmB hb (by assumption) (by assumption) ?_; intro s hb) | refine BWe.isBad hb ?_ | refine BWe.itT (inb_nI' (by assumption) (by decide)) ?_ | refine BWe.ite ?_ ?_))
  have hE13 : tE σ13 ≤ 3000 := by
    obtain ⟨i', os, ns, g1, g2, _⟩ := hg
    have := g2.e1
    have hcxg2 := g2.cx
    omega
  have hn12 : mn M ≤ mn N12 := E12'.1.1.1
  have R13 := (hg.row hnf hn12 hE13).fo.lo hnf E12'.2.1.2.1
  obtain ⟨i13, os, ns, g1, P13, hi13, E13', g5, g6, F13, -⟩ := hg
  have E13 := E12'.rb E13'
  obtain ⟨bs12, l12⟩ := P12.l95
  have hv12 : v ≠ mR N12 4201 95 := fun z => by
    have := l12.k55 P12.c6 (by rw [← z]; omega)
    rw [← z, k12] at this; exact absurd this (by decide)
  have hmo12 : mR N12 411 90 < mn M := by rw [E12'.1.2.2.1]; exact P.2.1.2
  have sv13 : So N12 N13 v := F13.so (by omega) (fun z => by
    rcases z with (z | z | z | z) | z | z
    · omega
    · omega
    · exact hv12 z
    · omega
    · omega
    · rw [L12.2] at z; have := P12.c6; omega)
  have k13 : mk N13 v = 13 := by rw [sv13.k]; exact k12
  have n13 := F13.1
  obtain ⟨N14, σ14, f1, f2, P14, M14, E14, n14, F14, r14⟩ := z_forOut (kK := fun M138 => kFor4 v M138) (kT := fun s44 => tFor4 y13 (wc N9 w) y6 y9 s44) (dep' := dep + 1) P13.1 P13.2 (by omega)
  rw [f1, f2]
  try dsimp only
  obtain ⟨bs13, l13⟩ := P13.1.l95
  have hv13 : v ≠ mR N13 4201 95 := fun z => by
    have := l13.k55 P13.1.c6 (by rw [← z]; omega)
    rw [← z, k13] at this; exact absurd this (by decide)
  have sv14 : So N13 N14 v := F14.so (by omega) (fun z => by rcases z with z | z; omega; exact hv13 z)
  have sv : So N9 N14 v := (sv12.tr sv13).tr sv14
  have k14 : mk N14 v = 13 := by rw [sv.k]; exact k9
  have PE14 : PE C N14 σ14 i13 (dep + 1) c s n := ⟨P14, M14⟩
  obtain ⟨bs14, l14⟩ := P14.l95
  have hv14 : v ≠ mR N14 4201 95 := fun z => by
    have := l14.k55 P14.c6 (by rw [← z]; omega)
    rw [← z, k14] at this; exact absurd this (by decide)
  have hmo13 : mR N13 411 90 < mn M := by rw [E13.1.2.2.1]; exact P.2.1.2
  have hPP : ∀ o, PR M N12 N13 (v + 1) o → PR M N12 N14 (v + 1) o := fun o ho => by
    obtain ⟨⟨⟨b1, b2⟩, b3⟩, b4⟩ := ho
    exact ⟨⟨⟨b1, by omega⟩, by rw [r14]; exact b3⟩, by rw [r14]; exact b4⟩
  have R14 := R13.up (P' := PR M N12 N14 (v + 1)) hnf (Nat.le_refl _) (E' := tE σ14) E14.2.1.2.1 E14.1.1 (fun o ho => ho.nx h167 hmo13) (fun w => E14.1.wc P13 w) E14.2.1.1 (fun j => (E14.2.2 42 rfl).2.2.1 j) E14.2.1.2 hPP
  have ww : wc N9 w = wc N14 w := by rw [E14.1.wc P13, E13.1.wc P, E11.1.wc P]
  rw [ha2, hb2, ww]
  exact for4 P PE14 (by omega) hcn (E13.tr E14) hc hs hfl ⟨⟨by omega, by omega⟩, k14, hv14⟩ (by rw [sv.i]; exact i9.2.1) ⟨by rw [sv.i, i9.1]; exact hx, hw1, hw2⟩ ⟨by rw [sv.i, i9.2.2.1]; exact ha1, ha3⟩ ⟨by rw [sv.i, i9.2.2.2]; exact hb1, hb3⟩ (by rw [sv.r, r9]; exact j7) R14
end FOR
