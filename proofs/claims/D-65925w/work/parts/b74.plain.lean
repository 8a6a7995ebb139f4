/-! Layer B: equations: left = right; assert -/
set_option maxRecDepth 100000
def kE61 (v20 : Nat) (M23 : CM) : Option ((Nat ⊕ Nat) × CM) :=
  obS (K_X2_expression M23) (fun w31 M27 => some (.inr w31, M27)) fun r28 M27 => if mk M27 v20 = 13 then nm (msR M27 2401 v20 r28) fun M33 => obS (K_X2_sign 61 M33) (fun w38 M34 => some (.inr w38, M34)) fun _ M34 => obS (K_X2_expression M34) (fun w43 M39 => some (.inr w43, M39)) fun r40 M39 => if mk M39 v20 = 13 then nm (msR M39 2402 v20 r40) fun M45 => obS (K_X2_sign 59 M45) (fun w50 M46 => some (.inr w50, M46)) fun _ M46 => some (.inl v20, M46) else none else none
def kE15 (v155 : Nat) (M158 : CM) : Option ((Nat ⊕ Nat) × CM) :=
  obS (K_X2_sign 40 M158) (fun w166 M162 => some (.inr w166, M162)) fun _ M162 => obS (K_X2_ref M162) (fun w171 M167 => some (.inr w171, M167)) fun r168 M167 => if mk M167 v155 = 13 then nm (msR M167 2401 v155 r168) fun M173 => obS (K_X2_sign 44 M173) (fun w178 M174 => some (.inr w178, M174)) fun _ M174 => obS (K_X2_ref M174) (fun w183 M179 => some (.inr w183, M179)) fun r180 M179 => if mk M179 v155 = 13 then nm (msR M179 2402 v155 r180) fun M185 => obS (K_X2_sign 41 M185) (fun w190 M186 => some (.inr w190, M186)) fun _ M186 => obS (K_X2_sign 59 M186) (fun w195 M191 => some (.inr w195, M191)) fun _ M191 => some (.inl v155, M191) else none else none
def tE15 (σ : TS) : Option (Int32 × TS) :=
  ob (F_pass 40 σ) fun _ s62 => ob (F_ref s62) fun r67 s66 => ob (F_pass 44 s66) fun _ s70 => ob (F_ref s70) fun r75 s74 => ob (F_pass 41 s74) fun _ s78 => ob (F_pass 59 s78) fun _ s82 => ob (F_eq 2 r67 r75 0 s82) fun r87 s86 => some (r87, s86)
section PLAIN
variable {C : PC} {M M' M0 M1 M2 Ma Mb : CM} {σ σ' σ0 σ1 σ2 σb s1 : TS} {i dep c s n i' dep' c' s' n' d0 w so v a x o q fl i0 : Nat} {X P : Nat → Prop} {α β γ δ : Type} {G : γ → CM → δ → TS → Prop}
theorem PX.of (P : Pe C M σ i dep c s n) (h95 : mR M' 4201 95 = mR M 4201 95) (hc6 : mn M' ≤ 601024) (h1 : mn M ≤ o) (h2 : o < mn M') : PX M M' o := by
  obtain ⟨bs, l95⟩ := P.l95
  refine ⟨⟨h1, h2⟩, ?_⟩
  rw [h95]
  rcases l95.lt with q | q <;> omega
theorem PE.wk (P : PE C M σ i dep c s n) (h1 : c' ≤ c) (h2 : s' ≤ s) (h3 : n' ≤ n) : PE C M σ i dep c' s' n' := ⟨P.1.wk h1 h2 h3, P.2⟩
theorem tE_es (E : Es M σ M' σ') : tE σ' = tE σ := by unfold tE; rw [(E.2.2.2.2 72 rfl).1]
theorem eqn_61 (P : PE C M σ i dep c s n) (hc : 80 ≤ c) (hs : 8000 ≤ s) (hn : 20 ≤ n) (hfl : fl ≠ 1) (f1 f2 : TS → Option (Int32 × TS)) : Rje C M σ (GE C M σ i dep (c + 16) (s + 2048) n fl) (kE61 (mn M) (eqM M 61)) (J_readEquation_158 f1 f2 σ) := by
  have h167 := P.1.n167
  have hl := P.2.2.2.2.1.2.2
  have hnf := P.1.nf12
  obtain ⟨j1, j2, j3, ⟨j4, j5, j6⟩, ⟨j7, j8, j9⟩, j10, j11⟩ := eqM_ok M 61 P.1.c6
  obtain ⟨P1, E1⟩ := P.alq j1 (c' := c - 3) (s' := s - 14) (by omega) (by omega)
  unfold kE61 J_readEquation_158 F_sumOrIf
  rw [ob_id]
  refine Rje.ok E1 P1 (z_expr P1.1 hl (by omega) (by omega) (by omega)) (fun a M2 x σ2 i2 P2 hi2 E2 E12 R2 => ?_) (by intro σ1 r s hb; repeat' (first | with_reducible (exact BWe.sm hb) | with_reducible (refine BWe.bo (BWe.o hb (bw_next hb.br)) ?_; intro r s hb) | with_reducible (refine BWe.bo (BWe.o hb (bw_ref hb.br)) ?_; intro r s hb) | with_reducible (refine BWe.bo (BWe.o hb (bw_passName hb.br)) ?_; intro r s hb) | with_reducible (refine BWe.bo (BWe.o hb (bw_Fexpression hb.br)) ?_; intro r s hb) | with_reducible (refine BWe.bo (BWe.o hb (bw_Fcondition hb.br)) ?_; intro r s hb) | with_reducible (refine BWe.bo (BWe.o hb (bw_pass hb.br _)) ?_; intro r s hb) | with_reducible (refine BWe.bo (BWe.o hb (bw_isSign hb.br _)) ?_; intro r s hb) | with_reducible (refine BWe.bo (BWe.o hb (bw_passWhole hb.br _)) ?_; intro r s hb) | with_reducible (refine BWe.bo (BWe.o hb (bw_passWord hb.br _)) ?_; intro r s hb) | with_reducible (refine BWe.bo (BWe.o hb (bw_isWord hb.br _)) ?_; intro r s hb) | with_reducible (refine BWe.eq hb _ _ _ _ ?_; intro j s hj1 hj2 hj3 hb) | with_reducible (refine BWe.nmI hb (by decide) ?_; intro s hb) | with_reducible (refine BWe.nmB hb (by assumption) (by assumption) ?_; intro s hb) | with_reducible (refine BWe.isBad hb ?_) | with_reducible (refine BWe.itT (inb_nI' (by assumption) (by decide)) ?_) | with_reducible (refine BWe.ite ?_ ?_) | exact BWe.sm hb | (refine BWe.bo (BWe.o hb (bw_next hb.br)) ?_; intro r s hb) | (refine BWe.bo (BWe.o hb (bw_ref hb.br)) ?_; intro r s hb) | (refine BWe.bo (BWe.o hb (bw_passName hb.br)) ?_; intro r s hb) | (refine BWe.bo (BWe.o hb (bw_Fexpression hb.br)) ?_; intro r s hb) | (refine BWe.bo (BWe.o hb (bw_Fcondition hb.br)) ?_; intro r s hb) | (refine BWe.bo (BWe.o hb (bw_pass hb.br _)) ?_; intro r s hb) | (refine BWe.bo (BWe.o hb (bw_isSign hb.br _)) ?_; intro r s hb) | (refine BWe.bo (BWe.o hb (bw_passWhole hb.br _)) ?_; intro r s hb) | (refine BWe.bo (BWe.o hb (bw_passWord hb.br _)) ?_; intro r s hb) | (refine BWe.bo (BWe.o hb (bw_isWord hb.br _)) ?_; intro r s hb) | (refine BWe.eq hb _ _ _ _ ?_; intro j s hj1 hj2 hj3 hb) | (refine BWe.nmI hb (by decide) ?_; intro s hb) | (refine BWe.nmB hb (by assumption) (by assumption) ?_; intro s hb) | refine BWe.isBad hb ?_ | refine BWe.itT (inb_nI' (by assumption) (by decide)) ?_ | refine BWe.ite ?_ ?_))
  have n12 := E12.1.1
  have sv2 : So (eqM M 61) M2 (mn M) := E12.1.so (by omega) (by omega)
  have kv2 : mk M2 (mn M) = 13 := by rw [sv2.k]; exact j4
  rw [ifT kv2, nm_eq]
  have F3 : Fz (fun o => o = mn M) M2 (msR M2 2401 (mn M) a) := Fz.rf.msR (fun _ => rfl)
  have P3 := P2.wr F3 ⟨rfl, rfl⟩ kv2 (by omega) (by omega)
  have E3 := E2.wr P F3 (Nat.le_refl _)
  refine Rje.st E3 P3 (z_pass P3.1 (by omega) (by omega) (x := 61) (by decide)) (fun _ _ σ4 P4 E4 E34 hi4 _ => ?_) (by intro σ1 r s hb; repeat' (first | with_reducible (exact BWe.sm hb) | with_reducible (refine BWe.bo (BWe.o hb (bw_next hb.br)) ?_; intro r s hb) | with_reducible (refine BWe.bo (BWe.o hb (bw_ref hb.br)) ?_; intro r s hb) | with_reducible (refine BWe.bo (BWe.o hb (bw_passName hb.br)) ?_; intro r s hb) | with_reducible (refine BWe.bo (BWe.o hb (bw_Fexpression hb.br)) ?_; intro r s hb) | with_reducible (refine BWe.bo (BWe.o hb (bw_Fcondition hb.br)) ?_; intro r s hb) | with_reducible (refine BWe.bo (BWe.o hb (bw_pass hb.br _)) ?_; intro r s hb) | with_reducible (refine BWe.bo (BWe.o hb (bw_isSign hb.br _)) ?_; intro r s hb) | with_reducible (refine BWe.bo (BWe.o hb (bw_passWhole hb.br _)) ?_; intro r s hb) | with_reducible (refine BWe.bo (BWe.o hb (bw_passWord hb.br _)) ?_; intro r s hb) | with_reducible (refine BWe.bo (BWe.o hb (bw_isWord hb.br _)) ?_; intro r s hb) | with_reducible (refine BWe.eq hb _ _ _ _ ?_; intro j s hj1 hj2 hj3 hb) | with_reducible (refine BWe.nmI hb (by decide) ?_; intro s hb) | with_reducible (refine BWe.nmB hb (by assumption) (by assumption) ?_; intro s hb) | with_reducible (refine BWe.isBad hb ?_) | with_reducible (refine BWe.itT (inb_nI' (by assumption) (by decide)) ?_) | with_reducible (refine BWe.ite ?_ ?_) | exact BWe.sm hb | (refine BWe.bo (BWe.o hb (bw_next hb.br)) ?_; intro r s hb) | (refine BWe.bo (BWe.o hb (bw_ref hb.br)) ?_; intro r s hb) | (refine BWe.bo (BWe.o hb (bw_passName hb.br)) ?_; intro r s hb) | (refine BWe.bo (BWe.o hb (bw_Fexpression hb.br)) ?_; intro r s hb) | (refine BWe.bo (BWe.o hb (bw_Fcondition hb.br)) ?_; intro r s hb) | (refine BWe.bo (BWe.o hb (bw_pass hb.br _)) ?_; intro r s hb) | (refine BWe.bo (BWe.o hb (bw_isSign hb.br _)) ?_; intro r s hb) | (refine BWe.bo (BWe.o hb (bw_passWhole hb.br _)) ?_; intro r s hb) | (refine BWe.bo (BWe.o hb (bw_passWord hb.br _)) ?_; intro r s hb) | (refine BWe.bo (BWe.o hb (bw_isWord hb.br _)) ?_; intro r s hb) | (refine BWe.eq hb _ _ _ _ ?_; intro j s hj1 hj2 hj3 hb) | (refine BWe.nmI hb (by decide) ?_; intro s hb) | (refine BWe.nmB hb (by assumption) (by assumption) ?_; intro s hb) | refine BWe.isBad hb ?_ | refine BWe.itT (inb_nI' (by assumption) (by decide)) ?_ | refine BWe.ite ?_ ?_))
  refine Rje.ok E4 P4 (z_expr P4.1 hl (by omega) (by omega) (by omega)) (fun b M5 y σ5 i5 P5 hi5 E5 E45 R5 => ?_) (by intro σ1 r s hb; repeat' (first | with_reducible (exact BWe.sm hb) | with_reducible (refine BWe.bo (BWe.o hb (bw_next hb.br)) ?_; intro r s hb) | with_reducible (refine BWe.bo (BWe.o hb (bw_ref hb.br)) ?_; intro r s hb) | with_reducible (refine BWe.bo (BWe.o hb (bw_passName hb.br)) ?_; intro r s hb) | with_reducible (refine BWe.bo (BWe.o hb (bw_Fexpression hb.br)) ?_; intro r s hb) | with_reducible (refine BWe.bo (BWe.o hb (bw_Fcondition hb.br)) ?_; intro r s hb) | with_reducible (refine BWe.bo (BWe.o hb (bw_pass hb.br _)) ?_; intro r s hb) | with_reducible (refine BWe.bo (BWe.o hb (bw_isSign hb.br _)) ?_; intro r s hb) | with_reducible (refine BWe.bo (BWe.o hb (bw_passWhole hb.br _)) ?_; intro r s hb) | with_reducible (refine BWe.bo (BWe.o hb (bw_passWord hb.br _)) ?_; intro r s hb) | with_reducible (refine BWe.bo (BWe.o hb (bw_isWord hb.br _)) ?_; intro r s hb) | with_reducible (refine BWe.eq hb _ _ _ _ ?_; intro j s hj1 hj2 hj3 hb) | with_reducible (refine BWe.nmI hb (by decide) ?_; intro s hb) | with_reducible (refine BWe.nmB hb (by assumption) (by assumption) ?_; intro s hb) | with_reducible (refine BWe.isBad hb ?_) | with_reducible (refine BWe.itT (inb_nI' (by assumption) (by decide)) ?_) | with_reducible (refine BWe.ite ?_ ?_) | exact BWe.sm hb | (refine BWe.bo (BWe.o hb (bw_next hb.br)) ?_; intro r s hb) | (refine BWe.bo (BWe.o hb (bw_ref hb.br)) ?_; intro r s hb) | (refine BWe.bo (BWe.o hb (bw_passName hb.br)) ?_; intro r s hb) | (refine BWe.bo (BWe.o hb (bw_Fexpression hb.br)) ?_; intro r s hb) | (refine BWe.bo (BWe.o hb (bw_Fcondition hb.br)) ?_; intro r s hb) | (refine BWe.bo (BWe.o hb (bw_pass hb.br _)) ?_; intro r s hb) | (refine BWe.bo (BWe.o hb (bw_isSign hb.br _)) ?_; intro r s hb) | (refine BWe.bo (BWe.o hb (bw_passWhole hb.br _)) ?_; intro r s hb) | (refine BWe.bo (BWe.o hb (bw_passWord hb.br _)) ?_; intro r s hb) | (refine BWe.bo (BWe.o hb (bw_isWord hb.br _)) ?_; intro r s hb) | (refine BWe.eq hb _ _ _ _ ?_; intro j s hj1 hj2 hj3 hb) | (refine BWe.nmI hb (by decide) ?_; intro s hb) | (refine BWe.nmB hb (by assumption) (by assumption) ?_; intro s hb) | refine BWe.isBad hb ?_ | refine BWe.itT (inb_nI' (by assumption) (by decide)) ?_ | refine BWe.ite ?_ ?_))
  have n45 := E45.1.1
  have n4 : mn (msI (msR M2 2401 (mn M) a) 405 90 (nI (i2 + 1))) = mn M2 := rfl
  have sv5 : So (msI (msR M2 2401 (mn M) a) 405 90 (nI (i2 + 1))) M5 (mn M) := E45.1.so (by omega) (by omega)
  have kv5 : mk M5 (mn M) = 13 := by rw [sv5.k]; exact kv2
  rw [ifT kv5, nm_eq]
  have F6 : Fz (fun o => o = mn M) M5 (msR M5 2402 (mn M) b) := Fz.rf.msR (fun _ => rfl)
  have P6 := P5.wr F6 ⟨rfl, rfl⟩ kv5 (by omega) (by omega)
  have E6 := E5.wr P F6 (Nat.le_refl _)
  refine Rje.st E6 P6 (z_pass P6.1 (by omega) (by omega) (x := 59) (by decide)) (fun _ _ σ7 P7 E7 E67 hi7 _ => ?_) (by intro σ1 r s hb; repeat' (first | with_reducible (exact BWe.sm hb) | with_reducible (refine BWe.bo (BWe.o hb (bw_next hb.br)) ?_; intro r s hb) | with_reducible (refine BWe.bo (BWe.o hb (bw_ref hb.br)) ?_; intro r s hb) | with_reducible (refine BWe.bo (BWe.o hb (bw_passName hb.br)) ?_; intro r s hb) | with_reducible (refine BWe.bo (BWe.o hb (bw_Fexpression hb.br)) ?_; intro r s hb) | with_reducible (refine BWe.bo (BWe.o hb (bw_Fcondition hb.br)) ?_; intro r s hb) | with_reducible (refine BWe.bo (BWe.o hb (bw_pass hb.br _)) ?_; intro r s hb) | with_reducible (refine BWe.bo (BWe.o hb (bw_isSign hb.br _)) ?_; intro r s hb) | with_reducible (refine BWe.bo (BWe.o hb (bw_passWhole hb.br _)) ?_; intro r s hb) | with_reducible (refine BWe.bo (BWe.o hb (bw_passWord hb.br _)) ?_; intro r s hb) | with_reducible (refine BWe.bo (BWe.o hb (bw_isWord hb.br _)) ?_; intro r s hb) | with_reducible (refine BWe.eq hb _ _ _ _ ?_; intro j s hj1 hj2 hj3 hb) | with_reducible (refine BWe.nmI hb (by decide) ?_; intro s hb) | with_reducible (refine BWe.nmB hb (by assumption) (by assumption) ?_; intro s hb) | with_reducible (refine BWe.isBad hb ?_) | with_reducible (refine BWe.itT (inb_nI' (by assumption) (by decide)) ?_) | with_reducible (refine BWe.ite ?_ ?_) | exact BWe.sm hb | (refine BWe.bo (BWe.o hb (bw_next hb.br)) ?_; intro r s hb) | (refine BWe.bo (BWe.o hb (bw_ref hb.br)) ?_; intro r s hb) | (refine BWe.bo (BWe.o hb (bw_passName hb.br)) ?_; intro r s hb) | (refine BWe.bo (BWe.o hb (bw_Fexpression hb.br)) ?_; intro r s hb) | (refine BWe.bo (BWe.o hb (bw_Fcondition hb.br)) ?_; intro r s hb) | (refine BWe.bo (BWe.o hb (bw_pass hb.br _)) ?_; intro r s hb) | (refine BWe.bo (BWe.o hb (bw_isSign hb.br _)) ?_; intro r s hb) | (refine BWe.bo (BWe.o hb (bw_passWhole hb.br _)) ?_; intro r s hb) | (refine BWe.bo (BWe.o hb (bw_passWord hb.br _)) ?_; intro r s hb) | (refine BWe.bo (BWe.o hb (bw_isWord hb.br _)) ?_; intro r s hb) | (refine BWe.eq hb _ _ _ _ ?_; intro j s hj1 hj2 hj3 hb) | (refine BWe.nmI hb (by decide) ?_; intro s hb) | (refine BWe.nmB hb (by assumption) (by assumption) ?_; intro s hb) | refine BWe.isBad hb ?_ | refine BWe.itT (inb_nI' (by assumption) (by decide)) ?_ | refine BWe.ite ?_ ?_))
  have e6 := P6.e1
  have hcxP6 := P6.cx
  have e7 := P7.e1
  have hcxP7 := P7.cx
  have te7 := tE_es E67
  obtain ⟨q1, q2, q3, q4⟩ := z_eqn (i' := i5) P7 (by omega) 1 (nI x) (nI y) 0 rfl (by omega)
  obtain ⟨v1, v2, v3, v4, v5, v6, v7⟩ := eqT_v σ7 (tE σ7) 1 (nI x) (nI y) 0
  rw [q1, ob_some]
  obtain ⟨M7, hM7⟩ : ∃ M7, M7 = msI (msR M5 2402 (mn M) b) 405 90 (nI (i5 + 1)) := ⟨_, rfl⟩
  have n7 : mn M7 = mn M5 := by rw [hM7]; rfl
  have F27 : Fz (fun o => o = 90 ∨ o = mn M) M2 M7 := by
    rw [hM7]
    exact ((((F3.mono (Y := fun o => o = 90 ∨ o = mn M) (fun o _ z => Or.inr z)).tr (E34.1.mono (fun o _ z => Or.inl z))).tr (E45.1.mono (fun o _ z => Or.inl z))).tr (F6.mono (fun o _ z => Or.inr z))).tr (E67.1.mono (fun o _ z => Or.inl z))
  have F57 : Fz (fun o => o = 90 ∨ o = mn M) M5 M7 := by
    rw [hM7]
    exact (F6.mono (Y := fun o => o = 90 ∨ o = mn M) (fun o _ z => Or.inr z)).tr (E67.1.mono (fun o _ z => Or.inl z))
  have F07 : Fz (fun o => o = 90) M M7 := ((j1.mono (fun o _ z => absurd z (fun q => q))).tr E12.1).tr2 F27 (fun o ho z => by
    rcases z with z | z
    · exact z
    · omega)
  have k90 := P.1.en.1
  have hw7 : ∀ w, wc M7 w = wc M w := fun w => P.1.wcs F07 (fun o z => by rw [z]; exact k90) w
  have hw2 : ∀ w, wc M2 w = wc M w := fun w => P.1.wcs ((j1.mono (Y := fun o => o = 90) (fun o _ z => absurd z (fun q => q))).tr E12.1) (fun o z => by rw [z]; exact k90) w
  have hw5 : ∀ w, wc M7 w = wc M5 w := fun w => by rw [hM7]; rfl
  have h95 : mR M7 4201 95 = mR M 4201 95 := (F07.so (by omega) (by decide)).r 4201
  have z57 : Tz σ5 (eqT σ7 (tE σ7) 1 (nI x) (nI y) 0) := E67.2.2.2.1.tr q3.2.1.1
  have z27 : Tz σ2 (eqT σ7 (tE σ7) 1 (nI x) (nI y) 0) := (E34.2.2.2.1.tr E45.2.2.2.1).tr z57
  have c57 : ∀ j, tA (eqT σ7 (tE σ7) 1 (nI x) (nI y) 0) 42 j = tA σ5 42 j := fun j => by rw [(eqT_f σ7 (tE σ7) 1 (nI x) (nI y) 0 42 rfl).2.2.1, (E67.2.2.2.2 42 rfl).2.2.1]
  have c27 : ∀ j, tA (eqT σ7 (tE σ7) 1 (nI x) (nI y) 0) 42 j = tA σ2 42 j := fun j => by rw [c57, (E45.2.2.2.2 42 rfl).2.2.1, (E34.2.2.2.2 42 rfl).2.2.1]
  have hE7 := E7.2.1.2.1
  have t5 := P5.1.tN9
  have t2 := P2.1.tN9
  have b2 := R2.b
  have b5 := R5.b
  have c6 : mn M7 ≤ 601024 := by rw [hM7]; exact P7.1.c6
  rw [← hM7] at q2 q3 E7 ⊢
  refine Or.inl ⟨mn M, M7, _, _, rfl, rfl, tE σ7, i5 + 1, 1, ⟨rfl, by have := gb_ge fl; have := P.1.2.2.1.2.2; omega⟩, (q2 P7.1.it.1).wk (by omega) (by omega) (by omega), by omega, E7.tr q3, ⟨q4, hE7⟩, ⟨⟨PX.of P.1 h95 c6 (Nat.le_refl _) (by omega), by rw [F57.k (by omega)]; exact kv5, e7.2.1, hE7, by omega⟩, Or.inl ⟨hfl, ?_, v1, ?_, ?_⟩⟩, v5⟩
  · rw [hM7, mI_msI, ifF (by omega), mI_msR, sv5.i, mI_msI, ifF (by omega), mI_msR, sv2.i]; exact j9
  · rw [v2, show mR M7 2401 (mn M) = a from by rw [hM7, mR_msI, mR_msR, ifF (by omega), sv5.r, mR_msI, mR_msR, ifT ⟨rfl, rfl⟩]]
    exact R2.eqp (by omega) hnf F27 (fun o h1 h2 z => by omega) (fun w => by rw [hw7, hw2]) z27 c27 (fun o h1 h2 => PX.of P.1 h95 c6 (by omega) (by omega))
  · rw [v3, show mR M7 2402 (mn M) = b from by rw [hM7, mR_msI, mR_msR, ifT ⟨rfl, rfl⟩]]
    exact R5.eqp (by omega) hnf F57 (fun o h1 h2 z => by omega) hw5 z57 c57 (fun o h1 h2 => PX.of P.1 h95 c6 (by omega) (by omega))
end PLAIN
