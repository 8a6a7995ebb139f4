/-! Layer B: equations: actions of when -/
set_option maxRecDepth 100000
def kAc (x1 : Int32) (v : Nat) (kE : CM → Option ((Nat ⊕ Nat) × CM)) (M37 : CM) : Option ((Nat ⊕ Nat) × CM) :=
  obS (K_X2_ref M37) (fun w M => some (.inr w, M)) fun r42 M41 => if mk M41 v = 13 then nm (msR M41 2401 v r42) fun M47 => obS (K_X2_sign x1 M47) (fun w M => some (.inr w, M)) fun _ M48 => obS (K_X2_expression M48) (fun w M => some (.inr w, M)) fun r54 M53 => if mk M53 v = 13 then nm (msR M53 2402 v r54) fun M59 => kE M59 else none else none
def tAc (x1 : Int32) (cT : Int32 → Int32 → TS → Option (Int32 × TS)) (s : TS) : Option (Int32 × TS) :=
  ob (F_ref s) fun r26 s25 => ob (F_pass x1 s25) fun _ s29 => ob (F_expression s29) fun r34 s33 => cT r26 r34 s33
def kA6 (v : Nat) (M59 : CM) : Option ((Nat ⊕ Nat) × CM) := obS (K_X2_sign 59 M59) (fun w M => some (.inr w, M)) fun _ M60 => some (.inl v, M60)
def kA7 (v : Nat) (M94 : CM) : Option ((Nat ⊕ Nat) × CM) := obS (K_X2_sign 41 M94) (fun w M => some (.inr w, M)) fun _ M95 => kA6 v M95
def tA6 (k x y : Int32) (s33 : TS) : Option (Int32 × TS) := ob (F_pass 59 s33) fun _ s37 => ob (F_eq k x y 0 s37) fun r42 s41 => some (r42, s41)
def tA7 (x y : Int32) (s64 : TS) : Option (Int32 × TS) := ob (F_pass 41 s64) fun _ s68 => tA6 7 x y s68
def kB7 (v : Nat) (M37 : CM) : Option ((Nat ⊕ Nat) × CM) := obS (K_X2_sign 40 M37) (fun w M => some (.inr w, M)) fun _ M71 => kAc 44 v (kA7 v) M71
def tB7 (s48 : TS) : Option (Int32 × TS) := ob (F_pass 40 s48) fun _ s52 => tAc 44 tA7 s52
/-- what is done with an action -/
def kAr (f x : Nat) (a : Nat) (M60 : CM) : Option ((Unit ⊕ (Nat ⊕ Nat)) × CM) :=
  if mk M60 x = 13 then if mk M60 (mR M60 2406 x) = 22 then ob (K_J2_add (mR M60 2406 x) a M60) fun _ M67 => KL_X2_when_24 f x M67 else none else none
def tAr (f : Nat) (x1 x2 x3 : Int32) (r42 : Int32) (s41 : TS) : Option (Int32 × TS) :=
  if x2 = 0 then L_readWhen_20 f x1 r42 r42 s41 else if inb x3 3000 then nm (tsA s41 70 (ix x3) r42) fun s46 => L_readWhen_20 f x1 x2 r42 s46 else none
section ACT
variable {C Cb : PC} {M M' N M0 M1 M2 M4 M5 M7 Ma Mb Ms : CM} {σ σ' σ0 σ1 σ2 σ4 σ5 σ7 σb s1 : TS} {i dep c s n i' dep' c' s' n' d0 w so v a b x y o q fl i0 ib depb cb' sb' nb' l l2 p L E E' e : Nat} {os ns : List Nat} {X P P' : Nat → Prop} {k tk x1 : Int32} {α β γ δ : Type} {G : γ → CM → δ → TS → Prop}
theorem obS_as {α β : Type} (o : Option ((α ⊕ Nat) × CM)) (k : α → CM → Option ((β ⊕ Nat) × CM)) (K : β → CM → Option ((Unit ⊕ (Nat ⊕ Nat)) × CM)) : obS (obS o (fun w M => some (.inr w, M)) k) (fun w M => some (.inr (.inr w), M)) K = obS o (fun w M => some (.inr (.inr w), M)) fun a M => obS (k a M) (fun w M => some (.inr (.inr w), M)) K := by
  rcases o with _ | ⟨a | w, M⟩ <;> rfl
theorem obS_ite {β : Type} (c : Prop) [Decidable c] (A : Option ((β ⊕ Nat) × CM)) (K : β → CM → Option ((Unit ⊕ (Nat ⊕ Nat)) × CM)) : obS (if c then A else none) (fun w M => some (.inr (.inr w), M)) K = if c then obS A (fun w M => some (.inr (.inr w), M)) K else none := by
  split <;> rfl
theorem obS_nm {β τ : Type} (x : τ) (f : τ → Option ((β ⊕ Nat) × CM)) (K : β → CM → Option ((Unit ⊕ (Nat ⊕ Nat)) × CM)) : obS (nm x f) (fun w M => some (.inr (.inr w), M)) K = nm x fun y => obS (f y) (fun w M => some (.inr (.inr w), M)) K := rfl
theorem ob_as {α β γ : Type} (p : Option (α × TS)) (k : α → TS → Option (β × TS)) (K : β → TS → Option (γ × TS)) : ob (ob p k) K = ob p fun a s => ob (k a s) K := by
  rcases p with _ | ⟨a, s⟩ <;> rfl
theorem x13_init (hc : mn M + 3 ≤ 601024 ∧ ms M + 24 ≤ 7293034) (h0 : 167 ≤ mn M) (k : Int32) : K_X13_init (mn M) k (mnew M 13 0 8) = some ((), eqM M k) := by
  have h := eq_al M k (fun _ M' => some ((), M')) hc h0
  rw [ifT ⟨by omega, by omega⟩, nm_eq, nm_eq, ifT (by omega)] at h
  rcases e : K_X13_init (mn M) k (mnew M 13 0 8) with _ | ⟨u, M'⟩
  · rw [e] at h; exact absurd h (by intro z; cases z)
  · rw [e, ob_some] at h
    injection h with h
    injection h with _ h
    rw [h]
/-- reference, sign, expression -/
theorem act_core {kE : CM → Option ((Nat ⊕ Nat) × CM)} {cT : Int32 → Int32 → TS → Option (Int32 × TS)} {G : Nat → CM → Int32 → TS → Prop} (P0 : PE C M σ i0 dep cb' sb' nb') (E : Ee M σ N σ1) (P : PE C N σ1 i dep c s n) (hc : 70 ≤ c) (hs : 7000 ≤ s) (hn : 20 ≤ n) (hv : mn M ≤ v ∧ v < mn N) (hk : mk N v = 13) (h24 : mI N 2400 v = k) (h1 : x1 ≠ 1 ∧ x1 ≠ 2 ∧ x1 ≠ 3 ∧ x1 ≠ 4) (hb : ∀ σ1 r r' s, Bre C σ1 s → BWe C σ1 (cT r r' s)) (good : ∀ (x y : Nat) (M5 : CM) (σ5 : TS) (i5 : Nat), PE C M5 σ5 i5 dep (c + 16) (s + 2048) n → i < i5 → Ee M σ M5 σ5 → mk M5 v = 13 → v < mn M5 → mI M5 2400 v = k → RfP C (PX M M5) M5 σ5 (mR M5 2401 v) (nI x) → EqP C (PX M M5) M5 σ5 0 (mR M5 2402 v) (nI y) → Rje C M σ G (kE M5) (cT (nI x) (nI y) σ5)) : Rje C M σ G (kAc x1 v kE N) (tAc x1 cT σ1) := by
  have h167 := P0.1.n167
  have hnf := P.1.nf12
  have hl := P.2.2.2.2.1.2.2
  unfold kAc tAc
  refine Rje.rf E P (by omega) (by omega) (by omega) (fun a M2 x σ2 i2 P2 hi2 E2 E12 R2 hx => ?_) (fun σ1 r s hb1 => BWe.bo (BWe.o hb1 (bw_pass hb1.br _)) (fun _ s hb1 => BWe.bo (BWe.o hb1 (bw_Fexpression hb1.br)) (fun _ s hb1 => hb _ _ _ s hb1)))
  have n12 := E12.1.1
  have sv2 : So N M2 v := E12.1.so hv.2 (by omega)
  have kv2 : mk M2 v = 13 := by rw [sv2.k]; exact hk
  rw [ifT kv2, nm_eq]
  have F3 : Fz (fun o => o = v) M2 (msR M2 2401 v a) := Fz.rf.msR (fun _ => rfl)
  have P3 := P2.wr F3 ⟨rfl, rfl⟩ kv2 (by omega) (by omega)
  have E3 := E2.wr P0 F3 hv.1
  refine Rje.st E3 P3 (z_pass P3.1 (by omega) (by omega) (x := x1) h1) (fun _ _ σ4 P4 E4 E34 hi4 _ => ?_) (fun σ1 r s hb1 => BWe.bo (BWe.o hb1 (bw_Fexpression hb1.br)) (fun _ s hb1 => hb _ _ _ s hb1))
  refine Rje.ok E4 P4 (z_expr P4.1 hl (by omega) (by omega) (by omega)) (fun b M5 y σ5 i5 P5 hi5 E5 E45 R5 => ?_) (fun σ1 r s hb1 => hb _ _ _ s hb1)
  have n45 := E45.1.1
  have n4 : mn (msI (msR M2 2401 v a) 405 90 (nI (i2 + 1))) = mn M2 := rfl
  have sv5 : So (msI (msR M2 2401 v a) 405 90 (nI (i2 + 1))) M5 v := E45.1.so (by omega) (by omega)
  have kv5 : mk M5 v = 13 := by rw [sv5.k]; exact kv2
  rw [ifT kv5, nm_eq]
  have F6 : Fz (fun o => o = v) M5 (msR M5 2402 v b) := Fz.rf.msR (fun _ => rfl)
  have P6 := P5.wr F6 ⟨rfl, rfl⟩ kv5 (by omega) (by omega)
  have E6 := E5.wr P0 F6 hv.1
  obtain ⟨M6, hM6⟩ : ∃ M6, M6 = msR M5 2402 v b := ⟨_, rfl⟩
  have n6 : mn M6 = mn M5 := by rw [hM6]; rfl
  have F26 : Fz (fun o => o = 90 ∨ o = v) M2 M6 := by
    rw [hM6]
    exact (((F3.mono (Y := fun o => o = 90 ∨ o = v) (fun o _ z => Or.inr z)).tr (E34.1.mono (fun o _ z => Or.inl z))).tr (E45.1.mono (fun o _ z => Or.inl z))).tr (F6.mono (fun o _ z => Or.inr z))
  have z56 : Tz σ5 σ5 := Tz.rf _
  have z26 : Tz σ2 σ5 := E34.2.2.2.1.tr E45.2.2.2.1
  have c26 : ∀ j, tA σ5 42 j = tA σ2 42 j := fun j => by rw [(E45.2.2.2.2 42 rfl).2.2.1, (E34.2.2.2.2 42 rfl).2.2.1]
  have c6 : mn M6 ≤ 601024 := by rw [hM6]; exact P6.1.c6
  have t5 := P5.1.tN9
  have b5 := R5.b
  have h95 : mR M6 4201 95 = mR N 4201 95 := by rw [(F26.so (by omega) (by omega)).r, (E12.1.so (by omega) (by decide)).r]
  obtain ⟨bsN, lN⟩ := P.1.l95
  have hlN : mR N 4201 95 = 4398046511104 ∨ mR N 4201 95 < mn N := lN.lt
  have hr1 : mR M6 2401 v = a := by rw [hM6, mR_msR, ifF (by omega), sv5.r, mR_msI, mR_msR, ifT ⟨rfl, rfl⟩]
  have hr2 : mR M6 2402 v = b := by rw [hM6, mR_msR, ifT ⟨rfl, rfl⟩]
  have hi24 : mI M6 2400 v = k := by rw [hM6, mI_msR, sv5.i, mI_msI, ifF (by omega), mI_msR, sv2.i]; exact h24
  have k6 : mk M6 v = 13 := by rw [hM6]; exact kv5
  have hn1 := E.1.1.1
  have F56 : Fz (fun o => o = v) M5 M6 := by rw [hM6]; exact F6
  rw [← hM6] at P6 E6 ⊢
  refine good x y M6 σ5 i5 (P6.wk (by omega) (by omega) (by omega)) (by omega) E6 k6 (by omega) hi24 ?_ ?_
  · rw [hr1]
    exact R2.eqp hx F26 (fun o h1 h2 z => by omega) (fun w => by rw [E6.1.wc P0, E2.1.wc P0]) z26 c26 (fun o h1 h2 => ⟨⟨by omega, by omega⟩, by rw [h95]; omega⟩)
  · rw [hr2]
    exact R5.eqp (by omega) hnf F56 (fun o h1 h2 z => by omega) (fun w => by rw [E6.1.wc P0, E5.1.wc P0]) z56 (fun _ => rfl) (fun o h1 h2 => ⟨⟨by omega, by omega⟩, by rw [h95]; omega⟩)
/-- the twin's action -/
theorem act_fin (P0 : PE C M σ i0 dep cb' sb' nb') (P5 : PE C M5 σ5 i dep c' s' n') (P : PE C M7 σ7 i' dep c s n) (hi : i < i') (hi0 : i0 ≤ i) (E5 : Ee M σ M5 σ5) (E57 : Es M5 σ5 M7 σ7) (hv : mn M ≤ v ∧ v < mn M5) (hk : mk M5 v = 13) (h24 : mI M5 2400 v = k) (hkt : k = 61 ∧ tk = 6 ∨ k = 28 ∧ tk = 7) (h1 : RfP C (PX M M5) M5 σ5 (mR M5 2401 v) (nI x)) (h2 : EqP C (PX M M5) M5 σ5 0 (mR M5 2402 v) (nI y)) : Rje C M σ (GE C M σ i0 dep c s n 1) (some (.inl v, M7)) (ob (F_eq tk (nI x) (nI y) 0 σ7) fun r42 s41 => some (r42, s41)) := by
  have h167 := P0.1.n167
  have hnf := P.1.nf12
  obtain ⟨e1, e2, e3⟩ := P5.e1
  have hcxP5 := P5.cx
  have te := tE_es E57
  have hit := P.1.it
  obtain ⟨q1, q2, q3, q4⟩ := z_eqn (i' := i' - 1) P (by omega) tk (nI x) (nI y) 0 (by omega) (by omega)
  obtain ⟨v1, v2, v3, v4, v5, v6, v7⟩ := eqT_v σ7 (tE σ7) tk (nI x) (nI y) 0
  rw [q1, ob_some]
  have E58 := (E57.ee P5.1.n167).tr q3
  have sv : So M5 M7 v := E57.1.so hv.2 (by omega)
  have hn := E57.1.1
  have s95 : mR M7 4201 95 = mR M5 4201 95 := (E57.1.so (by have := P5.1.n167; omega) (by decide)).r 4201
  have hmo : mR M5 411 90 < mn M := by rw [E5.1.2.2.1]; exact P0.2.1.2
  have hPX : ∀ o, PX M M5 o → PX M M7 o := fun o ho => ⟨⟨ho.1.1, by have := ho.1.2; omega⟩, by rw [s95]; exact ho.2⟩
  have w8 : ∀ w, wc M7 w = wc M5 w := fun w => E58.1.wc P5 w
  have c8 := fun j => (E58.2.2 42 rfl).2.2.1 j
  have mv : Mv (PX M M5) (tN σ5) (tQ σ5) (cm C) M5 M7 σ5 (eqT σ7 (tE σ7) tk (nI x) (nI y) 0) := ⟨⟨E58.1.1.1, fun o ho => E58.1.1.k ho⟩, fun o ho => E58.1.1.so (ho.nx h167 hmo).1 (ho.nx h167 hmo).2, fun w _ => w8 w, E58.2.1.1.2.1, E58.2.1.1.2.2.1, E58.2.1.1.2.2.2, c8⟩
  have et : tE σ ≤ tE σ5 := E5.2.1.2.1
  obtain ⟨bs5, l5⟩ := P5.1.l95
  have hv95 : v ≠ mR M5 4201 95 := fun z => by
    have := l5.k55 P5.1.c6 (by rw [← z]; omega)
    rw [← z, hk] at this; exact absurd this (by decide)
  refine Or.inl ⟨v, _, _, _, rfl, rfl, tE σ7, i', 1, ⟨rfl, by have := P.1.2.2.1.2.2; show 1 + dep ≤ 17; omega⟩, q2 P.1.it.1, by omega, E5.tr E58, ⟨q4, by omega⟩, ⟨⟨⟨⟨hv.1, by omega⟩, by rw [s95]; exact hv95⟩, by rw [sv.k]; exact hk, by omega, by omega, by omega⟩, Or.inr (Or.inr (Or.inr (Or.inr (Or.inr ⟨rfl, ?_, ?_, ?_⟩))))⟩, v5⟩
  · rw [sv.i, h24, v1]; exact hkt
  · rw [sv.r, v2]; exact h1.mv mv hPX E58.2.1.1.1
  · rw [sv.r, v3]; exact h2.mv hnf mv hPX E58.2.1.1.1
/-- left = right in a when -/
theorem act_61 (P : PE C M σ i dep c s n) (hc : 80 ≤ c) (hs : 8000 ≤ s) (hn : 20 ≤ n) : Rje C M σ (GE C M σ i dep (c + 16) (s + 2048) n 1) (kAc 61 (mn M) (kA6 (mn M)) (eqM M 61)) (tAc 61 (tA6 6) σ) := by
  obtain ⟨j1, j2, j3, ⟨j4, j5, j6⟩, ⟨j7, j8, j9⟩, j10, j11⟩ := eqM_ok M 61 P.1.c6
  obtain ⟨P1, E1⟩ := P.alq j1 (c' := c - 3) (s' := s - 14) (by omega) (by omega)
  refine act_core (k := 61) P E1 P1 (by omega) (by omega) hn ⟨Nat.le_refl _, by omega⟩ j4 j9 (by decide) (fun σ1 r r' s hb => by unfold tA6; exact ((by intro σ1 r s hb; repeat' (first | with_reducible (exact BWe.sm hb) | with_reducible (refine BWe.bo (BWe.o hb (bw_next hb.br)) ?_; intro r s hb) | with_reducible (refine BWe.bo (BWe.o hb (bw_ref hb.br)) ?_; intro r s hb) | with_reducible (refine BWe.bo (BWe.o hb (bw_passName hb.br)) ?_; intro r s hb) | with_reducible (refine BWe.bo (BWe.o hb (bw_Fexpression hb.br)) ?_; intro r s hb) | with_reducible (refine BWe.bo (BWe.o hb (bw_Fcondition hb.br)) ?_; intro r s hb) | with_reducible (refine BWe.bo (BWe.o hb (bw_pass hb.br _)) ?_; intro r s hb) | with_reducible (refine BWe.bo (BWe.o hb (bw_isSign hb.br _)) ?_; intro r s hb) | with_reducible (refine BWe.bo (BWe.o hb (bw_passWhole hb.br _)) ?_; intro r s hb) | with_reducible (refine BWe.bo (BWe.o hb (bw_passWord hb.br _)) ?_; intro r s hb) | with_reducible (refine BWe.bo (BWe.o hb (bw_isWord hb.br _)) ?_; intro r s hb) | with_reducible (refine BWe.eq hb _ _ _ _ ?_; intro j s hj1 hj2 hj3 hb) | with_reducible (refine BWe.nmI hb (by decide) ?_; intro s hb) | with_reducible (refine BWe.nmB hb (by assumption) (by assumption) ?_; intro s hb) | with_reducible (refine BWe.isBad hb ?_) | with_reducible (refine BWe.itT (inb_nI' (by assumption) (by decide)) ?_) | with_reducible (refine BWe.ite ?_ ?_) | exact BWe.sm hb | (refine BWe.bo (BWe.o hb (bw_next hb.br)) ?_; intro r s hb) | (refine BWe.bo (BWe.o hb (bw_ref hb.br)) ?_; intro r s hb) | (refine BWe.bo (BWe.o hb (bw_passName hb.br)) ?_; intro r s hb) | (refine BWe.bo (BWe.o hb (bw_Fexpression hb.br)) ?_; intro r s hb) | (refine BWe.bo (BWe.o hb (bw_Fcondition hb.br)) ?_; intro r s hb) | (refine BWe.bo (BWe.o hb (bw_pass hb.br _)) ?_; intro r s hb) | (refine BWe.bo (BWe.o hb (bw_isSign hb.br _)) ?_; intro r s hb) | (refine BWe.bo (BWe.o hb (bw_passWhole hb.br _)) ?_; intro r s hb) | (refine BWe.bo (BWe.o hb (bw_passWord hb.br _)) ?_; intro r s hb) | (refine BWe.bo (BWe.o hb (bw_isWord hb.br _)) ?_; intro r s hb) | (refine BWe.eq hb _ _ _ _ ?_; intro j s hj1 hj2 hj3 hb) | (refine BWe.nmI hb (by decide) ?_; intro s hb) | (refine BWe.nmB hb (by assumption) (by assumption) ?_; intro s hb) | refine BWe.isBad hb ?_ | refine BWe.itT (inb_nI' (by assumption) (by decide)) ?_ | refine BWe.ite ?_ ?_)) : ∀ σ1 (_ : Unit) s, Bre C σ1 s → BWe C σ1 (ob (F_pass 59 s) fun _ s37 => ob (F_eq 6 r r' 0 s37) fun r42 s41 => some (r42, s41))) σ1 () s hb) (fun x y M5 σ5 i5 P5 hi5 E5 k5 n5 h24 h1 h2 => ?_)
  unfold kA6 tA6
  refine Rje.st E5 P5 (z_pass P5.1 (by omega) (by omega) (x := 59) (by decide)) (fun _ _ σ7 P7 E7 E57 hi7 _ => ?_) (by intro σ1 r s hb; repeat' (first | with_reducible (exact BWe.sm hb) | with_reducible (refine BWe.bo (BWe.o hb (bw_next hb.br)) ?_; intro r s hb) | with_reducible (refine BWe.bo (BWe.o hb (bw_ref hb.br)) ?_; intro r s hb) | with_reducible (refine BWe.bo (BWe.o hb (bw_passName hb.br)) ?_; intro r s hb) | with_reducible (refine BWe.bo (BWe.o hb (bw_Fexpression hb.br)) ?_; intro r s hb) | with_reducible (refine BWe.bo (BWe.o hb (bw_Fcondition hb.br)) ?_; intro r s hb) | with_reducible (refine BWe.bo (BWe.o hb (bw_pass hb.br _)) ?_; intro r s hb) | with_reducible (refine BWe.bo (BWe.o hb (bw_isSign hb.br _)) ?_; intro r s hb) | with_reducible (refine BWe.bo (BWe.o hb (bw_passWhole hb.br _)) ?_; intro r s hb) | with_reducible (refine BWe.bo (BWe.o hb (bw_passWord hb.br _)) ?_; intro r s hb) | with_reducible (refine BWe.bo (BWe.o hb (bw_isWord hb.br _)) ?_; intro r s hb) | with_reducible (refine BWe.eq hb _ _ _ _ ?_; intro j s hj1 hj2 hj3 hb) | with_reducible (refine BWe.nmI hb (by decide) ?_; intro s hb) | with_reducible (refine BWe.nmB hb (by assumption) (by assumption) ?_; intro s hb) | with_reducible (refine BWe.isBad hb ?_) | with_reducible (refine BWe.itT (inb_nI' (by assumption) (by decide)) ?_) | with_reducible (refine BWe.ite ?_ ?_) | exact BWe.sm hb | (refine BWe.bo (BWe.o hb (bw_next hb.br)) ?_; intro r s hb) | (refine BWe.bo (BWe.o hb (bw_ref hb.br)) ?_; intro r s hb) | (refine BWe.bo (BWe.o hb (bw_passName hb.br)) ?_; intro r s hb) | (refine BWe.bo (BWe.o hb (bw_Fexpression hb.br)) ?_; intro r s hb) | (refine BWe.bo (BWe.o hb (bw_Fcondition hb.br)) ?_; intro r s hb) | (refine BWe.bo (BWe.o hb (bw_pass hb.br _)) ?_; intro r s hb) | (refine BWe.bo (BWe.o hb (bw_isSign hb.br _)) ?_; intro r s hb) | (refine BWe.bo (BWe.o hb (bw_passWhole hb.br _)) ?_; intro r s hb) | (refine BWe.bo (BWe.o hb (bw_passWord hb.br _)) ?_; intro r s hb) | (refine BWe.bo (BWe.o hb (bw_isWord hb.br _)) ?_; intro r s hb) | (refine BWe.eq hb _ _ _ _ ?_; intro j s hj1 hj2 hj3 hb) | (refine BWe.nmI hb (by decide) ?_; intro s hb) | (refine BWe.nmB hb (by assumption) (by assumption) ?_; intro s hb) | refine BWe.isBad hb ?_ | refine BWe.itT (inb_nI' (by assumption) (by decide)) ?_ | refine BWe.ite ?_ ?_))
  have h := act_fin P P5 (P7.wk (c' := c + 16) (s' := s + 2048) (n' := n) (by omega) (by omega) (by omega)) (Nat.lt_succ_self _) (by omega) E5 E57 ⟨Nat.le_refl _, n5⟩ k5 h24 (Or.inl ⟨rfl, rfl⟩) h1 h2
  exact h
/-- reinit -/
theorem act_28 (P : PE C M σ i dep c s n) (hc : 80 ≤ c) (hs : 8000 ≤ s) (hn : 20 ≤ n) (P1 : Pe C (msI (eqM M 28) 405 90 (nI (i + 1))) σ1 (i + 1) dep (c + 13) (s + 2034) (n + 4)) (E : Es (eqM M 28) σ (msI (eqM M 28) 405 90 (nI (i + 1))) σ1) : Rje C M σ (GE C M σ i dep (c + 16) (s + 2048) n 1) (kB7 (mn M) (msI (eqM M 28) 405 90 (nI (i + 1)))) (tB7 σ1) := by
  obtain ⟨j1, j2, j3, ⟨j4, j5, j6⟩, ⟨j7, j8, j9⟩, j10, j11⟩ := eqM_ok M 28 P.1.c6
  obtain ⟨P2, E2⟩ := P.alq j1 (c' := c - 3) (s' := s - 14) (by omega) (by omega)
  have PE1 := P2.es E P1 (Nat.le_succ _)
  have E3 := E2.tr (E.ee P2.1.n167)
  have hb7 : ∀ σ1 r r' s, Bre C σ1 s → BWe C σ1 (tA7 r r' s) := fun σ1 r r' s hb => by
    unfold tA7 tA6
    exact ((by intro σ1 r s hb; repeat' (first | with_reducible (exact BWe.sm hb) | with_reducible (refine BWe.bo (BWe.o hb (bw_next hb.br)) ?_; intro r s hb) | with_reducible (refine BWe.bo (BWe.o hb (bw_ref hb.br)) ?_; intro r s hb) | with_reducible (refine BWe.bo (BWe.o hb (bw_passName hb.br)) ?_; intro r s hb) | with_reducible (refine BWe.bo (BWe.o hb (bw_Fexpression hb.br)) ?_; intro r s hb) | with_reducible (refine BWe.bo (BWe.o hb (bw_Fcondition hb.br)) ?_; intro r s hb) | with_reducible (refine BWe.bo (BWe.o hb (bw_pass hb.br _)) ?_; intro r s hb) | with_reducible (refine BWe.bo (BWe.o hb (bw_isSign hb.br _)) ?_; intro r s hb) | with_reducible (refine BWe.bo (BWe.o hb (bw_passWhole hb.br _)) ?_; intro r s hb) | with_reducible (refine BWe.bo (BWe.o hb (bw_passWord hb.br _)) ?_; intro r s hb) | with_reducible (refine BWe.bo (BWe.o hb (bw_isWord hb.br _)) ?_; intro r s hb) | with_reducible (refine BWe.eq hb _ _ _ _ ?_; intro j s hj1 hj2 hj3 hb) | with_reducible (refine BWe.nmI hb (by decide) ?_; intro s hb) | with_reducible (refine BWe.nmB hb (by assumption) (by assumption) ?_; intro s hb) | with_reducible (refine BWe.isBad hb ?_) | with_reducible (refine BWe.itT (inb_nI' (by assumption) (by decide)) ?_) | with_reducible (refine BWe.ite ?_ ?_) | exact BWe.sm hb | (refine BWe.bo (BWe.o hb (bw_next hb.br)) ?_; intro r s hb) | (refine BWe.bo (BWe.o hb (bw_ref hb.br)) ?_; intro r s hb) | (refine BWe.bo (BWe.o hb (bw_passName hb.br)) ?_; intro r s hb) | (refine BWe.bo (BWe.o hb (bw_Fexpression hb.br)) ?_; intro r s hb) | (refine BWe.bo (BWe.o hb (bw_Fcondition hb.br)) ?_; intro r s hb) | (refine BWe.bo (BWe.o hb (bw_pass hb.br _)) ?_; intro r s hb) | (refine BWe.bo (BWe.o hb (bw_isSign hb.br _)) ?_; intro r s hb) | (refine BWe.bo (BWe.o hb (bw_passWhole hb.br _)) ?_; intro r s hb) | (refine BWe.bo (BWe.o hb (bw_passWord hb.br _)) ?_; intro r s hb) | (refine BWe.bo (BWe.o hb (bw_isWord hb.br _)) ?_; intro r s hb) | (refine BWe.eq hb _ _ _ _ ?_; intro j s hj1 hj2 hj3 hb) | (refine BWe.nmI hb (by decide) ?_; intro s hb) | (refine BWe.nmB hb (by assumption) (by assumption) ?_; intro s hb) | refine BWe.isBad hb ?_ | refine BWe.itT (inb_nI' (by assumption) (by decide)) ?_ | refine BWe.ite ?_ ?_)) : ∀ σ1 (_ : Unit) s, Bre C σ1 s → BWe C σ1 (ob (F_pass 41 s) fun _ s68 => ob (F_pass 59 s68) fun _ s37 => ob (F_eq 7 r r' 0 s37) fun r42 s41 => some (r42, s41))) σ1 () s hb
  unfold kB7 tB7
  refine Rje.st E3 PE1 (z_pass PE1.1 (by omega) (by omega) (x := 40) (by decide)) (fun _ _ σ4 P4 E4 E34 hi4 _ => ?_) (fun σ1 r s hb => by
    unfold tAc
    exact BWe.bo (BWe.o hb (bw_ref hb.br)) (fun _ s hb => BWe.bo (BWe.o hb (bw_pass hb.br _)) (fun _ s hb => BWe.bo (BWe.o hb (bw_Fexpression hb.br)) (fun _ s hb => hb7 _ _ _ s hb))))
  refine act_core (k := 28) P E4 P4 (by omega) (by omega) (by omega) ⟨Nat.le_refl _, by show mn M < mn (eqM M 28); omega⟩ j4 (by rw [mI_msI, ifF (by omega), mI_msI, ifF (by omega)]; exact j9) (by decide) hb7 (fun x y M5 σ5 i5 P5 hi5 E5 k5 n5 h24 h1 h2 => ?_)
  unfold kA7 tA7 kA6 tA6
  refine Rje.st E5 P5 (z_pass P5.1 (by omega) (by omega) (x := 41) (by decide)) (fun _ _ σ6 P6 E6 E56 hi6 _ => ?_) (by intro σ1 r s hb; repeat' (first | with_reducible (exact BWe.sm hb) | with_reducible (refine BWe.bo (BWe.o hb (bw_next hb.br)) ?_; intro r s hb) | with_reducible (refine BWe.bo (BWe.o hb (bw_ref hb.br)) ?_; intro r s hb) | with_reducible (refine BWe.bo (BWe.o hb (bw_passName hb.br)) ?_; intro r s hb) | with_reducible (refine BWe.bo (BWe.o hb (bw_Fexpression hb.br)) ?_; intro r s hb) | with_reducible (refine BWe.bo (BWe.o hb (bw_Fcondition hb.br)) ?_; intro r s hb) | with_reducible (refine BWe.bo (BWe.o hb (bw_pass hb.br _)) ?_; intro r s hb) | with_reducible (refine BWe.bo (BWe.o hb (bw_isSign hb.br _)) ?_; intro r s hb) | with_reducible (refine BWe.bo (BWe.o hb (bw_passWhole hb.br _)) ?_; intro r s hb) | with_reducible (refine BWe.bo (BWe.o hb (bw_passWord hb.br _)) ?_; intro r s hb) | with_reducible (refine BWe.bo (BWe.o hb (bw_isWord hb.br _)) ?_; intro r s hb) | with_reducible (refine BWe.eq hb _ _ _ _ ?_; intro j s hj1 hj2 hj3 hb) | with_reducible (refine BWe.nmI hb (by decide) ?_; intro s hb) | with_reducible (refine BWe.nmB hb (by assumption) (by assumption) ?_; intro s hb) | with_reducible (refine BWe.isBad hb ?_) | with_reducible (refine BWe.itT (inb_nI' (by assumption) (by decide)) ?_) | with_reducible (refine BWe.ite ?_ ?_) | exact BWe.sm hb | (refine BWe.bo (BWe.o hb (bw_next hb.br)) ?_; intro r s hb) | (refine BWe.bo (BWe.o hb (bw_ref hb.br)) ?_; intro r s hb) | (refine BWe.bo (BWe.o hb (bw_passName hb.br)) ?_; intro r s hb) | (refine BWe.bo (BWe.o hb (bw_Fexpression hb.br)) ?_; intro r s hb) | (refine BWe.bo (BWe.o hb (bw_Fcondition hb.br)) ?_; intro r s hb) | (refine BWe.bo (BWe.o hb (bw_pass hb.br _)) ?_; intro r s hb) | (refine BWe.bo (BWe.o hb (bw_isSign hb.br _)) ?_; intro r s hb) | (refine BWe.bo (BWe.o hb (bw_passWhole hb.br _)) ?_; intro r s hb) | (refine BWe.bo (BWe.o hb (bw_passWord hb.br _)) ?_; intro r s hb) | (refine BWe.bo (BWe.o hb (bw_isWord hb.br _)) ?_; intro r s hb) | (refine BWe.eq hb _ _ _ _ ?_; intro j s hj1 hj2 hj3 hb) | (refine BWe.nmI hb (by decide) ?_; intro s hb) | (refine BWe.nmB hb (by assumption) (by assumption) ?_; intro s hb) | refine BWe.isBad hb ?_ | refine BWe.itT (inb_nI' (by assumption) (by decide)) ?_ | refine BWe.ite ?_ ?_))
  refine Rje.st E6 P6 (z_pass P6.1 (by omega) (by omega) (x := 59) (by decide)) (fun _ _ σ7 P7 E7 E67 hi7 _ => ?_) (by intro σ1 r s hb; repeat' (first | with_reducible (exact BWe.sm hb) | with_reducible (refine BWe.bo (BWe.o hb (bw_next hb.br)) ?_; intro r s hb) | with_reducible (refine BWe.bo (BWe.o hb (bw_ref hb.br)) ?_; intro r s hb) | with_reducible (refine BWe.bo (BWe.o hb (bw_passName hb.br)) ?_; intro r s hb) | with_reducible (refine BWe.bo (BWe.o hb (bw_Fexpression hb.br)) ?_; intro r s hb) | with_reducible (refine BWe.bo (BWe.o hb (bw_Fcondition hb.br)) ?_; intro r s hb) | with_reducible (refine BWe.bo (BWe.o hb (bw_pass hb.br _)) ?_; intro r s hb) | with_reducible (refine BWe.bo (BWe.o hb (bw_isSign hb.br _)) ?_; intro r s hb) | with_reducible (refine BWe.bo (BWe.o hb (bw_passWhole hb.br _)) ?_; intro r s hb) | with_reducible (refine BWe.bo (BWe.o hb (bw_passWord hb.br _)) ?_; intro r s hb) | with_reducible (refine BWe.bo (BWe.o hb (bw_isWord hb.br _)) ?_; intro r s hb) | with_reducible (refine BWe.eq hb _ _ _ _ ?_; intro j s hj1 hj2 hj3 hb) | with_reducible (refine BWe.nmI hb (by decide) ?_; intro s hb) | with_reducible (refine BWe.nmB hb (by assumption) (by assumption) ?_; intro s hb) | with_reducible (refine BWe.isBad hb ?_) | with_reducible (refine BWe.itT (inb_nI' (by assumption) (by decide)) ?_) | with_reducible (refine BWe.ite ?_ ?_) | exact BWe.sm hb | (refine BWe.bo (BWe.o hb (bw_next hb.br)) ?_; intro r s hb) | (refine BWe.bo (BWe.o hb (bw_ref hb.br)) ?_; intro r s hb) | (refine BWe.bo (BWe.o hb (bw_passName hb.br)) ?_; intro r s hb) | (refine BWe.bo (BWe.o hb (bw_Fexpression hb.br)) ?_; intro r s hb) | (refine BWe.bo (BWe.o hb (bw_Fcondition hb.br)) ?_; intro r s hb) | (refine BWe.bo (BWe.o hb (bw_pass hb.br _)) ?_; intro r s hb) | (refine BWe.bo (BWe.o hb (bw_isSign hb.br _)) ?_; intro r s hb) | (refine BWe.bo (BWe.o hb (bw_passWhole hb.br _)) ?_; intro r s hb) | (refine BWe.bo (BWe.o hb (bw_passWord hb.br _)) ?_; intro r s hb) | (refine BWe.bo (BWe.o hb (bw_isWord hb.br _)) ?_; intro r s hb) | (refine BWe.eq hb _ _ _ _ ?_; intro j s hj1 hj2 hj3 hb) | (refine BWe.nmI hb (by decide) ?_; intro s hb) | (refine BWe.nmB hb (by assumption) (by assumption) ?_; intro s hb) | refine BWe.isBad hb ?_ | refine BWe.itT (inb_nI' (by assumption) (by decide)) ?_ | refine BWe.ite ?_ ?_))
  have h := act_fin P P5 (P7.wk (c' := c + 16) (s' := s + 2048) (n' := n) (by omega) (by omega) (by omega)) (show i5 < i5 + 1 + 1 by omega) (by omega) E5 (E56.tr E67) ⟨Nat.le_refl _, n5⟩ k5 h24 (Or.inr ⟨rfl, rfl⟩) h1 h2
  exact h
end ACT
