/-! Layer B: modifications -/
set_option maxRecDepth 100000
/-- rows of modifications, as they are but at k (and the link of l) -/
def Mo (k l : Nat) (σ σ' : TS) : Prop := (∀ f, f = 59 ∨ f = 60 ∨ f = 62 → ∀ j, j ≠ k → tA σ' f j = tA σ f j) ∧ (∀ j, j ≠ k → j ≠ l → tA σ' 61 j = tA σ 61 j) ∧ ∀ f, f = 63 ∨ f = 64 → ∀ j, j ≠ k → tB σ' f j = tB σ f j
section MODS
variable {C : PC} {M M' M0 Mb : CM} {σ σ' σ0 σb s1 : TS} {i dep c s n so ib depb cb' sb' nb' i0 v l p w m Q Q' N k k0 el le : Nat} {bs qs bs' os : List Nat} {P P' X : Nat → Prop} {α β : Type}
theorem Mo.rf : Mo k l σ σ := ⟨fun _ _ _ _ => rfl, fun _ _ _ => rfl, fun _ _ _ _ => rfl⟩
theorem Mo.tr {σ1 σ2 σ3 : TS} (h : Mo k l σ1 σ2) (g : Mo k l σ2 σ3) : Mo k l σ1 σ3 := ⟨fun f hf j hj => (g.1 f hf j hj).trans (h.1 f hf j hj), fun j h1 h2 => (g.2.1 j h1 h2).trans (h.2.1 j h1 h2), fun f hf j hj => (g.2.2 f hf j hj).trans (h.2.2 f hf j hj)⟩
theorem Mo.ft {S : List Nat} (f : Ft S σ σ') (h : [59, 60, 61, 62, 63, 64].all (fun k => !S.contains k) = true) : Mo k l σ σ' := by
  have hf : ∀ k, k ∈ [59, 60, 61, 62, 63, 64] → S.contains k = false := fun k hk => by
    have := List.all_eq_true.mp h k hk
    simpa using this
  exact ⟨fun g hg j _ => (f g (hf g (by rcases hg with rfl | rfl | rfl <;> decide))).2.2.1 j, fun j _ _ => (f 61 (hf 61 (by decide))).2.2.1 j, fun g hg j _ => (f g (hf g (by rcases hg with rfl | rfl <;> decide))).2.2.2 j⟩
theorem Mo.sI {f : Nat} {u : Int32} : Mo k l σ (tsI σ f u) := ⟨fun _ _ _ _ => rfl, fun _ _ _ => rfl, fun _ _ _ _ => rfl⟩
theorem Mo.sA {f : Nat} {u : Int32} : Mo k l σ (tsA σ f k u) := ⟨fun _ _ j hj => by rw [tA_tsA, ifF (by omega)], fun j hj _ => by rw [tA_tsA, ifF (by omega)], fun _ _ _ _ => rfl⟩
theorem Mo.sB {f : Nat} {u : Int64} : Mo k l σ (tsB σ f k u) := ⟨fun _ _ _ _ => rfl, fun _ _ _ => rfl, fun _ _ j hj => by rw [tB_tsB, ifF (by omega)]⟩
theorem Mo.sL {u : Int32} : Mo k l σ (tsA σ 61 l u) := ⟨fun _ hf j _ => by rw [tA_tsA, ifF (by omega)], fun j _ hj => by rw [tA_tsA, ifF (by omega)], fun _ _ _ _ => rfl⟩
/-- a modification, on both sides -/
def MdR (C : PC) (P : Nat → Prop) (M : CM) (σ : TS) (o k : Nat) : Prop := (P o ∧ mk M o = 12) ∧ ((tA σ 62 k = 1 ∧ mI M 2201 o = 0 ∧ ∃ b w w', LsP P M (mR M 2200 o) [b] ∧ BxR M (cm C) b w ∧ tB σ 63 k = wc M w ∧ mI M 2203 o = nI w' ∧ (38 ≤ w' ∧ w' < 38 + cm C) ∧ tB σ 64 k = wc M w') ∨ (tA σ 62 k = 0 ∧ mI M 2203 o = -1 ∧ ∃ bs qs e d, LsP P M (mR M 2200 o) bs ∧ PaC (tQ σ) (cm C) M σ (mI M 2201 o) bs qs ∧ qs ≠ [] ∧ tA σ 59 k = nI (qs.getD 0 0) ∧ tA σ 60 k = nI e ∧ e < 9000 ∧ AR P (tN σ) (tQ σ) (cm C) (car C) (cnf C) (cfn C) M σ d 0 (mR M 2202 o) e))
theorem MdR.mv {o : Nat} (h : MdR C P M σ o k) (hnf : cnf C ≤ 12) (F : Fz X M M') (hX : ∀ o, X o → ¬ P o ∧ mk M o ≠ 23) (hPl : ∀ o, P o → o < mn M) (hP : ∀ o, P o → P' o) (hw : ∀ w, wc M' w = wc M w) (hz : Tz σ σ') (h42 : ∀ j, tA σ' 42 j = tA σ 42 j) (ha : ∀ f, f = 59 ∨ f = 60 ∨ f = 62 → tA σ' f k = tA σ f k) (hb : ∀ f, f = 63 ∨ f = 64 → tB σ' f k = tB σ f k) : MdR C P' M' σ' o k := by
  obtain ⟨⟨a1, a2⟩, h⟩ := h
  have so : ∀ o, P o → So M M' o := fun o ho => F.so (hPl o ho) (fun z => (hX o z).1 ho)
  have s := so o a1
  have kn : mn M ≤ mn M' ∧ ∀ o, o < mn M → mk M' o = mk M o := ⟨F.1, fun o ho => F.k ho⟩
  refine ⟨⟨hP o a1, by rw [s.k]; exact a2⟩, ?_⟩
  rw [ha 62 (by decide), ha 59 (by decide), ha 60 (by decide), hb 63 (by decide), hb 64 (by decide), s.i, s.i, s.r, s.r]
  rcases h with ⟨b1, b2, b, w, w', b3, b4, b5, b6, b7, b8⟩ | ⟨b1, b2, bs, qs, e, d, b3, b4, b5, b6, b7, b8, b9⟩
  · exact Or.inl ⟨b1, b2, b, w, w', b3.mv kn so hP, b4.fz F (fun o z => (hX o z).2), by rw [hw]; exact b5, b6, b7, by rw [hw]; exact b8⟩
  · refine Or.inr ⟨b1, b2, bs, qs, e, d, b3.mv kn so hP, b4.mv F (fun o z => (hX o z).2) hw hz.1.2 (fun j hj => hz.2.2.2 29 (by decide) j hj) (fun j hj => hz.2.2.1 33 (by decide) j hj), b5, b6, b7, b8, ?_⟩
    exact AR.mv ⟨kn, so, fun w _ => hw w, hz.2.1, hz.2.2.1, hz.2.2.2, h42⟩ hP hz.1.1 hz.1.2 ⟨Nat.le_refl _, hnf, fun _ _ => rfl⟩ d d 0 _ e (Nat.le_refl _) b9
/-- the modifications of an element: from k0 on, in a row; made since the base, apart from the row itself -/
def MdsR (C : PC) (Mb : CM) (le el : Nat) (M : CM) (σ : TS) (k0 : Nat) (os : List Nat) : Prop := ∀ j, j < os.length → (∃ P, (∀ o, P o → (mn Mb ≤ o ∧ o < mn M) ∧ o ≠ le ∧ o ≠ mR M 4201 le ∧ o ≠ el) ∧ MdR C P M σ (os.getD j 0) (k0 + j)) ∧ tA σ 61 (k0 + j) = if j + 1 < os.length then nI (k0 + j + 1) else 0
/-- a new Mod with its list -/
def moM (M : CM) : CM := msI (msR (msR (msI (mnew (mnew M 12 0 4) 22 0 3) 4200 (mn M + 1) 0) 4201 (mn M + 1) 4398046511104) 2200 (mn M) (mn M + 1)) 2203 (mn M) (-1)
theorem moM_ok (M : CM) (h6 : mn M ≤ 601024) : Fz none_ M (moM M) ∧ mn (moM M) = mn M + 2 ∧ ms (moM M) = ms M + 7 ∧ mk (moM M) (mn M) = 12 ∧ mR (moM M) 2200 (mn M) = mn M + 1 ∧ mI (moM M) 2203 (mn M) = -1 ∧ mI (moM M) 2201 (mn M) = 0 ∧ LsB M (moM M) (mn M + 1) [] ∧ mR (moM M) 4201 (mn M + 1) = 4398046511104 := by
  have n2 : mn (mnew M 12 0 4) = mn M + 1 := rfl
  have k : ∀ o, mk (moM M) o = mk (mnew (mnew M 12 0 4) 22 0 3) o := fun _ => rfl
  have h42 : mR (moM M) 4201 (mn M + 1) = 4398046511104 := by unfold moM; rw [mR_msI, mR_msR, ifF (by omega), mR_msR, ifT ⟨rfl, rfl⟩]
  refine ⟨((((((Fz.rf (X := none_)).mnew).mnew).msI (fun z => by omega)).msR (fun z => by omega)).msR (fun z => by omega)).msI (fun z => by omega), rfl, rfl, ?_, ?_, ?_, ?_, ⟨⟨?_, ?_, by decide, fun i hi => absurd hi (Nat.not_lt_zero _), Or.inl ⟨h42, rfl⟩⟩, ⟨by omega, by show mn M + 1 < mn M + 2; omega⟩, by rw [h42]; omega, fun z => absurd h42 z⟩, h42⟩
  · rw [k, mk_mnew, ifF (by omega), mk_mnew, ifT rfl]
  · unfold moM; rw [mR_msI, mR_msR, ifT ⟨rfl, rfl⟩]
  · unfold moM; rw [mI_msI, ifT ⟨rfl, rfl⟩]
  · unfold moM; rw [mI_msI, ifF (by omega), mI_msR, mI_msR, mI_msI, ifF (by omega), mI_mnew, ifF (by omega), mI_mnew, ifT rfl]
  · rw [k, mk_mnew, ifT (by omega)]
  · unfold moM; rw [mI_msI, ifF (by omega), mI_msR, mI_msR, mI_msI, ifF (by omega), mI_mnew, ifT (by omega)]; rfl
theorem mo_al {γ : Type} (M : CM) (K : Nat → CM → Option γ) (hc : mn M + 2 ≤ 601024 ∧ ms M + 16 ≤ 7293034) (h0 : 167 ≤ mn M) : (if mn M ≤ 601024 ∧ ms M + 4 ≤ 7293034 then nm (mn M) fun v6 => nm (mnew M 12 0 4) fun M7 => if ¬ v6 = 0 then ob (K_X12_init v6 M7) fun _ M9 => K v6 M9 else none else none) = K (mn M) (moM M) := by
  have n1 : mn (mnew M 12 0 4) = mn M + 1 := rfl
  have s1 : ms (mnew M 12 0 4) = ms M + 4 := rfl
  have kl : mk (mnew (mnew M 12 0 4) 22 0 3) (mn (mnew M 12 0 4)) = 22 := by rw [mk_mnew, ifT rfl]
  have si : mI (mnew (mnew M 12 0 4) 22 0 3) 4202 (mn (mnew M 12 0 4)) = 0 := by rw [mI_mnew, ifT rfl]
  obtain ⟨l1, l2⟩ := ls_init kl (by omega) si
  have k2 : mk (msR (msI (mnew (mnew M 12 0 4) 22 0 3) 4200 (mn (mnew M 12 0 4)) 0) 4201 (mn (mnew M 12 0 4)) 4398046511104) (mn M) = 12 := by
    show mk (mnew (mnew M 12 0 4) 22 0 3) (mn M) = 12
    rw [mk_mnew, ifF (by omega), mk_mnew, ifT rfl]
  unfold K_X12_init
  rw [ifT ⟨by omega, by omega⟩, nm_eq, nm_eq, ifT (by omega), ifT (by omega), ifT ⟨by omega, by omega⟩, nm_eq, nm_eq, ifT (by omega), l1, ob_some, ifT k2, nm_eq, ifT (show mk (msR (msR (msI (mnew (mnew M 12 0 4) 22 0 3) 4200 (mn (mnew M 12 0 4)) 0) 4201 (mn (mnew M 12 0 4)) 4398046511104) 2200 (mn M) (mn (mnew M 12 0 4))) (mn M) = 12 from k2), nm_eq, ob_some]
  rfl
theorem pk_as {v x1 : Nat} (J : CM → Option ((Unit ⊕ (Unit ⊕ Nat)) × CM)) (M : CM) : (ob (K_X2_takeKey 37 M) fun r18 M17 => if mk M17 v = 12 then nm (msI M17 2201 v r18) fun M22 => if mk M22 v = 12 then if mI M22 2201 v = 0 then if mk M22 v = 12 then obS (K_X2_name M22) (fun w90 M86 => some (.inr (.inr w90), M86)) fun r87 M86 => ob (K_J16_valueOf r87 M86) fun r92 M91 => if mk M91 (mR M22 2200 v) = 22 then ob (K_J2_add (mR M22 2200 v) r92 M91) fun _ M96 => obS (KL_X2_mods_91 FU x1 v M96) (fun r104 M101 => some (.inr r104, M101)) fun _ M101 => J M101 else none else none else obS (KL_X2_mods_91 FU x1 v M22) (fun r84 M58 => some (.inr r84, M58)) fun _ M58 => J M58 else none else none) = obS (pK FU v x1 M) (fun r M => some (.inr r, M)) fun _ M => J M := by
  unfold pK
  rcases K_X2_takeKey 37 M with _ | ⟨r, M17⟩
  · rfl
  simp only [ob_some, nm_eq]
  by_cases h1 : mk M17 v = 12
  · rw [ifT h1, ifT h1]
    by_cases h2 : mk (msI M17 2201 v r) v = 12
    · rw [ifT h2, ifT h2]
      by_cases h3 : mI (msI M17 2201 v r) 2201 v = 0
      · rw [ifT h3, ifT h3, ifT h2, ifT h2]
        rcases K_X2_name (msI M17 2201 v r) with _ | ⟨r2 | r2, M86⟩
        · rfl
        · simp only [obS_inl]
          rcases K_J16_valueOf r2 M86 with _ | ⟨r3, M91⟩
          · rfl
          simp only [ob_some]
          by_cases h4 : mk M91 (mR (msI M17 2201 v r) 2200 v) = 22
          · rw [ifT h4, ifT h4]
            rcases K_J2_add (mR (msI M17 2201 v r) 2200 v) r3 M91 with _ | ⟨r4, M96⟩
            · rfl
            · rfl
          · rw [ifF h4, ifF h4]; rfl
        · rfl
      · rw [ifF h3, ifF h3, ifT h2]
    · rw [ifF h2, ifF h2]; rfl
  · rw [ifF h1, ifF h1]; rfl
theorem bw_Lmods (h : Br C σ s1) (n : Nat) (x y : Int32) : L_modsOf_26 (n + 1) x y s1 = some (x, s1) := by
  rw [L_modsOf_26, t_isBad1 h.b, ob_some, ifF (by decide)]
theorem bw_J146 {f : Nat} (h : Br C σ s1) {x1 x2 x3 : Int32} (hin : inb x2 2500) : BW C σ (J_modsOf_146_26 (L_modsOf_26 (f + 1)) x1 x2 x3 s1) := by
  unfold J_modsOf_146_26
  refine BW.ite (BW.bo (bw_isSign h _) fun r s hb => BW.ite (BW.sm hb) (BW.bo (bw_next hb) fun _ s hb => ?_)) (BW.itT hin (BW.nmA h rfl fun s hb => BW.bo (bw_isSign hb _) fun r s hb => BW.ite (BW.sm hb) (BW.bo (bw_next hb) fun _ s hb => ?_)))
  · rw [bw_Lmods hb]; exact BW.sm hb
  · rw [bw_Lmods hb]; exact BW.sm hb
/-- the end of a round of the twin: the link, and a comma or the end -/
theorem mo_lnk {f : Nat} (P : Pe C M σ i dep c s n) (E : Es Mb σb M σ) (hk0 : 1 ≤ k0) (hk : k0 + m < 2500) : ∃ σ', J_modsOf_146_26 (L_modsOf_26 f) (if m = 0 then 0 else nI k0) (if m = 0 then 0 else nI (k0 + m - 1)) (nI (k0 + m)) σ = (ob (F_isSign 44 σ') fun r s => if r = 0 then some (nI k0, s) else ob (F_next s) fun _ s => L_modsOf_26 f (if m + 1 = 0 then 0 else nI k0) (if m + 1 = 0 then 0 else nI (k0 + (m + 1) - 1)) s) ∧ Pe C M σ' i dep c s n ∧ Es Mb σb M σ' ∧ Mo (k0 + m) (if m = 0 then k0 + m else k0 + m - 1) σ σ' ∧ (m ≠ 0 → tA σ' 61 (k0 + m - 1) = nI (k0 + m)) ∧ Ft [61] σ σ' ∧ tA σ' 61 (k0 + m) = tA σ 61 (k0 + m) := by
  unfold J_modsOf_146_26
  rw [ifF (show ¬ m + 1 = 0 by omega), ifF (show ¬ m + 1 = 0 by omega), show k0 + (m + 1) - 1 = k0 + m by omega]
  by_cases hm : m = 0
  · subst hm
    rw [ifT rfl, ifT rfl, ifT rfl]
    exact ⟨σ, rfl, P, E, Mo.rf, fun z => absurd rfl z, Ft.rf _ _, rfl⟩
  · rw [ifF hm, ifF hm, ifF hm, ifF (show ¬ nI k0 = 0 from by rw [show (0 : Int32) = nI 0 from rfl, bI_eq (by omega) (by decide)]; omega), ifT (show inb (nI (k0 + m - 1)) 2500 from inb_nI' (by omega) (by decide)), nm_eq, ix_nI (by omega)]
    have fr : Ft [61] σ (tsA σ 61 (k0 + m - 1) (nI (k0 + m))) := (Ft.rf _ _).p_tsA rfl
    exact ⟨_, rfl, P.tx fr (by decide), E.tx fr (by decide), Mo.sL, fun _ => by rw [tA_tsA, ifT ⟨rfl, rfl⟩], fr, by rw [tA_tsA, ifF (by omega)]⟩
end MODS
