/-! Layer B: the loop of modifications -/
set_option maxRecDepth 100000
section MODL
variable {C : PC} {M M' M0 Mb : CM} {σ σ' σ0 σb s1 : TS} {i dep c s n so ib depb cb' sb' nb' i0 v l p w m Q Q' N k k0 el le : Nat} {bs qs bs' os : List Nat} {P P' X : Nat → Prop} {α β : Type}
/-- one modification more, apart from what is still written -/
theorem MdsR.snoc {o : Nat} {M1 : CM} {σ1 : TS} {P1 : Nat → Prop} (h : MdsR C Mb le el M σ k0 os) (hnf : cnf C ≤ 12) (hb0 : mn Mb ≤ mn M) (hle : le < mn M ∧ mn Mb ≤ le) (hel : el < mn M) (F : Fz (fun o => o = 90 ∨ o = le ∨ o = mR M 4201 le) M M') (F1 : Fz (fun o => o = 90 ∨ o = le ∨ o = mR M 4201 le) M1 M') (h90 : mn Mb > 90) (hM1 : mn M ≤ mn M1) (hkk : ∀ o, o = 90 ∨ o = le ∨ o = mR M 4201 le → o < mn M1 → mk M o ≠ 23 ∧ mk M1 o ≠ 23 ∧ o < mn M) (harr : mR M' 4201 le = mR M 4201 le ∨ mn M1 ≤ mR M' 4201 le) (hw : ∀ w, wc M' w = wc M w) (hw1 : ∀ w, wc M' w = wc M1 w) (hz : Tz σ σ') (hz1 : Tz σ1 σ') (h42 : ∀ j, tA σ' 42 j = tA σ 42 j) (h421 : ∀ j, tA σ' 42 j = tA σ1 42 j)
    (hmo : Mo (k0 + os.length) (if os.length = 0 then k0 + os.length else k0 + os.length - 1) σ σ') (hl : os.length ≠ 0 → tA σ' 61 (k0 + os.length - 1) = nI (k0 + os.length)) (h61 : tA σ' 61 (k0 + os.length) = 0) (ha : ∀ f, f = 59 ∨ f = 60 ∨ f = 62 → tA σ' f (k0 + os.length) = tA σ1 f (k0 + os.length)) (hb : ∀ f, f = 63 ∨ f = 64 → tB σ' f (k0 + os.length) = tB σ1 f (k0 + os.length)) (hP1 : ∀ o, P1 o → mn M ≤ o ∧ o < mn M1) (hR : MdR C P1 M1 σ1 o (k0 + os.length)) : MdsR C Mb le el M' σ' k0 (os ++ [o]) := by
  intro j hj
  have hj : j < os.length + 1 := by simpa using hj
  have e1 : (os ++ [o]).length = os.length + 1 := by simp
  rw [e1]
  rcases Nat.lt_or_ge j os.length with g | g
  · obtain ⟨⟨P, a1, a2⟩, a3⟩ := h j g
    rw [getD_app_l g]
    refine ⟨⟨P, fun o ho => ?_, ?_⟩, ?_⟩
    · obtain ⟨c1, c2, c3⟩ := a1 o ho
      have := F.1
      exact ⟨⟨c1.1, by omega⟩, c2, by rcases harr with q | q <;> omega, c3.2⟩
    · refine a2.mv hnf F.lt (fun o z => ⟨fun hp => ?_, (hkk o z.2 (by have := z.1; omega)).1⟩) (fun o ho => (a1 o ho).1.2) (fun _ z => z) hw hz h42 (fun f hf => hmo.1 f hf _ (by omega)) (fun f hf => hmo.2.2 f hf _ (by omega))
      obtain ⟨c1, c2, c3, _⟩ := a1 o hp
      rcases z.2 with q | q | q <;> omega
    · by_cases hl1 : j + 1 = os.length
      · rw [ifT (by omega), show k0 + j = k0 + os.length - 1 by omega, hl (by omega), show k0 + os.length - 1 + 1 = k0 + os.length by omega]
      · rw [hmo.2.1 _ (by omega) (by rw [ifF (by omega)]; omega), a3, ifT (by omega), ifT (by omega)]
  · have ej : j = os.length := by omega
    subst ej
    rw [show (os ++ [o]).getD os.length 0 = o from by rw [show os.length = os.length + 0 from rfl, getD_app_r]; rfl, ifF (by omega)]
    refine ⟨⟨P1, fun o ho => ?_, ?_⟩, h61⟩
    · have := hP1 o ho
      have := F1.1
      refine ⟨⟨by omega, by omega⟩, by omega, ?_, by omega⟩
      rcases harr with q | q
      · intro z
        rw [q] at z
        have := (hkk o (Or.inr (Or.inr z)) (by omega)).2.2
        omega
      · omega
    · exact hR.mv hnf F1.lt (fun o z => ⟨fun hp => by have := hP1 o hp; have := (hkk o z.2 z.1).2.2; omega, (hkk o z.2 z.1).2.1⟩) (fun o ho => (hP1 o ho).2) (fun _ z => z) hw1 hz1 h421 ha hb
theorem mods_loop (Pb : Pe C Mb σb ib depb cb' sb' nb') (hcl : cl C ≤ 1280) :
    ∀ (g : Nat) (M : CM) (σ : TS) (i f f' : Nat) (os : List Nat), ct C - i < g → g < f → g + 1 < f' → Es Mb σb M σ → Pe C M σ i dep c s n → 80 ≤ c → 8000 ≤ s → 20 ≤ n → (mn Mb ≤ el ∧ el < mn M) → mk M el = 11 → mR M 2006 el = le → el ≠ le → LsB Mb M le os → os.length ≤ i → tI σ 65 = nI (k0 + os.length) → 1 ≤ k0 → k0 + os.length + (ct C - i) ≤ cX C → MdsR C Mb le el M σ k0 os →
    (∃ M' σ' i' os', KL_X2_mods_10 f el M = some (.inl (), M') ∧ L_modsOf_26 f' (if os.length = 0 then 0 else nI k0) (if os.length = 0 then 0 else nI (k0 + os.length - 1)) σ = some (nI k0, σ') ∧ Pe C M' σ' i' dep c s n ∧ i < i' ∧ Es Mb σb M' σ' ∧ LsB Mb M' le os' ∧ os'.length ≠ 0 ∧ 3 * os'.length + i ≤ 3 * os.length + i' + 1 ∧ tI σ' 65 = nI (k0 + os'.length) ∧ MdsR C Mb le el M' σ' k0 os' ∧ Fz (fun o => o = 90 ∨ o = le ∨ o = mR M 4201 le) M M' ∧ (∀ j, j < k0 → (∀ f, f = 59 ∨ f = 60 ∨ f = 61 ∨ f = 62 → tA σ' f j = tA σ f j) ∧ ∀ f, f = 63 ∨ f = 64 → tB σ' f j = tB σ f j)) ∨
    (∃ w M' y σ', KL_X2_mods_10 f el M = some (.inr (.inr w), M') ∧ L_modsOf_26 f' (if os.length = 0 then 0 else nI k0) (if os.length = 0 then 0 else nI (k0 + os.length - 1)) σ = some (y, σ') ∧ FB C Mb σb M' w σ') := by
  have h167 := Pb.n167
  intro g
  induction g with
  | zero => intro M σ i f f' os hg; exact absurd hg (Nat.not_lt_zero _)
  | succ g ih =>
    intro M σ i f f' os hg hf hf' E P hc hs hn hel hk11 hle2 hne hL hoi h65 hk0 hkb hM
    obtain ⟨f, rfl⟩ : ∃ g, f = g + 1 := ⟨f - 1, by omega⟩
    obtain ⟨f', rfl⟩ : ∃ g, f' = g + 1 + 1 := ⟨f' - 2, by omega⟩
    have hit := P.it
    have t1280 := P.t1280
    have hcx := cX_le C
    have hcap := P.2.2.2.1
    have h67 := P.n167
    have hlb := hL.2.1
    have hal : mR M 4201 le ≠ 90 := fun z => by
      have := hL.2.2.2 (by rw [z]; decide)
      omega
    have hka : ∀ o, o = 90 ∨ o = le ∨ o = mR M 4201 le → o < 1000000 → mk M o ≠ 23 ∧ o < mn M := fun o z hlt => by
      rcases z with rfl | rfl | rfl
      · exact ⟨by rw [P.en.1]; decide, by omega⟩
      · exact ⟨by rw [hL.1.1]; decide, hlb.2⟩
      · rcases hL.1.2.2.2.2 with ⟨q, _⟩ | ⟨q0, q, _⟩
        · rw [q] at hlt; omega
        · exact ⟨by rw [q]; decide, q0.1⟩
    have hin : inb (nI (k0 + os.length)) 2500 := inb_nI' (by omega) (by decide)
    have hix : ix (nI (k0 + os.length)) = k0 + os.length := ix_nI (by omega)
    -- the twin begins
    obtain ⟨σa, hσa⟩ : ∃ σa, σa = tsA (tsI σ 65 (nI (k0 + os.length + 1))) 61 (k0 + os.length) 0 := ⟨_, rfl⟩
    have fa : Ft [65, 61] σ σa := by rw [hσa]; exact ((Ft.rf _ _).p_tsI rfl).p_tsA rfl
    have ma : Mo (k0 + os.length) (if os.length = 0 then k0 + os.length else k0 + os.length - 1) σ σa := by rw [hσa]; exact Mo.sI.tr Mo.sA
    have hT : ∀ x y : Int32, L_modsOf_26 (f' + 1 + 1) x y σ = ob (F_isWord (-12) σa) fun r21 s20 => nm (tsA s20 62 (k0 + os.length) (nZ r21)) fun s25 => if tA s25 62 (k0 + os.length) = 0 then ob (F_path s25) fun r29 s28 => nm (tsA s28 59 (k0 + os.length) r29) fun s33 => ob (F_pass 61 s33) fun _ s34 => ob (F_expression s34) fun r39 s38 => nm (tsA s38 60 (k0 + os.length) r39) fun s43 => J_modsOf_146_26 (L_modsOf_26 (f' + 1)) x y (nI (k0 + os.length)) s43 else ob (F_next s25) fun _ s65 => ob (F_passName s65) fun r70 s69 => nm (tsB s69 63 (k0 + os.length) r70) fun s74 => ob (F_pass 61 s74) fun _ s75 => ob (F_passName s75) fun r80 s79 => nm (tsB s79 64 (k0 + os.length) r80) fun s84 => J_modsOf_146_26 (L_modsOf_26 (f' + 1)) x y (nI (k0 + os.length)) s84 := by
      intro x y
      rw [L_modsOf_26, t_isBad0 P.g0, ob_some, ifT (rfl : (0 : Int32) = 0), nm_eq, h65, ifF (show ¬ (2499 : Int32) ≤ nI (k0 + os.length) from by rw [show (2499 : Int32) = nI 2499 from rfl, bI_le (by decide) (by omega)]; omega), nm_eq, nI_addL]
      unfold J_modsOf_58_26
      simp only [ifT hin, hix]
      rw [hσa]
      rfl
    have Pa : Pe C M σa i dep c s n := P.tx fa (by decide)
    have Ea : Es Mb σb M σa := E.tx fa (by decide)
    have h61a : tA σa 61 (k0 + os.length) = 0 := by rw [hσa, tA_tsA, ifT ⟨rfl, rfl⟩]
    have h65a : tI σa 65 = nI (k0 + os.length + 1) := by rw [hσa]; rfl
    -- the component begins
    obtain ⟨j1, j2, j3, j4, j5, j6, j7, j8, j9⟩ := moM_ok M (by omega)
    have P1 := Pa.al j1 (c' := c - 2) (s' := s - 7) (by omega) (by omega)
    have E1 : Es M σa (moM M) σa := Es.al j1 P.n167
    have hv1 : mn M < mn (moM M) := by omega
    -- how a round ends: the Mod is whole at (M5, σ5)
    have fin : ∀ (M5 : CM) (σ5 : TS) (i5 : Nat) (P1 : Nat → Prop), Pe C M5 σ5 i5 dep (c + 8) (s + 2041) n → i + 2 ≤ i5 → Es M σa M5 σ5 → Mo (k0 + os.length) (if os.length = 0 then k0 + os.length else k0 + os.length - 1) σa σ5 → tA σ5 61 (k0 + os.length) = 0 → tI σ5 65 = nI (k0 + os.length + 1) → mn M < mn M5 → mk M5 (mn M) = 12 → (∀ o, P1 o → mn M ≤ o ∧ o < mn M5) → MdR C P1 M5 σ5 (mn M) (k0 + os.length) →
        (∃ M' σ' i' os', (if mk M5 el = 11 then if mk M5 (mR M5 2006 el) = 22 then ob (K_J2_add (mR M5 2006 el) (mn M) M5) fun _ M74 => ob (K_X2_take 44 M74) fun r79 M78 => if r79 = 0 then some (.inl (), M78) else KL_X2_mods_10 f el M78 else none else none) = some ((.inl () : Unit ⊕ (Unit ⊕ Nat)), M') ∧ J_modsOf_146_26 (L_modsOf_26 (f' + 1)) (if os.length = 0 then 0 else nI k0) (if os.length = 0 then 0 else nI (k0 + os.length - 1)) (nI (k0 + os.length)) σ5 = some (nI k0, σ') ∧ Pe C M' σ' i' dep c s n ∧ i < i' ∧ Es Mb σb M' σ' ∧ LsB Mb M' le os' ∧ os'.length ≠ 0 ∧ 3 * os'.length + i ≤ 3 * os.length + i' + 1 ∧ tI σ' 65 = nI (k0 + os'.length) ∧ MdsR C Mb le el M' σ' k0 os' ∧ Fz (fun o => o = 90 ∨ o = le ∨ o = mR M 4201 le) M M' ∧ (∀ j, j < k0 → (∀ f, f = 59 ∨ f = 60 ∨ f = 61 ∨ f = 62 → tA σ' f j = tA σ f j) ∧ ∀ f, f = 63 ∨ f = 64 → tB σ' f j = tB σ f j)) ∨
        (∃ w M' y σ', (if mk M5 el = 11 then if mk M5 (mR M5 2006 el) = 22 then ob (K_J2_add (mR M5 2006 el) (mn M) M5) fun _ M74 => ob (K_X2_take 44 M74) fun r79 M78 => if r79 = 0 then some (.inl (), M78) else KL_X2_mods_10 f el M78 else none else none) = some ((.inr (.inr w) : Unit ⊕ (Unit ⊕ Nat)), M') ∧ J_modsOf_146_26 (L_modsOf_26 (f' + 1)) (if os.length = 0 then 0 else nI k0) (if os.length = 0 then 0 else nI (k0 + os.length - 1)) (nI (k0 + os.length)) σ5 = some (y, σ') ∧ FB C Mb σb M' w σ') := by
      intro M5 σ5 i5 P1 P5 hi5 E5 m5 h61 h655 hv5 hk5 hP1 hR
      have n5 := E5.1.1
      have sel : So M M5 el := E5.1.so hel.2 (by omega)
      have sle : So M M5 le := E5.1.so hlb.2 (by omega)
      have E05 := Ea.tr E5
      have hL5 : LsB Mb M5 le os := hL.kp E5.1 (by omega) hal
      obtain ⟨M6, c1, c2, P6, E6, F6, c6, c7⟩ := z_add2 Pb E05 P5 hL5 (p := mn M) (Or.inl ⟨hv5, by rw [hk5]; decide, by rw [hk5]; decide⟩) (by omega) (by omega) (by omega)
      have n56 := F6.1
      obtain ⟨σ6, l1, P7, E7, l2, l3, l4, l5⟩ := mo_lnk (f := f' + 1) (m := os.length) P6 E6 hk0 (by omega)
      have hl6 := c2.2.1
      have harr6 : mR M6 4201 le = mR M 4201 le ∨ mn M5 ≤ mR M6 4201 le := by
        rcases c7 with q | q
        · left; rw [q, sle.r]
        · right; rw [q]; exact Nat.le_refl _
      have F56 : Fz (fun o => o = 90 ∨ o = le ∨ o = mR M 4201 le) M5 M6 := F6.mono (fun o _ z => by rw [sle.r] at z; exact Or.inr z)
      have F06 : Fz (fun o => o = 90 ∨ o = le ∨ o = mR M 4201 le) M M6 := (E5.1.mono (fun o _ z => Or.inl z)).tr F56
      have wcs : ∀ {M5 : CM} {σ5 : TS}, Es Mb σb M5 σ5 → ∀ w, wc M5 w = wc Mb w := fun E5 w => Pb.wcs E5.1 (fun o z => by rw [z]; exact Pb.en.1) w
      have stp : ∀ (M8 : CM) (σ8 : TS), Es M6 σ6 M8 σ8 → Es Mb σb M8 σ8 → Mo (k0 + os.length) (if os.length = 0 then k0 + os.length else k0 + os.length - 1) σ6 σ8 → tA σ8 61 (k0 + os.length) = tA σ6 61 (k0 + os.length) → (os.length ≠ 0 → tA σ8 61 (k0 + os.length - 1) = tA σ6 61 (k0 + os.length - 1)) → (∀ f, f = 59 ∨ f = 60 ∨ f = 62 → tA σ8 f (k0 + os.length) = tA σ6 f (k0 + os.length)) → (∀ f, f = 63 ∨ f = 64 → tB σ8 f (k0 + os.length) = tB σ6 f (k0 + os.length)) → MdsR C Mb le el M8 σ8 k0 (os ++ [mn M]) ∧ Fz (fun o => o = 90 ∨ o = le ∨ o = mR M 4201 le) M M8 := by
        intro M8 σ8 E8 E08 m8 g1 g2 g3 g4
        have sl8 : So M6 M8 le := E8.1.so hl6.2 (by omega)
        have F58 := F56.tr (E8.1.mono (fun o _ z => Or.inl z))
        have F08 := F06.tr (E8.1.mono (fun o _ z => Or.inl z))
        have z58 : Tz σ5 σ8 := (Tz.tx l4 (by decide)).tr E8.2.2.2.1
        have z08 : Tz σ σ8 := (Tz.tx fa (by decide)).tr (E5.2.2.2.1.tr z58)
        have f42 : ∀ j, tA σ8 42 j = tA σ5 42 j := fun j => by rw [(E8.2.2.2.2 42 rfl).2.2.1, (l4 42 rfl).2.2.1]
        refine ⟨hM.snoc (M1 := M5) (σ1 := σ5) (P1 := P1) P.nf12 (by have := E.1.1; omega) ⟨hlb.2, hlb.1⟩ hel.2 F08 F58 (by omega) n5 (fun o z hlt => ?_) (by rw [sl8.r]; exact harr6) (fun w => by rw [wcs E08, wcs E]) (fun w => by rw [wcs E08, wcs E05]) z08 z58 (fun j => by rw [f42, (E5.2.2.2.2 42 rfl).2.2.1, (fa 42 rfl).2.2.1]) f42 (((ma.tr m5).tr l2).tr m8) (fun z => by rw [g2 z]; exact l3 z) (by rw [g1, l5]; exact h61) (fun f hf => by rw [g3 f hf]; exact (l4 f (by rcases hf with rfl | rfl | rfl <;> rfl)).2.2.1 _) (fun f hf => by rw [g4 f hf]; exact (l4 f (by rcases hf with rfl | rfl <;> rfl)).2.2.2 _) hP1 hR, F08⟩
        have h7 := P5.2.2.2.1
        obtain ⟨q1, q2⟩ := hka o z (by omega)
        exact ⟨q1, by rw [E5.1.k q2]; exact q1, q2⟩
      have low : ∀ (σ8 : TS), Mo (k0 + os.length) (if os.length = 0 then k0 + os.length else k0 + os.length - 1) σ6 σ8 → ∀ j, j < k0 → (∀ f, f = 59 ∨ f = 60 ∨ f = 61 ∨ f = 62 → tA σ8 f j = tA σ f j) ∧ ∀ f, f = 63 ∨ f = 64 → tB σ8 f j = tB σ f j := by
        intro σ8 m8 j hj
        have m := ((ma.tr m5).tr l2).tr m8
        refine ⟨fun f hf => ?_, fun f hf => m.2.2 f hf j (by omega)⟩
        rcases hf with rfl | rfl | rfl | rfl
        · exact m.1 59 (by decide) j (by omega)
        · exact m.1 60 (by decide) j (by omega)
        · exact m.2.1 j (by omega) (by by_cases h : os.length = 0; rw [ifT h]; omega; rw [ifF h]; omega)
        · exact m.1 62 (by decide) j (by omega)
      have h656 : tI σ6 65 = nI (k0 + os.length + 1) := by rw [(l4 65 rfl).1]; exact h655
      have elen : (os ++ [mn M]).length = os.length + 1 := by simp
      rw [ifT (show mk M5 el = 11 from by rw [sel.k]; exact hk11), sel.r, hle2, ifT hL5.1.1, c1, ob_some, l1]
      rcases z_take P7 (x := 44) (by decide) with ⟨σ8, u1, u2, u3, P8, E8, u6⟩ | ⟨u1, u2⟩
      · rw [u1, ob_some, ifF (show ¬ (1 : Int32) = 0 from by decide), u2, ob_some, ifF (show ¬ (1 : Int32) = 0 from by decide), u3, ob_some]
        have fr := fS_F_next _ _ _ u3
        have E08 := E7.tr E8
        obtain ⟨st, F08⟩ := stp (msI M6 405 90 (nI (i5 + 1))) σ8 E8 E08 (Mo.ft fr (by decide)) ((fr 61 rfl).2.2.1 _) (fun _ => (fr 61 rfl).2.2.1 _) (fun f hf => (fr f (by rcases hf with rfl | rfl | rfl <;> rfl)).2.2.1 _) (fun f hf => (fr f (by rcases hf with rfl | rfl <;> rfl)).2.2.2 _)
        have sel8 : So M5 (msI M6 405 90 (nI (i5 + 1))) el := (F56.tr (E8.1.mono (fun o _ z => Or.inl z))).so (by omega) (fun z => by
          rcases z with z | z | z
          · omega
          · exact hne z
          · rcases hL.1.2.2.2.2 with ⟨q, _⟩ | ⟨_, q, _⟩
            · rw [q] at z; omega
            · rw [← z, hk11] at q; exact absurd q (by decide))
        have sl8 : So M6 (msI M6 405 90 (nI (i5 + 1))) le := E8.1.so hl6.2 (by omega)
        have hal6 : mR M6 4201 le ≠ 90 := fun z => by
          have := c2.2.2.2 (by rw [z]; decide)
          omega
        rcases ih _ σ8 (i5 + 1) f (f' + 1) (os ++ [mn M]) (by omega) (by omega) (by omega) E08 (P8.wk (c' := c) (s' := s) (n' := n) (by omega) (by omega) (by omega)) hc hs hn ⟨hel.1, by show el < mn M6; omega⟩ (by rw [sel8.k, sel.k]; exact hk11) (by rw [sel8.r, sel.r]; exact hle2) hne (c2.kp E8.1 (by omega) hal6) (by rw [elen]; omega) (by rw [elen, (fr 65 rfl).1]; exact h656) hk0 (by rw [elen]; omega) st with ⟨M9, σ9, i9, os9, r1, r2, r3, r4, r5, r6, r7, r8, r9, r10, r11, r12⟩ | ⟨w', M9, y, σ9, r1, r2, r3⟩
        · rw [elen] at r2 r8
          refine Or.inl ⟨M9, σ9, i9, os9, r1, r2, r3, by omega, r5, r6, r7, by omega, r9, r10, F08.tr2 r11 (fun o ho z => ?_), fun j hj => ?_⟩
          · rcases z with z | z | z
            · exact Or.inl z
            · exact Or.inr (Or.inl z)
            · rw [sl8.r] at z
              rcases harr6 with q | q
              · rw [q] at z; exact Or.inr (Or.inr z)
              · omega
          · obtain ⟨q1, q2⟩ := r12 j (by omega)
            obtain ⟨q3, q4⟩ := low σ8 (Mo.ft fr (by decide)) j hj
            exact ⟨fun f hf => (q1 f hf).trans (q3 f hf), fun f hf => (q2 f hf).trans (q4 f hf)⟩
        · rw [elen] at r2
          exact Or.inr ⟨w', M9, y, σ9, r1, r2, r3⟩
      · rw [u1, ob_some, ifT (rfl : (0 : Int32) = 0), u2, ob_some, ifT (rfl : (0 : Int32) = 0)]
        obtain ⟨st, F08⟩ := stp M6 σ6 (Es.rf _ _) E7 Mo.rf rfl (fun _ => rfl) (fun _ _ => rfl) (fun _ _ => rfl)
        exact Or.inl ⟨M6, σ6, i5, os ++ [mn M], rfl, rfl, P7.wk (by omega) (by omega) (by omega), by omega, E7, c2, by rw [elen]; omega, by rw [elen]; omega, by rw [elen]; exact h656, st, F08, low σ6 Mo.rf⟩
    rw [hT, KL_X2_mods_10, mo_al M (fun v6 M9 => ob (K_X2_takeKey 11 M9) fun r14 M13 => if r14 = 0 then ob (K_X2_takeKey 37 M13) fun r18 M17 => if mk M17 v6 = 12 then nm (msI M17 2201 v6 r18) fun M22 => if mk M22 v6 = 12 then if mI M22 2201 v6 = 0 then if mk M22 v6 = 12 then obS (K_X2_name M22) (fun w90 M86 => some (.inr (.inr w90), M86)) fun r87 M86 => ob (K_J16_valueOf r87 M86) fun r92 M91 => if mk M91 (mR M22 2200 v6) = 22 then ob (K_J2_add (mR M22 2200 v6) r92 M91) fun _ M96 => obS (KL_X2_mods_91 FU el v6 M96) (fun r104 M101 => some (.inr r104, M101)) fun _ M101 => KJ_X2_mods_142_10 (KL_X2_mods_10 f) el v6 M101 else none else none else obS (KL_X2_mods_91 FU el v6 M22) (fun r84 M58 => some (.inr r84, M58)) fun _ M58 => KJ_X2_mods_142_10 (KL_X2_mods_10 f) el v6 M58 else none else none else if mk M13 v6 = 12 then obS (K_X2_name M13) (fun w111 M107 => some (.inr (.inr w111), M107)) fun r108 M107 => ob (K_J16_valueOf r108 M107) fun r113 M112 => if mk M112 (mR M13 2200 v6) = 22 then ob (K_J2_add (mR M13 2200 v6) r113 M112) fun _ M117 => obS (K_X2_sign 61 M117) (fun w125 M121 => some (.inr (.inr w125), M121)) fun _ M121 => obS (K_X2_name M121) (fun w130 M126 => some (.inr (.inr w130), M126)) fun r127 M126 => if mk M126 v6 = 12 then nm (msI M126 2203 v6 r127) fun M132 => if mk M132 el = 11 then if mk M132 (mR M132 2006 el) = 22 then ob (K_J2_add (mR M132 2006 el) v6 M132) fun _ M135 => ob (K_X2_take 44 M135) fun r140 M139 => if r140 = 0 then some (.inl (), M139) else KL_X2_mods_10 f el M139 else none else none else none else none else none) ⟨by omega, by omega⟩ h67]
    have hin2 : inb (if os.length = 0 then 0 else nI (k0 + os.length - 1)) 2500 := by
      by_cases h : os.length = 0
      · rw [ifT h]; decide
      · rw [ifF h]; exact inb_nI' (by omega) (by decide)
    have hl90 : mn M + 1 ≠ 90 := by omega
    rcases y_key P1.px (j := 11) (x := 11) (c := -12) rfl (by decide) (by decide) with ⟨q1, q2, hi, q4, q5⟩ | ⟨q1, q2, q3⟩
    · -- redeclare
      have htk : K_X2_takeKey 11 (moM M) = some (1, msI (moM M) 405 90 (nI (i + 1))) := by
        unfold K_X2_takeKey
        rw [q1, ob_some, ifF (show ¬ (1 : Int32) = 0 from by decide), nm_eq, P1.i5, nI_addL]
      obtain ⟨σb', hσb⟩ : ∃ σb', σb' = tsA σa 62 (k0 + os.length) (nZ 1) := ⟨_, rfl⟩
      have fb0 : Ft [62] σa σb' := by rw [hσb]; exact (Ft.rf _ _).p_tsA rfl
      have mb0 : Mo (k0 + os.length) (if os.length = 0 then k0 + os.length else k0 + os.length - 1) σa σb' := by rw [hσb]; exact Mo.sA
      have h62 : tA σb' 62 (k0 + os.length) = 1 := by rw [hσb, tA_tsA, ifT ⟨rfl, rfl⟩]; rfl
      have Pab : Pe C M σb' i dep c s n := Pa.tx fb0 (by decide)
      have Eab : Es Mb σb M σb' := Ea.tx fb0 (by decide)
      have P1b : Pe C (moM M) σb' i dep (c - 2) (s - 7) n := P1.tx fb0 (by decide)
      have E1b : Es M σb' (moM M) σb' := Es.al j1 h67
      have wcs : ∀ {M5 : CM} {σ5 : TS}, Es M σb' M5 σ5 → ∀ w, wc M5 w = wc M w := fun E5 w => Pab.wcs E5.1 (fun o z => by rw [z]; exact Pab.en.1) w
      rw [htk, ob_some, ifF (show ¬ (1 : Int32) = 0 from by decide), ifT (show mk (msI (moM M) 405 90 (nI (i + 1))) (mn M) = 12 from j4), show mR (msI (moM M) 405 90 (nI (i + 1))) 2200 (mn M) = mn M + 1 from j5, q2, ob_some, nm_eq, ← hσb, h62, ifF (show ¬ (1 : Int32) = 0 from by decide)]
      obtain ⟨σ2, n2, P2, E2⟩ := z_step P1b hi
      rw [n2, ob_some]
      have fr2 := fS_F_next _ _ _ n2
      have E02 := E1b.tr E2
      rcases z_name P2 (by omega) (by omega) with ⟨x, y, σ3, a1, a2, P3, E3, hi3, ⟨w, hx, hw1, hw2, hy⟩, n3⟩ | ⟨w, M3, y, σ3, a1, a2, fb⟩
      · have fr3 := fS_F_next _ _ _ n3
        obtain ⟨σ4, hσ4⟩ : ∃ σ4, σ4 = tsB σ3 63 (k0 + os.length) y := ⟨_, rfl⟩
        have f4 : Ft [63] σ3 σ4 := by rw [hσ4]; exact (Ft.rf _ _).p_tsB rfl
        have m4 : Mo (k0 + os.length) (if os.length = 0 then k0 + os.length else k0 + os.length - 1) σ3 σ4 := by rw [hσ4]; exact Mo.sB
        have P4 := P3.tx f4 (by decide)
        have E04 := (E02.tr E3).tx f4 (by decide)
        rw [a1, obS_inl, a2, ob_some, nm_eq, ← hσ4, hx]
        obtain ⟨b, M4, b1, b2, b3, b4, b5, b6⟩ := z_box P4 ⟨hw1, hw2⟩ (by omega) (by omega)
        have P4' := P4.al b4 (c' := c - 2 + 16 + 16 - 1) (s' := s - 7 + 2048 + 2048 - 1) (by omega) (by omega)
        have E4 := E04.tr (Es.al (σ := σ4) b4 P4.n167)
        have n4 := b4.1
        have nm3 : mn (msI (msI (moM M) 405 90 (nI (i + 1))) 405 90 (nI (i + 1 + 1))) = mn M + 2 := j2
        have F14 : Fz (fun o => o = 90) (moM M) M4 := (((Fz.rf (X := fun o => o = 90)).msI (fun _ => rfl)).msI (fun _ => rfl)).tr2 b4 (fun _ _ z => absurd z (fun q => q))
        have hL4 : LsB M M4 (mn M + 1) [] := j8.kp F14 hl90 (by rw [j9]; decide)
        have sl4 : So (moM M) M4 (mn M + 1) := F14.so (by omega) hl90
        have sv4 : So (moM M) M4 (mn M) := F14.so (by omega) (by omega)
        obtain ⟨M5, c1, c2, P5, E5, F5, c6, c7⟩ := z_add2 Pab E4 P4' hL4 b3 (by simp) (by omega) (by omega)
        have n5 := F5.1
        have sv5 : So M4 M5 (mn M) := F5.so (by omega) (by rw [sl4.r, j9]; omega)
        rw [b1, ob_some, ifT hL4.1.1, c1, ob_some]
        rcases z_pass P5 (by omega) (by omega) (x := 61) (by decide) with ⟨_, _, σ6, v1, v2, P6, E6, hi6, _, n6⟩ | ⟨w', M6, y', σ6, v1, v2, fb⟩
        · have fr6 := fS_F_next _ _ _ n6
          rw [v1, obS_inl, v2, ob_some]
          rcases z_name P6 (by omega) (by omega) with ⟨x', y', σ7, d1, d2, P7, E7, hi7, ⟨w', hx', hw1', hw2', hy'⟩, n7⟩ | ⟨w', M7, y', σ7, d1, d2, fb⟩
          · have fr7 := fS_F_next _ _ _ n7
            obtain ⟨σ8, hσ8⟩ : ∃ σ8, σ8 = tsB σ7 64 (k0 + os.length) y' := ⟨_, rfl⟩
            have f8 : Ft [64] σ7 σ8 := by rw [hσ8]; exact (Ft.rf _ _).p_tsB rfl
            have m8 : Mo (k0 + os.length) (if os.length = 0 then k0 + os.length else k0 + os.length - 1) σ7 σ8 := by rw [hσ8]; exact Mo.sB
            have P8 := P7.tx f8 (by decide)
            have E8 := ((E5.tr E6).tr E7).tx f8 (by decide)
            have sv7 : So M5 (msI (msI M5 405 90 (nI (i + 1 + 1 + 1))) 405 90 (nI (i + 1 + 1 + 1 + 1))) (mn M) := (E6.tr E7).1.so (by omega) (by omega)
            have hk7 : mk (msI (msI M5 405 90 (nI (i + 1 + 1 + 1))) 405 90 (nI (i + 1 + 1 + 1 + 1))) (mn M) = 12 := by rw [sv7.k, sv5.k, sv4.k]; exact j4
            rw [d1, obS_inl, d2, ob_some, nm_eq, ← hσ8, ifT hk7, nm_eq]
            obtain ⟨M9, hM9⟩ : ∃ M9, M9 = msI (msI (msI M5 405 90 (nI (i + 1 + 1 + 1))) 405 90 (nI (i + 1 + 1 + 1 + 1))) 2203 (mn M) x' := ⟨_, rfl⟩
            have F9 : Fz (fun o => o = mn M) (msI (msI M5 405 90 (nI (i + 1 + 1 + 1))) 405 90 (nI (i + 1 + 1 + 1 + 1))) M9 := by rw [hM9]; exact Fz.rf.msI (fun _ => rfl)
            have n9 : mn M9 = mn M5 := by rw [hM9]; rfl
            have s9 : ms M9 = ms M5 := by rw [hM9]; rfl
            obtain ⟨P9, E9⟩ := Pab.re E8 P8 F9 (fun o z => by omega) (c' := c + 8) (s' := s + 2041) (by rw [n9]; show mn M5 + _ ≤ mn M5 + _; omega) (by rw [s9]; show ms M5 + _ ≤ ms M5 + _; omega)
            rw [← hM9]
            have r9 : ∀ g, mR M9 g (mn M) = mR (moM M) g (mn M) := fun g => by rw [hM9]; show mR (msI (msI M5 405 90 (nI (i + 1 + 1 + 1))) 405 90 (nI (i + 1 + 1 + 1 + 1))) g (mn M) = _; rw [sv7.r, sv5.r, sv4.r]
            have i9 : ∀ g, g ≠ 2203 → mI M9 g (mn M) = mI (moM M) g (mn M) := fun g hg => by rw [hM9, mI_msI, ifF (fun z => hg z.1), sv7.i, sv5.i, sv4.i]
            have hl5 := c2.2.1
            have F59 : Fz (fun o => o = 90 ∨ o = mn M) M5 M9 := ((E6.tr E7).1.mono (fun o _ z => Or.inl z)).tr2 F9 (fun o _ z => Or.inr z)
            have hL9 : LsB M M9 (mn M + 1) ([] ++ [b]) := c2.kp F59 (by omega) (by
              have h1 := c2.2.2.2
              intro z
              by_cases e : mR M5 4201 (mn M + 1) = 4398046511104
              · rw [e] at z; omega
              · have := h1 e
                rcases z with z | z
                · omega
                · rcases c2.1.2.2.2.2 with ⟨q, _⟩ | ⟨_, q, _⟩
                  · exact e q
                  · rw [z, sv5.k, sv4.k, j4] at q; exact absurd q (by decide))
            have E9a : Es M σa M9 σ8 := ((Es.rf M σa).tx fb0 (by decide)).tr E9
            have mm : Mo (k0 + os.length) (if os.length = 0 then k0 + os.length else k0 + os.length - 1) σa σ8 := ((((((mb0.tr (Mo.ft fr2 (by decide))).tr (Mo.ft fr3 (by decide))).tr m4).tr (Mo.ft fr6 (by decide))).tr (Mo.ft fr7 (by decide))).tr m8)
            have t1 : ∀ (f : Nat), f = 61 ∨ f = 62 → tA σ8 f (k0 + os.length) = tA σb' f (k0 + os.length) := fun f hf => by
              rw [(f8 f (by rcases hf with rfl | rfl <;> rfl)).2.2.1, (fr7 f (by rcases hf with rfl | rfl <;> rfl)).2.2.1, (fr6 f (by rcases hf with rfl | rfl <;> rfl)).2.2.1, (f4 f (by rcases hf with rfl | rfl <;> rfl)).2.2.1, (fr3 f (by rcases hf with rfl | rfl <;> rfl)).2.2.1, (fr2 f (by rcases hf with rfl | rfl <;> rfl)).2.2.1]
            have t2 : tI σ8 65 = tI σb' 65 := by
              rw [(f8 65 rfl).1, (fr7 65 rfl).1, (fr6 65 rfl).1, (f4 65 rfl).1, (fr3 65 rfl).1, (fr2 65 rfl).1]
            have t3 : tB σ8 63 (k0 + os.length) = y := by
              rw [(f8 63 rfl).2.2.2, (fr7 63 rfl).2.2.2, (fr6 63 rfl).2.2.2, hσ4, tB_tsB, ifT ⟨rfl, rfl⟩]
            have t4 : tB σ8 64 (k0 + os.length) = y' := by rw [hσ8, tB_tsB, ifT ⟨rfl, rfl⟩]
            refine fin M9 σ8 _ (fun o => mn M ≤ o ∧ o < mn M9) (P9.wk (Nat.le_refl _) (Nat.le_refl _) (by omega)) (by omega) E9a mm (by rw [t1 61 (by decide), (fb0 61 rfl).2.2.1]; exact h61a) (by rw [t2, (fb0 65 rfl).1]; exact h65a) (by omega) (by rw [F9.k (by show mn M < mn M5; omega)]; exact hk7) (fun o ho => ho) ⟨⟨⟨Nat.le_refl _, by omega⟩, by rw [F9.k (by show mn M < mn M5; omega)]; exact hk7⟩, Or.inl ⟨by rw [t1 62 (by decide)]; exact h62, by rw [i9 2201 (by decide)]; exact j7, b, w, w', ?_, ?_, ?_, by rw [hM9, mI_msI, ifT ⟨rfl, rfl⟩]; exact hx', ⟨hw1', hw2'⟩, ?_⟩⟩
            · rw [r9, j5]
              refine ⟨hL9.1, ⟨by omega, hL9.2.1.2⟩, fun z => ⟨hL9.2.2.2 z, ?_⟩⟩
              rcases hL9.1.2.2.2.2 with ⟨q, _⟩ | ⟨q, _⟩
              · exact absurd q z
              · exact q.1
            · refine (b2.fz F5.lt (fun o z => ?_)).fz F59 (fun o z => ?_)
              · obtain ⟨hlt, z⟩ := z
                rcases z with rfl | rfl
                · rw [hL4.1.1]; decide
                · rcases hL4.1.2.2.2.2 with ⟨q, _⟩ | ⟨_, q, _⟩
                  · rw [q] at hlt; have := P4'.2.2.2.1; omega
                  · rw [q]; decide
              · rcases z with rfl | rfl
                · rw [P5.en.1]; decide
                · rw [sv5.k, sv4.k, j4]; decide
            · rw [t3, hy, wcs E02, wcs E9]
            · rw [t4, hy', wcs (E5.tr E6), wcs E9]
          · rw [d1, obS_inr, d2, ob_some]
            have fb := ((fb.tr E6).tr E5).tr Eab
            obtain ⟨y2, s2, e2, g2⟩ := (BW.nmB fb.bd rfl fun s hb => bw_J146 hb hin2 : BW C σ7 (nm (tsB σ7 64 (k0 + os.length) y') fun s84 => J_modsOf_146_26 (L_modsOf_26 (f' + 1)) (if os.length = 0 then 0 else nI k0) (if os.length = 0 then 0 else nI (k0 + os.length - 1)) (nI (k0 + os.length)) s84))
            exact Or.inr ⟨w', M7, y2, s2, rfl, e2, fb.br g2⟩
        · rw [v1, obS_inr, v2, ob_some]
          have fb := (fb.tr E5).tr Eab
          obtain ⟨y2, s2, e2, g2⟩ := (BW.bo (bw_passName fb.bd) fun r s hb => BW.nmB hb rfl fun s hb => bw_J146 hb hin2 : BW C σ6 (ob (F_passName σ6) fun r80 s79 => nm (tsB s79 64 (k0 + os.length) r80) fun s84 => J_modsOf_146_26 (L_modsOf_26 (f' + 1)) (if os.length = 0 then 0 else nI k0) (if os.length = 0 then 0 else nI (k0 + os.length - 1)) (nI (k0 + os.length)) s84))
          exact Or.inr ⟨w', M6, y2, s2, rfl, e2, fb.br g2⟩
      · rw [a1, obS_inr, a2, ob_some]
        have fb := (fb.tr E02).tr Eab
        obtain ⟨y2, s2, e2, g2⟩ := (BW.nmB fb.bd rfl fun s hb => BW.bo (bw_pass hb _) fun _ s hb => BW.bo (bw_passName hb) fun r s hb => BW.nmB hb rfl fun s hb => bw_J146 hb hin2 : BW C σ3 (nm (tsB σ3 63 (k0 + os.length) y) fun s74 => ob (F_pass 61 s74) fun _ s75 => ob (F_passName s75) fun r80 s79 => nm (tsB s79 64 (k0 + os.length) r80) fun s84 => J_modsOf_146_26 (L_modsOf_26 (f' + 1)) (if os.length = 0 then 0 else nI k0) (if os.length = 0 then 0 else nI (k0 + os.length - 1)) (nI (k0 + os.length)) s84))
        exact Or.inr ⟨w, M3, y2, s2, rfl, e2, fb.br g2⟩
    · -- a path
      have htk : K_X2_takeKey 11 (moM M) = some (0, moM M) := by
        unfold K_X2_takeKey
        rw [q1, ob_some, ifT (rfl : (0 : Int32) = 0)]
      obtain ⟨σb', hσb⟩ : ∃ σb', σb' = tsA σa 62 (k0 + os.length) (nZ 0) := ⟨_, rfl⟩
      have fb0 : Ft [62] σa σb' := by rw [hσb]; exact (Ft.rf _ _).p_tsA rfl
      have mb0 : Mo (k0 + os.length) (if os.length = 0 then k0 + os.length else k0 + os.length - 1) σa σb' := by rw [hσb]; exact Mo.sA
      have h62 : tA σb' 62 (k0 + os.length) = 0 := by rw [hσb, tA_tsA, ifT ⟨rfl, rfl⟩]; rfl
      have Pab : Pe C M σb' i dep c s n := Pa.tx fb0 (by decide)
      have Eab : Es Mb σb M σb' := Ea.tx fb0 (by decide)
      have P1b : Pe C (moM M) σb' i dep (c - 2) (s - 7) n := P1.tx fb0 (by decide)
      have E1b : Es M σb' (moM M) σb' := Es.al j1 h67
      have wcs : ∀ {M5 : CM} {σ5 : TS}, Es M σb' M5 σ5 → ∀ w, wc M5 w = wc M w := fun E5 w => Pab.wcs E5.1 (fun o z => by rw [z]; exact Pab.en.1) w
      rw [htk, ob_some, ifT (rfl : (0 : Int32) = 0), pk_as (v := mn M) (x1 := el) (fun M101 => KJ_X2_mods_142_10 (KL_X2_mods_10 f) el (mn M) M101) (moM M), q2, ob_some, nm_eq, ← hσb, h62, ifT (rfl : (0 : Int32) = 0)]
      unfold F_path
      rcases path_loop (x1 := el) (v := mn M) (l := mn M + 1) Pab 2001 (moM M) σb' i FU FU [] [] (by omega) (by have := FUb; omega) (by have := FUb; omega) E1b P1b (by omega) (by omega) (by omega) ⟨Nat.le_refl _, hv1⟩ j4 j5 (by omega) j8 ⟨Or.inl ⟨rfl, rfl⟩, fun k hk => absurd hk (Nat.not_lt_zero _), fun k hk => absurd hk (Nat.not_lt_zero _)⟩ (Nat.zero_le _) (fun k hk => absurd hk (Nat.not_lt_zero _)) with ⟨M3, σ3, i3, bs, qs, p1, p2, P3, p4, E3, ⟨p6, p7, p8⟩, L3, A3, p11, F3⟩ | ⟨w, M3, y, σ3, p1, p2, fb⟩
      · have p2 : L_path_4 FU 0 0 σb' = some (.inl (nI (qs.getD 0 0)), σ3) := p2
        have frp : Ft sF_path σb' σ3 := fS_F_path σb' (nI (qs.getD 0 0)) σ3 (by unfold F_path; rw [p2, obS_inl])
        obtain ⟨σ4, hσ4⟩ : ∃ σ4, σ4 = tsA σ3 59 (k0 + os.length) (nI (qs.getD 0 0)) := ⟨_, rfl⟩
        have f4 : Ft [59] σ3 σ4 := by rw [hσ4]; exact (Ft.rf _ _).p_tsA rfl
        have m4 : Mo (k0 + os.length) (if os.length = 0 then k0 + os.length else k0 + os.length - 1) σ3 σ4 := by rw [hσ4]; exact Mo.sA
        have P4 := P3.tx f4 (by decide)
        have E4 := E3.tx f4 (by decide)
        have n3 := F3.1
        rw [p1, obS_inl, p2, obS_inl, ob_some, nm_eq, ← hσ4]
        unfold KJ_X2_mods_142_10
        rcases z_pass P4 (by omega) (by omega) (x := 61) (by decide) with ⟨_, _, σ5, v1, v2, P5, E5, hi5, _, n5⟩ | ⟨w, M5, y, σ5, v1, v2, fb⟩
        · have fr5 := fS_F_next _ _ _ n5
          rw [v1, obS_inl, v2, ob_some]
          rcases z_expr P5 hcl (by omega) (by omega) (by omega) with ⟨a, M6, x, σ6, i6, w1, w2, P6, w4, E6, R6⟩ | ⟨w, M6, y, σ6, w1, w2, fb⟩
          · have fr6 := fS_F_expression _ _ _ w2
            obtain ⟨σ7, hσ7⟩ : ∃ σ7, σ7 = tsA σ6 60 (k0 + os.length) (nI x) := ⟨_, rfl⟩
            have f7 : Ft [60] σ6 σ7 := by rw [hσ7]; exact (Ft.rf _ _).p_tsA rfl
            have m7 : Mo (k0 + os.length) (if os.length = 0 then k0 + os.length else k0 + os.length - 1) σ6 σ7 := by rw [hσ7]; exact Mo.sA
            have P6' := P6.tx f7 (by decide)
            have E46 := E5.tr E6
            have E06 := (E4.tr E46).tx f7 (by decide)
            have n46 := E46.1.1
            have nm5 : mn (msI M3 405 90 (nI (i3 + 1))) = mn M3 := rfl
            have n56 := E6.1.1
            have sv6 : So M3 M6 (mn M) := E46.1.so (by omega) (by omega)
            have sl6 : So M3 M6 (mn M + 1) := E46.1.so (by omega) (by omega)
            have hk6 : mk M6 (mn M) = 12 := by rw [sv6.k]; exact p6
            obtain ⟨M9, hM9⟩ : ∃ M9, M9 = msR M6 2202 (mn M) a := ⟨_, rfl⟩
            have F9 : Fz (fun o => o = mn M) M6 M9 := by rw [hM9]; exact Fz.rf.msR (fun _ => rfl)
            have n9 : mn M9 = mn M6 := by rw [hM9]; rfl
            have s9 : ms M9 = ms M6 := by rw [hM9]; rfl
            obtain ⟨P9, E9⟩ := Pab.re E06 P6' F9 (fun o z => by omega) (c' := c + 8) (s' := s + 2041) (by rw [n9]; omega) (by rw [s9]; omega)
            rw [w1, obS_inl, ifT hk6, nm_eq, ← hM9, w2, ob_some, nm_eq, ← hσ7]
            have i9 : ∀ g, mI M9 g (mn M) = mI M3 g (mn M) := fun g => by rw [hM9, mI_msR, sv6.i]
            have r9 : mR M9 2200 (mn M) = mn M + 1 := by rw [hM9, mR_msR, ifF (by omega), sv6.r]; exact p7
            have hal3 : mR M3 4201 (mn M + 1) ≠ 90 := fun z => by
              by_cases e : mR M3 4201 (mn M + 1) = 4398046511104
              · rw [e] at z; exact absurd z (by decide)
              · have := L3.2.2.2 e; omega
            have F39 : Fz (fun o => o = 90 ∨ o = mn M) M3 M9 := (E46.1.mono (fun o _ z => Or.inl z)).tr2 F9 (fun o _ z => Or.inr z)
            have hL9 : LsB M M9 (mn M + 1) bs := L3.kp F39 (by omega) (by
              intro z
              by_cases e : mR M3 4201 (mn M + 1) = 4398046511104
              · rw [e] at z; omega
              · have := L3.2.2.2 e
                rcases z with z | z
                · omega
                · rcases L3.1.2.2.2.2 with ⟨q, _⟩ | ⟨_, q, _⟩
                  · exact e q
                  · rw [z, p6] at q; exact absurd q (by decide))
            have E9a : Es M σa M9 σ7 := ((Es.rf M σa).tx fb0 (by decide)).tr E9
            have mm : Mo (k0 + os.length) (if os.length = 0 then k0 + os.length else k0 + os.length - 1) σa σ7 := (((((mb0.tr (Mo.ft frp (by decide))).tr m4).tr (Mo.ft fr5 (by decide))).tr (Mo.ft fr6 (by decide))).tr m7)
            have t1 : ∀ (f : Nat), f = 61 ∨ f = 62 → tA σ7 f (k0 + os.length) = tA σb' f (k0 + os.length) := fun f hf => by
              rw [(f7 f (by rcases hf with rfl | rfl <;> rfl)).2.2.1, (fr6 f (by rcases hf with rfl | rfl <;> rfl)).2.2.1, (fr5 f (by rcases hf with rfl | rfl <;> rfl)).2.2.1, (f4 f (by rcases hf with rfl | rfl <;> rfl)).2.2.1, (frp f (by rcases hf with rfl | rfl <;> rfl)).2.2.1]
            have t2 : tI σ7 65 = tI σb' 65 := by
              rw [(f7 65 rfl).1, (fr6 65 rfl).1, (fr5 65 rfl).1, (f4 65 rfl).1, (frp 65 rfl).1]
            have t3 : tA σ7 59 (k0 + os.length) = nI (qs.getD 0 0) := by
              rw [(f7 59 rfl).2.2.1, (fr6 59 rfl).2.2.1, (fr5 59 rfl).2.2.1, hσ4, tA_tsA, ifT ⟨rfl, rfl⟩]
            have t4 : tA σ7 60 (k0 + os.length) = nI x := by rw [hσ7, tA_tsA, ifT ⟨rfl, rfl⟩]
            have z37 : Tz σ3 σ7 := (Tz.tx f4 (by decide)).tr (E46.2.2.2.1.tr (Tz.tx f7 (by decide)))
            have hR9 := (R6.pv P6 (by omega) F9 (by omega) (fun w => by rw [wcs E9, wcs (E4.tr E46)]) (Tz.tx f7 (by decide)) (f7.mono (by decide))).dn (M0 := M) P9 (by omega)
            obtain ⟨d, hR9⟩ := hR9
            have bR := R6.b
            refine fin M9 σ7 _ (fun o => mn M ≤ o ∧ o < mn M9) (P9.wk (Nat.le_refl _) (Nat.le_refl _) (by omega)) (by omega) E9a mm (by rw [t1 61 (by decide), (fb0 61 rfl).2.2.1]; exact h61a) (by rw [t2, (fb0 65 rfl).1]; exact h65a) (by omega) (by rw [F9.k (by omega)]; exact hk6) (fun o ho => ho) ⟨⟨⟨Nat.le_refl _, by omega⟩, by rw [F9.k (by omega)]; exact hk6⟩, Or.inr ⟨by rw [t1 62 (by decide)]; exact h62, by rw [i9, p8]; exact j6, bs, qs, x, d, ?_, ?_, p11, t3, t4, by have := P6.tN9; omega, ?_⟩⟩
            · rw [r9]
              refine ⟨hL9.1, ⟨by omega, hL9.2.1.2⟩, fun z => ⟨hL9.2.2.2 z, ?_⟩⟩
              rcases hL9.1.2.2.2.2 with ⟨q, _⟩ | ⟨q, _⟩
              · exact absurd q z
              · exact q.1
            · rw [i9]
              refine A3.mv F39 (fun o z => ?_) (fun w => by rw [wcs E9, wcs E3]) z37.1.2 (fun j hj => z37.2.2.2 29 (by decide) j hj) (fun j hj => z37.2.2.1 33 (by decide) j hj)
              rcases z with rfl | rfl
              · rw [P3.en.1]; decide
              · rw [p6]; decide
            · rw [show mR M9 2202 (mn M) = a from by rw [hM9, mR_msR, ifT ⟨rfl, rfl⟩]]
              exact hR9
          · rw [w1, obS_inr, w2, ob_some]
            have fb := ((fb.tr E5).tr E4).tr Eab
            obtain ⟨y2, s2, e2, g2⟩ := (BW.nmA fb.bd rfl fun s hb => bw_J146 hb hin2 : BW C σ6 (nm (tsA σ6 60 (k0 + os.length) y) fun s43 => J_modsOf_146_26 (L_modsOf_26 (f' + 1)) (if os.length = 0 then 0 else nI k0) (if os.length = 0 then 0 else nI (k0 + os.length - 1)) (nI (k0 + os.length)) s43))
            exact Or.inr ⟨w, M6, y2, s2, rfl, e2, fb.br g2⟩
        · rw [v1, obS_inr, v2, ob_some]
          have fb := (fb.tr E4).tr Eab
          obtain ⟨y2, s2, e2, g2⟩ := (BW.bo (bw_Fexpression fb.bd) fun r s hb => BW.nmA hb rfl fun s hb => bw_J146 hb hin2 : BW C σ5 (ob (F_expression σ5) fun r39 s38 => nm (tsA s38 60 (k0 + os.length) r39) fun s43 => J_modsOf_146_26 (L_modsOf_26 (f' + 1)) (if os.length = 0 then 0 else nI k0) (if os.length = 0 then 0 else nI (k0 + os.length - 1)) (nI (k0 + os.length)) s43))
          exact Or.inr ⟨w, M5, y2, s2, rfl, e2, fb.br g2⟩
      · have p2 : L_path_4 FU 0 0 σb' = some (y, σ3) := p2
        have fb := fb.tr Eab
        rw [p1, obS_inr, p2]
        have hb0 : ∀ x : Int32, BW C σ3 (nm (tsA σ3 59 (k0 + os.length) x) fun s33 => ob (F_pass 61 s33) fun _ s34 => ob (F_expression s34) fun r39 s38 => nm (tsA s38 60 (k0 + os.length) r39) fun s43 => J_modsOf_146_26 (L_modsOf_26 (f' + 1)) (if os.length = 0 then 0 else nI k0) (if os.length = 0 then 0 else nI (k0 + os.length - 1)) (nI (k0 + os.length)) s43) := fun x => BW.nmA fb.bd rfl fun s hb => BW.bo (bw_pass hb _) fun _ s hb => BW.bo (bw_Fexpression hb) fun r s hb => BW.nmA hb rfl fun s hb => bw_J146 hb hin2
        rcases y with y | y
        · obtain ⟨y2, s2, e2, g2⟩ := hb0 y
          exact Or.inr ⟨w, M3, y2, s2, rfl, e2, fb.br g2⟩
        · obtain ⟨y2, s2, e2, g2⟩ := hb0 y
          exact Or.inr ⟨w, M3, y2, s2, rfl, e2, fb.br g2⟩
end MODL
