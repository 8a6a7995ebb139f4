/-! Layer B: the modifications of an element, whole; what an element keeps -/
set_option maxRecDepth 100000
def tM (σ : TS) : Nat := ix (tI σ 65)
/-- modifications that were there stay -/
def Mz (σ σ' : TS) : Prop := tM σ ≤ tM σ' ∧ ∀ j, j < tM σ → (∀ f, f = 59 ∨ f = 60 ∨ f = 61 ∨ f = 62 → tA σ' f j = tA σ f j) ∧ ∀ f, f = 63 ∨ f = 64 → tB σ' f j = tB σ f j
section MODS2
variable {C : PC} {M M' M0 Mb : CM} {σ σ' σ0 σb s1 : TS} {i dep c s n so ib depb cb' sb' nb' i0 v l p w m Q Q' N k k0 el le e K : Nat} {bs qs bs' os : List Nat} {P P' X : Nat → Prop} {α β : Type}
theorem Mz.rf (σ : TS) : Mz σ σ := ⟨Nat.le_refl _, fun _ _ => ⟨fun _ _ => rfl, fun _ _ => rfl⟩⟩
theorem Mz.tr {σ1 σ2 σ3 : TS} (h : Mz σ1 σ2) (g : Mz σ2 σ3) : Mz σ1 σ3 := ⟨Nat.le_trans h.1 g.1, fun j hj => ⟨fun f hf => ((g.2 j (Nat.lt_of_lt_of_le hj h.1)).1 f hf).trans ((h.2 j hj).1 f hf), fun f hf => ((g.2 j (Nat.lt_of_lt_of_le hj h.1)).2 f hf).trans ((h.2 j hj).2 f hf)⟩⟩
theorem Mz.ft {S : List Nat} (f : Ft S σ σ') (h : [59, 60, 61, 62, 63, 64, 65].all (fun k => !S.contains k) = true) : Mz σ σ' := by
  have hf : ∀ k, k ∈ [59, 60, 61, 62, 63, 64, 65] → S.contains k = false := fun k hk => by
    have := List.all_eq_true.mp h k hk
    simpa using this
  refine ⟨by unfold tM; rw [(f 65 (hf 65 (by decide))).1]; exact Nat.le_refl _, fun j _ => ⟨fun g hg => ?_, fun g hg => ?_⟩⟩
  · exact (f g (hf g (by rcases hg with rfl | rfl | rfl | rfl <;> decide))).2.2.1 j
  · exact (f g (hf g (by rcases hg with rfl | rfl <;> decide))).2.2.2 j
theorem MsR.mv (h : MsR C P M σ l e) (hnf : cnf C ≤ 12) (F : Fz X M M') (hX : ∀ o, X o → ¬ P o ∧ mk M o ≠ 23) (hPl : ∀ o, P o → o < mn M) (hP : ∀ o, P o → P' o) (hw : ∀ w, wc M' w = wc M w) (hz : Tz σ σ') (h42 : ∀ j, tA σ' 42 j = tA σ 42 j) (hm : Mz σ σ') (h55 : tA σ' 55 e = tA σ 55 e) : MsR C P' M' σ' l e := by
  obtain ⟨os, k0, a1, a2, a3, a4⟩ := h
  have so : ∀ o, P o → So M M' o := fun o ho => F.so (hPl o ho) (fun z => (hX o z).1 ho)
  refine ⟨os, k0, a1.mv ⟨F.1, fun o ho => F.k ho⟩ so hP, ⟨a2.1, Nat.le_trans a2.2.1 hm.1, a2.2.2⟩, by rw [h55]; exact a3, fun j hj => ?_⟩
  obtain ⟨b1, b2⟩ := a4 j hj
  obtain ⟨m1, m2⟩ := hm.2 (k0 + j) (by unfold tM; omega)
  exact ⟨b1.mv hnf F hX hPl hP hw hz h42 (fun f hf => m1 f (by rcases hf with rfl | rfl | rfl <;> decide)) m2, by rw [m1 61 (by decide)]; exact b2⟩
theorem ElR.mv {o : Nat} (h : ElR C P M σ o e) (hnf : cnf C ≤ 12) (F : Fz X M M') (hX : ∀ o, X o → ¬ P o ∧ mk M o ≠ 23) (hPl : ∀ o, P o → o < mn M) (hP : ∀ o, P o → P' o) (hw : ∀ w, wc M' w = wc M w) (hz : Tz σ σ') (h42 : ∀ j, tA σ' 42 j = tA σ 42 j) (hm : Mz σ σ') (ha : ∀ f, f = 52 ∨ f = 53 ∨ f = 54 ∨ f = 55 ∨ f = 56 ∨ f = 57 → tA σ' f e = tA σ f e) (hb : ∀ f, f = 50 ∨ f = 51 → tB σ' f e = tB σ f e) : ElR C P' M' σ' o e := by
  obtain ⟨⟨a1, a2, a3⟩, a4, a5⟩ := h
  have so : ∀ o, P o → So M M' o := fun o ho => F.so (hPl o ho) (fun z => (hX o z).1 ho)
  have s := so o a1
  have su := so _ a3
  have kn : mn M ≤ mn M' ∧ ∀ o, o < mn M → mk M' o = mk M o := ⟨F.1, fun o ho => F.k ho⟩
  refine ⟨⟨hP o a1, by rw [s.k]; exact a2, by rw [s.r]; exact hP _ a3⟩, by rw [s.r]; exact a4.mv hnf F hX hPl hP hw hz h42 hm (ha 55 (by decide)), ?_⟩
  rw [s.i, s.i, s.i, s.i, s.i, s.r, s.r, ha 52 (by decide), ha 53 (by decide), ha 56 (by decide), ha 57 (by decide), hb 50 (by decide), hb 51 (by decide)]
  rcases a5 with ⟨b1, b2, ⟨w, b3, b4, b5, b6⟩, b7⟩ | ⟨b1, b2, ⟨w, b3, b4, b5, b6⟩, b7, b8, b9, ⟨b10, b11, vv, b12, b13⟩, b14, b15⟩
  · exact Or.inl ⟨b1, b2, ⟨w, b3, b4, b5, by rw [hw]; exact b6⟩, b7⟩
  · refine Or.inr ⟨b1, b2, ⟨w, b3, b4, b5, by rw [hw]; exact b6⟩, b7, b8, ?_, ⟨by rw [su.k]; exact b10, by rw [su.l]; exact b11, vv, fun k hk => by rw [su.a]; exact b12 k hk, by rw [ha 54 (by decide)]; exact b13⟩, ?_, by unfold ElX; rw [hb 51 (by decide), ha 54 (by decide), ha 52 (by decide)]; exact b15⟩
    · rcases b9 with q | ⟨w, q1, q2, q3, q4⟩
      · exact Or.inl q
      · exact Or.inr ⟨w, q1, q2, q3, by rw [hw]; exact q4⟩
    · rcases b14 with q | ⟨x, d, q1, q2, q3, q4⟩
      · exact Or.inl q
      · exact Or.inr ⟨x, d, q1, q2, q3, AR.mv ⟨kn, so, fun w _ => hw w, hz.2.1, hz.2.2.1, hz.2.2.2, h42⟩ hP hz.1.1 hz.1.2 ⟨Nat.le_refl _, hnf, fun _ _ => rfl⟩ d d 0 _ x (Nat.le_refl _) q4⟩
/-- the modifications that may stand here -/
theorem z_mods (Pb : Pe C Mb σb ib depb cb' sb' nb') (hcl : cl C ≤ 1280) (E : Es Mb σb M σ) (P : Pe C M σ i dep c s n) (hc : 80 ≤ c) (hs : 8000 ≤ s) (hn : 20 ≤ n) (hel : mn Mb ≤ el ∧ el < mn M) (hk : mk M el = 11) (hle : mR M 2006 el = le) (hne : el ≠ le) (hL : LsB Mb M le []) (hK : tI σ 65 = nI K ∧ 1 ≤ K ∧ K + (ct C - i) ≤ cX C) :
    (∃ M' σ' i' os, K_X2_mods el M = some (.inl (), M') ∧ F_modsOf σ = some (if os.length = 0 then 0 else nI K, σ') ∧ Pe C M' σ' i' dep c s n ∧ i ≤ i' ∧ Es Mb σb M' σ' ∧ LsB Mb M' le os ∧ (os.length = 0 ↔ ¬ mA M 91 i = 40) ∧ MdsR C Mb le el M' σ' K os ∧ Fz (fun o => o = 90 ∨ o = le ∨ o = mR M 4201 le) M M' ∧ Mz σ σ' ∧ tI σ' 65 = nI (K + os.length) ∧ 3 * os.length + i ≤ i') ∨
    (∃ w M' y σ', K_X2_mods el M = some (.inr w, M') ∧ F_modsOf σ = some (y, σ') ∧ FB C Mb σb M' w σ') := by
  obtain ⟨g1, g2⟩ := P.px.in1
  have hit := P.it
  have t1280 := P.t1280
  have hcx := cX_le C
  have h67 := P.n167
  have hlb := hL.2.1
  have hal : mR M 4201 le ≠ 90 := fun z => by
    have := hL.2.2.2 (by rw [z]; decide)
    have := Pb.n167
    omega
  have tMK : tM σ = K := by unfold tM; rw [hK.1, ix_nI (by omega)]
  unfold K_X2_mods F_modsOf
  rw [t_isBad0 P.g0, ob_some, ifT (rfl : (0 : Int32) = 0)]
  rcases y_sgn P.px (x := 40) (by decide) with ⟨v1, v2, hi, v4, v5⟩ | ⟨v1, v2⟩
  · have hk40 : K_X2_take 40 M = some (1, msI M 405 90 (nI (i + 1))) := by
      unfold K_X2_take K_X2_isSign
      rw [ifT g1, g2, ifT v1, ob_some, ifF (show ¬ (1 : Int32) = 0 from by decide), nm_eq, P.i5, nI_addL]
    obtain ⟨σ1, n1, P1, E1⟩ := z_step P hi
    have fr1 := fS_F_next _ _ _ n1
    rw [hk40, ob_some, ifF (show ¬ (1 : Int32) = 0 from by decide), v2, ob_some, ifF (show ¬ (1 : Int32) = 0 from by decide), n1, ob_some]
    have sel : So M (msI M 405 90 (nI (i + 1))) el := E1.1.so hel.2 (by have := Pb.n167; omega)
    have sle : So M (msI M 405 90 (nI (i + 1))) le := E1.1.so hlb.2 (by have := Pb.n167; omega)
    rcases mods_loop (el := el) (le := le) (k0 := K) Pb hcl 2001 _ σ1 (i + 1) FU FU [] (by omega) (by have := FUb; omega) (by have := FUb; omega) (E.tr E1) (P1.wk (c' := c) (s' := s) (n' := n) (by omega) (by omega) (by omega)) hc hs hn ⟨hel.1, hel.2⟩ hk hle hne (hL.kp E1.1 (by have := Pb.n167; omega) hal) (Nat.zero_le _) (by rw [(fr1 65 rfl).1]; exact hK.1) hK.2.1 (by show K + 0 + _ ≤ _; omega) (fun j hj => absurd hj (Nat.not_lt_zero _)) with ⟨M2, σ2, i2, os, r1, r2, P2, r4, E2, r6, r7, r8, r9, r10, r11, r12⟩ | ⟨w, M2, y, σ2, r1, r2, fb⟩
    · have r2 : L_modsOf_26 FU 0 0 σ1 = some (nI K, σ2) := r2
      have r8 : 3 * os.length + (i + 1) ≤ 3 * 0 + i2 + 1 := r8
      rw [r1, obS_inl, r2, ob_some]
      have hle2 := r6.2.1
      have hal2 : mR M2 4201 le ≠ 90 := fun z => by
        have := r6.2.2.2 (by rw [z]; decide)
        have := Pb.n167
        omega
      have m12 : Mz σ σ2 := by
        refine (Mz.ft fr1 (by decide)).tr ⟨?_, fun j hj => r12 j ?_⟩
        · unfold tM; rw [(fr1 65 rfl).1, hK.1, r9, ix_nI (by omega), ix_nI (by have := P2.it; omega)]; omega
        · unfold tM at hj; rw [(fr1 65 rfl).1, hK.1, ix_nI (by omega)] at hj; exact hj
      rcases z_pass P2 (by omega) (by omega) (x := 41) (by decide) with ⟨_, _, σ3, w1, w2, P3, E3, w5, _, n3⟩ | ⟨w, M3, y, σ3, w1, w2, fb⟩
      · have fr3 := fS_F_next _ _ _ n3
        rw [w1, obS_inl, w2, ob_some]
        have wcs : ∀ {M5 : CM} {σ5 : TS}, Es Mb σb M5 σ5 → ∀ w, wc M5 w = wc Mb w := fun E5 w => Pb.wcs E5.1 (fun o z => by rw [z]; exact Pb.en.1) w
        left
        refine ⟨_, σ3, i2 + 1, os, rfl, by rw [ifF r7], P3.wk (by omega) (by omega) (by omega), by omega, E2.tr E3, r6.kp E3.1 (by have := Pb.n167; omega) hal2, ⟨fun z => absurd z r7, fun z => absurd v1 z⟩, fun j hj => ?_, ((E1.1.mono (fun o _ z => Or.inl z)).tr2 r11 (fun o _ z => by rw [sle.r] at z; exact z)).tr2 E3.1 (fun o _ z => Or.inl z), m12.tr (Mz.ft fr3 (by decide)), by rw [(fr3 65 rfl).1]; exact r9, by omega⟩
        obtain ⟨⟨P', b1, b2⟩, b3⟩ := r10 j hj
        have s3 : So M2 (msI M2 405 90 (nI (i2 + 1))) le := E3.1.so hle2.2 (by have := Pb.n167; omega)
        refine ⟨⟨P', fun o ho => by rw [s3.r]; exact b1 o ho, b2.mv P.nf12 E3.1 (fun o z => ⟨fun hp => ?_, ?_⟩) (fun o ho => (b1 o ho).1.2) (fun _ z => z) (fun w => rfl) E3.2.2.2.1 (fun j => (fr3 42 rfl).2.2.1 j) (fun f hf => (fr3 f (by rcases hf with rfl | rfl | rfl <;> rfl)).2.2.1 _) (fun f hf => (fr3 f (by rcases hf with rfl | rfl <;> rfl)).2.2.2 _)⟩, by rw [(fr3 61 rfl).2.2.1]; exact b3⟩
        · have := (b1 o hp).1.1; have := Pb.n167; omega
        · rw [z, P2.en.1]; decide
      · rw [w1, obS_inr, w2, ob_some]
        exact Or.inr ⟨w, M3, _, σ3, rfl, rfl, fb.tr E2⟩
    · have r2 : L_modsOf_26 FU 0 0 σ1 = some (y, σ2) := r2
      rw [r1, obS_inr, r2, ob_some]
      obtain ⟨y2, s2, e2, g2⟩ := (BW.bo (bw_pass fb.bd 41) fun _ s hb => BW.sm hb : BW C σ2 (ob (F_pass 41 σ2) fun _ s92 => some (y, s92)))
      exact Or.inr ⟨w, M2, y2, s2, rfl, e2, fb.br g2⟩
  · have hk40 : K_X2_take 40 M = some (0, M) := by
      unfold K_X2_take K_X2_isSign
      rw [ifT g1, g2, ifF v1, ob_some, ifT (rfl : (0 : Int32) = 0)]
    rw [hk40, ob_some, ifT (rfl : (0 : Int32) = 0), v2, ob_some, ifT (rfl : (0 : Int32) = 0)]
    exact Or.inl ⟨M, σ, i, [], rfl, rfl, P, Nat.le_refl _, E, hL, ⟨fun _ => v1, fun _ => rfl⟩, fun j hj => absurd hj (Nat.not_lt_zero _), Fz.rf, Mz.rf σ, hK.1, by show 3 * 0 + i ≤ i; omega⟩
theorem bw_modsOf (h : Br C σ s1) : BW C σ (F_modsOf s1) := BW.isBad h (BW.sm h)
end MODS2
