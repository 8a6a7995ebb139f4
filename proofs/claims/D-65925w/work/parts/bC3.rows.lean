/-! Layer B: the flat model: a row of modifications, a member, a variable, an instance -/
set_option maxRecDepth 100000
/-- object 1: nothing but ints of S -/
def O1 (S : List Nat) (M M' : CM) : Prop := (∀ g, S.contains g = false → mI M' g 1 = mI M g 1) ∧ ∀ g, mR M' g 1 = mR M g 1
section ROWS
variable {D D' D2 : FQ} {M M' M1 M2 Mi : CM} {X : Nat → Prop} {l k n R N : Nat} {α : Type} {S : List Nat}
theorem O1.rf (S : List Nat) (M : CM) : O1 S M M := ⟨fun _ _ => rfl, fun _ => rfl⟩
theorem O1.tr (h : O1 S M M1) (g : O1 S M1 M2) : O1 S M M2 := ⟨fun k hk => (g.1 k hk).trans (h.1 k hk), fun k => (g.2 k).trans (h.2 k)⟩
theorem O1.mono {S' : List Nat} (h : O1 S M M1) (hs : S.all S'.contains = true) : O1 S' M M1 := ⟨fun k hk => h.1 k (by
  cases e : S.contains k with
  | false => rfl
  | true =>
    have := List.all_eq_true.mp hs k (by simpa using e)
    rw [hk] at this; cases this), h.2⟩
theorem O1.so (h : So M M1 1) : O1 S M M1 := ⟨fun g _ => h.i g, fun g => h.r g⟩
theorem O1.msI {g : Nat} {v : Int32} (hg : S.contains g = true) : O1 S M (msI M g 1 v) := ⟨fun k hk => by rw [mI_msI, ifF (fun z => by rw [z.1, hg] at hk; cases hk)], fun _ => rfl⟩
theorem capI_same (h : ∀ o, mR M' 2605 o = mR M 2605 o ∧ mR M' 4201 o = mR M 4201 o ∧ ml M' o = ml M o) (i : Nat) : capI D M' i = capI D M i := by
  have e : ll D M' i = ll D M i := by unfold ll; rw [(h _).1]
  unfold capI cap
  rw [e, (h _).2.1, (h _).2.2]
theorem rm_same (hn : mn M' = mn M ∧ ms M' = ms M) (h : ∀ o, mR M' 2605 o = mR M 2605 o ∧ mR M' 4201 o = mR M 4201 o ∧ ml M' o = ml M o) : rmN D M' = rmN D M ∧ rmS D M' = rmS D M := by
  have e1 : ptN D M' = ptN D M := funext fun i => by unfold ptN; rw [capI_same h]
  have e2 : ptS D M' = ptS D M := funext fun i => by unfold ptS; rw [capI_same h]
  unfold rmN rmS
  rw [e1, e2, hn.1, hn.2]
  exact ⟨rfl, rfl⟩
theorem nfx1 : ∀ o, o < mn M → o = 1 → ¬ Fx D o := fun o _ z q => by
  unfold Fx at q
  rw [z, tgo_s (by decide)] at q
  exact absurd q (by decide)
theorem k_newRow (h : PoW D M) (hn : 167 ≤ mn M) (h18 : mI M 18 1 = nI R) (hR : R ≤ (pl D 101).length) (hRx : R < 33300) (cN : rmN D M ≤ 601024) (cS : rmS D M + 60100 ≤ 7293034) (m i : Nat) (u : Int32) : ∃ D' M', K_X0_newRow m u i M = some ((pl D' 101).getD R 0, M') ∧ PoW D' M' ∧ R < (pl D' 101).length ∧ Dx D D' M ∧ (∀ i, i ≠ 101 → pl D' i = pl D i) ∧ Fz (fun o => o = 1 ∨ o = 101 ∨ o = mR M 4201 101 ∨ o = (pl D' 101).getD R 0) M M' ∧ O1 [18] M M' ∧ mI M' 18 1 = nI (R + 1) ∧ (mR M' 2800 ((pl D' 101).getD R 0) = m ∧ mI M' 2801 ((pl D' 101).getD R 0) = u ∧ mR M' 2802 ((pl D' 101).getD R 0) = i ∧ mI M' 2803 ((pl D' 101).getD R 0) = 0) ∧ (rmN D' M' ≤ rmN D M ∧ rmS D' M' ≤ rmS D M) := by
  have c1 : mn M ≤ rmN D M := Nat.le_add_right _ _
  obtain ⟨p1, p2, p3, p4, p5⟩ := al_plain (M := M) 15 4 (by decide)
  have hi : K_X15_init (mn M) (mnew M (flK 101) 0 4) = some ((), mnew M 15 0 4) := by
    unfold K_X15_init
    rw [ifT (show ¬ mn M = 0 by omega)]
    rfl
  obtain ⟨D', M', e, nx⟩ := pool_next (α := Nat × CM) h hn (l := 101) (by decide) hR hRx (fun _ => hi) p1 p2 ⟨p3, p4⟩ (Nat.le_refl _) (fun z => absurd z (by decide)) (fun z => absurd z (by decide)) p5 cN cS (fun M => KJ_X0_newRow_29 m u i M)
  have nx0 := nx
  obtain ⟨w1, w2, w3, w4, w5, w6, w7, w8⟩ := nx
  have n1 := w4.1
  have k15 : mk M' ((pl D' 101).getD R 0) = 15 ∧ (167 ≤ (pl D' 101).getD R 0 ∧ (pl D' 101).getD R 0 < mn M') ∧ ow D' ((pl D' 101).getD R 0) = tg 101 R := (w1.2.1 101 (by decide) R w2)
  have hro : (pl D' 101).getD R 0 ≠ 1 := by omega
  have a167 : mR M 4201 101 ≠ 1 := fun z => by
    have q := h.1 101 (by decide)
    have := (q.2.1 (by rw [z]; decide)).1.2
    omega
  have s1 : So M M' 1 := w4.so (by omega) (fun z => by rcases z with z | z; exact absurd z (by decide); exact a167 z.symm)
  obtain ⟨M2, hM2⟩ : ∃ M2, M2 = msI (msR (msI (msR M' 2800 ((pl D' 101).getD R 0) m) 2801 ((pl D' 101).getD R 0) u) 2802 ((pl D' 101).getD R 0) i) 2803 ((pl D' 101).getD R 0) 0 := ⟨_, rfl⟩
  have F2 : Fz (fun o => o = (pl D' 101).getD R 0) M' M2 := by rw [hM2]; exact ((((Fz.rf (X := fun o => o = (pl D' 101).getD R 0)).msR (fun _ => rfl)).msI (fun _ => rfl)).msR (fun _ => rfl)).msI (fun _ => rfl)
  have W2 : PoW D' M2 := w1.wr (by omega) (by decide) w2 F2 (fun z => absurd z (by decide)) (fun z => absurd z (by decide)) (fun o h1 h2 => by rw [hM2] at h2; exact absurd h2 (by show ¬ o < mn M'; omega))
  have W3 : PoW D' (msI M2 18 1 (nI (R + 1))) := W2.mv (X := fun o => o = 1) (by rw [hM2]; show 167 ≤ mn M'; omega) (Fz.rf.msI (fun _ => rfl)) nfx1 (fun o h1 h2 => absurd h2 (by show ¬ o < mn M2; omega))
  have i2 : mI M2 18 1 = nI R := by rw [hM2, mI_msI, ifF (by omega), mI_msR, mI_msI, ifF (by omega), mI_msR, s1.i]; exact h18
  have kk : KJ_X0_newRow_29 m u i M' = some ((pl D' 101).getD R 0, msI M2 18 1 (nI (R + 1))) := by
    unfold KJ_X0_newRow_29
    rw [s1.i, h18, nx_get nx0 (by decide), ob_some, ifT (Or.inr k15.1), ifT k15.1, nm_eq, mk_msR, ifT k15.1, nm_eq, mk_msI, mk_msR, ifT k15.1, nm_eq, mk_msR, mk_msI, mk_msR, ifT k15.1, nm_eq, ← hM2, i2, nI_addL, nm_eq]
  refine ⟨D', _, ?_, W3, w2, w3, w5, ?_, ?_, ?_, ⟨?_, ?_, ?_, ?_⟩, ?_⟩
  · unfold K_X0_newRow
    rw [h18]
    exact e.trans kk
  · refine (w4.mono (fun o _ z => ?_)).tr2 (F2.mono (fun o _ z => z)) (fun o _ z => Or.inr (Or.inr (Or.inr z))) |>.msI (fun _ => Or.inl rfl)
    rcases z with z | z
    · exact Or.inr (Or.inl z)
    · exact Or.inr (Or.inr (Or.inl z))
  · exact ((O1.so s1).tr (O1.so (F2.so (by omega) (fun z => hro z.symm)))).tr (O1.msI rfl)
  · rw [mI_msI, ifT ⟨rfl, rfl⟩]
  · show mR M2 2800 _ = m; rw [hM2, mR_msI, mR_msR, ifF (by omega), mR_msI, mR_msR, ifT ⟨rfl, rfl⟩]
  · rw [mI_msI, ifF (by omega), hM2, mI_msI, ifF (by omega), mI_msR, mI_msI, ifT ⟨rfl, rfl⟩]
  · show mR M2 2802 _ = i; rw [hM2, mR_msI, mR_msR, ifT ⟨rfl, rfl⟩]
  · rw [mI_msI, ifF (by omega), hM2, mI_msI, ifT ⟨rfl, rfl⟩]
  · have r := rm_same (D := D') (M := M') (M' := msI M2 18 1 (nI (R + 1))) (by rw [hM2]; exact ⟨rfl, rfl⟩) (fun o => by
      rw [hM2]
      refine ⟨?_, ?_, rfl⟩
      · rw [mR_msI, mR_msI, mR_msR, ifF (by omega), mR_msI, mR_msR, ifF (by omega)]
      · rw [mR_msI, mR_msI, mR_msR, ifF (by omega), mR_msI, mR_msR, ifF (by omega)])
    rw [r.1, r.2]
    exact w6
theorem k_newMember (h : PoW D M) (hn : 167 ≤ mn M) (h17 : mI M 17 1 = nI R) (hR : R ≤ (pl D 100).length) (hRx : R < 20000) (cN : rmN D M ≤ 601024) (cS : rmS D M + 60100 ≤ 7293034) : ∃ D' M', K_X0_newMember M = some ((pl D' 100).getD R 0, M') ∧ PoW D' M' ∧ R < (pl D' 100).length ∧ Dx D D' M ∧ (∀ i, i ≠ 100 → pl D' i = pl D i) ∧ Fz (fun o => o = 1 ∨ o = 100 ∨ o = mR M 4201 100) M M' ∧ O1 [17] M M' ∧ mI M' 17 1 = nI (R + 1) ∧ (rmN D' M' ≤ rmN D M ∧ rmS D' M' ≤ rmS D M) := by
  have c1 : mn M ≤ rmN D M := Nat.le_add_right _ _
  obtain ⟨p1, p2, p3, p4, p5⟩ := al_plain (M := M) 16 8 (by decide)
  have hi : K_X16_init (mn M) (mnew M (flK 100) 0 8) = some ((), mnew M 16 0 8) := by
    unfold K_X16_init
    rw [ifT (show ¬ mn M = 0 by omega)]
    rfl
  obtain ⟨D', M', e, nx⟩ := pool_next (α := Nat × CM) h hn (l := 100) (by decide) hR hRx (fun _ => hi) p1 p2 ⟨p3, p4⟩ (Nat.le_refl _) (fun z => absurd z (by decide)) (fun z => absurd z (by decide)) p5 cN cS (fun M => KJ_X0_newMember_29 M)
  have nx0 := nx
  obtain ⟨w1, w2, w3, w4, w5, w6, w7, w8⟩ := nx
  have n1 := w4.1
  have k15 : mk M' ((pl D' 100).getD R 0) = 16 ∧ (167 ≤ (pl D' 100).getD R 0 ∧ (pl D' 100).getD R 0 < mn M') ∧ ow D' ((pl D' 100).getD R 0) = tg 100 R := (w1.2.1 100 (by decide) R w2)
  have a167 : mR M 4201 100 ≠ 1 := fun z => by
    have q := h.1 100 (by decide)
    have := (q.2.1 (by rw [z]; decide)).1.2
    omega
  have s1 : So M M' 1 := w4.so (by omega) (fun z => by rcases z with z | z; exact absurd z (by decide); exact a167 z.symm)
  have F3 : Fz (fun o => o = 1) M' (msI M' 17 1 (nI (R + 1))) := (Fz.rf (X := fun o => o = 1)).msI (fun _ => rfl)
  have W3 : PoW D' (msI M' 17 1 (nI (R + 1))) := w1.mv (X := fun o => o = 1) (by omega) F3 nfx1 (fun o h1 h2 => absurd h2 (by show ¬ o < mn M'; omega))
  have kk : KJ_X0_newMember_29 M' = some ((pl D' 100).getD R 0, msI M' 17 1 (nI (R + 1))) := by
    unfold KJ_X0_newMember_29
    have i2 : mI (msI M' 17 1 (nI (R + 1))) 17 1 = nI (R + 1) := by rw [mI_msI, ifT ⟨rfl, rfl⟩]
    rw [s1.i, h17, nI_addL, nm_eq, i2, show (1 : Int32) = nI 1 from rfl, nI_sub (by omega), show R + 1 - 1 = R by omega, ls_get (W3.1 100 (by decide)).1 w2, ob_some, ifT (Or.inr (show mk (msI M' 17 1 (nI (R + 1))) ((pl D' 100).getD R 0) = 16 from k15.1))]
  refine ⟨D', _, ?_, W3, w2, w3, w5, ?_, ?_, ?_, ?_⟩
  · unfold K_X0_newMember
    rw [h17]
    exact e.trans kk
  · refine (w4.mono (fun o _ z => ?_)).msI (fun _ => Or.inl rfl)
    rcases z with z | z
    · exact Or.inr (Or.inl z)
    · exact Or.inr (Or.inr z)
  · exact (O1.so s1).tr (O1.msI rfl)
  · rw [mI_msI, ifT ⟨rfl, rfl⟩]
  · have r := rm_same (D := D') (M := M') (M' := msI M' 17 1 (nI (R + 1))) ⟨rfl, rfl⟩ (fun o => ⟨rfl, rfl, rfl⟩)
    rw [r.1, r.2]
    exact w6
theorem k_newVar (h : PoW D M) (hn : 167 ≤ mn M) (h15 : mI M 15 1 = nI R) (hR : R ≤ (pl D 98).length) (hRx : R < 96) (cN : rmN D M ≤ 601024) (cS : rmS D M + 60100 ≤ 7293034) : ∃ D' M', K_X0_newVar M = some (.inl ((pl D' 98).getD R 0), M') ∧ PoW D' M' ∧ R < (pl D' 98).length ∧ Dx D D' M ∧ (∀ i, i ≠ 98 → pl D' i = pl D i) ∧ Fz (fun o => o = 1 ∨ o = 98 ∨ o = mR M 4201 98) M M' ∧ O1 [15] M M' ∧ mI M' 15 1 = nI (R + 1) ∧ (rmN D' M' ≤ rmN D M ∧ rmS D' M' ≤ rmS D M) := by
  have c1 : mn M ≤ rmN D M := Nat.le_add_right _ _
  have c2 : ms M ≤ rmS D M := Nat.le_add_right _ _
  obtain ⟨Mi, hMi⟩ : ∃ Mi, Mi = msR (mnew (mnew M 17 0 20) 50 3 3) 3204 (mn M) (mn M + 1) := ⟨_, rfl⟩
  have kv : mk (mnew (mnew M 17 0 20) 50 3 3) (mn M) = 17 := by rw [mk_mnew, mn_mnew, ifF (show ¬ mn M = mn M + 1 by omega), mk_mnew, ifT rfl]
  have F : Fz none_ M Mi := by rw [hMi]; exact (Fz.rf.mnew.mnew).msR (fun z => absurd z (Nat.lt_irrefl _))
  have hi : R = (pl D 98).length → K_X17_init (mn M) (mnew M (flK 98) 0 20) = some ((), Mi) := fun eR => by
    have q : ms (mnew M (flK 98) 0 20) + 3 ≤ 7293034 := by show ms M + 20 + 3 ≤ _; omega
    have q2 : mn (mnew M (flK 98) 0 20) ≤ 601024 := by
      have := lsum_mem (f := ptN D M) flI (flI_mem (i := 98) (by decide))
      have e : ptN D M 98 = 2 * (96 - (pl D 98).length) + (flY 98 - capI D M 98) / 5 := rfl
      unfold rmN at cN
      show mn M + 1 ≤ _
      omega
    unfold K_X17_init
    rw [ifT (show ¬ mn M = 0 by omega), ifT ⟨by decide, q2, q⟩, nm_eq, nm_eq]
    have k2 : mk (mnew (mnew M (flK 98) 0 20) (50) (ix 3) (ix 3)) (mn M) = 17 := kv
    rw [ifT k2, nm_eq, hMi]
    rfl
  obtain ⟨D', M', e, nx⟩ := pool_next (α := (Nat ⊕ Nat) × CM) h hn (l := 98) (by decide) hR hRx hi F (by rw [hMi]; exact kv) (by rw [hMi]; exact ⟨rfl, rfl⟩) (by decide) (fun _ => by
    rw [hMi]
    refine ⟨by rw [mR_msR, ifT ⟨rfl, rfl⟩], ?_, ?_⟩
    · show mk (mnew (mnew M 17 0 20) 50 3 3) (mn M + 1) = 50; rw [mk_mnew, mn_mnew, ifT rfl]
    · show ml (mnew (mnew M 17 0 20) 50 3 3) (mn M + 1) = 3; rw [ml_mnew, mn_mnew, ifT rfl]) (fun z => absurd z (by decide)) (fun o h1 h2 => by
    rw [hMi] at h2
    have h2 : o < mn M + 1 + 1 := h2
    rw [hMi]
    show mk (mnew (mnew M 17 0 20) 50 3 3) o ≠ 23
    rcases (by omega : o = mn M ∨ o = mn M + 1) with q | q
    · rw [q, kv]; decide
    · rw [q, mk_mnew, mn_mnew, ifT rfl]; decide) cN cS (fun M => KJ_X0_newVar_45 M)
  have nx0 := nx
  obtain ⟨w1, w2, w3, w4, w5, w6, w7, w8⟩ := nx
  have n1 := w4.1
  have k15 : mk M' ((pl D' 98).getD R 0) = 17 ∧ (167 ≤ (pl D' 98).getD R 0 ∧ (pl D' 98).getD R 0 < mn M') ∧ ow D' ((pl D' 98).getD R 0) = tg 98 R := (w1.2.1 98 (by decide) R w2)
  have a167 : mR M 4201 98 ≠ 1 := fun z => by
    have q := h.1 98 (by decide)
    have := (q.2.1 (by rw [z]; decide)).1.2
    omega
  have s1 : So M M' 1 := w4.so (by omega) (fun z => by rcases z with z | z; exact absurd z (by decide); exact a167 z.symm)
  have F3 : Fz (fun o => o = 1) M' (msI M' 15 1 (nI (R + 1))) := (Fz.rf (X := fun o => o = 1)).msI (fun _ => rfl)
  have W3 : PoW D' (msI M' 15 1 (nI (R + 1))) := w1.mv (X := fun o => o = 1) (by omega) F3 nfx1 (fun o h1 h2 => absurd h2 (by show ¬ o < mn M'; omega))
  have kk : KJ_X0_newVar_45 M' = some (.inl ((pl D' 98).getD R 0), msI M' 15 1 (nI (R + 1))) := by
    unfold KJ_X0_newVar_45
    have i2 : mI (msI M' 15 1 (nI (R + 1))) 15 1 = nI (R + 1) := by rw [mI_msI, ifT ⟨rfl, rfl⟩]
    rw [s1.i, h15, nI_addL, nm_eq, i2, show (1 : Int32) = nI 1 from rfl, nI_sub (by omega), show R + 1 - 1 = R by omega, ls_get (W3.1 98 (by decide)).1 w2, ob_some, ifT (Or.inr (show mk (msI M' 15 1 (nI (R + 1))) ((pl D' 98).getD R 0) = 17 from k15.1))]
  refine ⟨D', _, ?_, W3, w2, w3, w5, ?_, ?_, ?_, ?_⟩
  · unfold K_X0_newVar
    rw [h15, ifF (show ¬ nI R = 96 from by rw [show (96 : Int32) = nI 96 from rfl, bI_eq (by omega) (by decide)]; omega)]
    exact e.trans kk
  · refine (w4.mono (fun o _ z => ?_)).msI (fun _ => Or.inl rfl)
    rcases z with z | z
    · exact Or.inr (Or.inl z)
    · exact Or.inr (Or.inr z)
  · exact (O1.so s1).tr (O1.msI rfl)
  · rw [mI_msI, ifT ⟨rfl, rfl⟩]
  · have r := rm_same (D := D') (M := M') (M' := msI M' 15 1 (nI (R + 1))) ⟨rfl, rfl⟩ (fun o => ⟨rfl, rfl, rfl⟩)
    rw [r.1, r.2]
    exact w6
end ROWS
