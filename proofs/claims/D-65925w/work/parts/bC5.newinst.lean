/-! Layer B: the flat model: a new instance; what is written, by whose it is -/
set_option maxRecDepth 100000
/-- nothing but objects of T's -/
def Fq (D : FQ) (T : Nat → Prop) (M M' : CM) : Prop := Fz (fun o => T (tgof D o)) M M'
section NEWI
variable {D D' D2 : FQ} {M M' M1 M2 Mi : CM} {X T T' : Nat → Prop} {l k n R N lo x o : Nat} {xs : List Nat} {α : Type} {S : List Nat}
theorem tgo_x (h : Dx D D' M) (ho : o < mn M) : tgof D' o = tgof D o := by
  unfold tgof
  rw [h.2 o ho]
theorem Fq.rf : Fq D T M M := Fz.rf
theorem Fq.tr (h : Fq D T M M1) (g : Fq D' T M1 M2) (hx : Dx D D' M) : Fq D T M M2 := h.tr2 g (fun o ho z => by
  have z : T (tgof D' o) := z
  rw [tgo_x hx ho] at z; exact z)
theorem Fq.mono (h : Fq D T M M1) (hT : ∀ t, T t → T' t) : Fq D T' M M1 := Fz.mono h (fun o _ z => hT _ z)
theorem AQ.tg {a : Nat} (h : AQ D M l a) (hc : mn M ≤ 601024) (ho : o < mn M) (e : o = mR M 4201 l) : tgof D o = a := by
  have q : mR M 4201 l ≠ 4398046511104 := by omega
  rw [e, tgo_d (h q).1.2]
  exact (h q).1.1
/-- the frame of a row's next object -/
theorem Nx.fq (h : PoW D M) (hl : l ∈ flA) (hc : mn M ≤ 601024) (F : Fz (fun o => o = l ∨ o = mR M 4201 l) M M') : Fq D (fun t => t = l) M M' := F.mono (fun o ho z => by
  rcases z with z | z
  · rw [z]; exact tgo_s (by have := flA_rng l hl; omega)
  · exact (h.1 l hl).2.1.tg hc ho z)
theorem PoW.tv (h : PoW D M) (hl : l ∈ flL) (hk : k < (pl D l).length) : tgof D ((pl D l).getD k 0) = tg l k := by
  obtain ⟨a1, a2, a3⟩ := h.2.1 l hl k hk
  rw [tgo_d a2.1]; exact a3
set_option maxHeartbeats 1000000 in
theorem k_newInst (h : PoW D M) (hn : 167 ≤ mn M) (h16 : mI M 16 1 = nI R) (hR : R ≤ (pl D 99).length) (hRx : R < 200) (cN : rmN D M ≤ 601024) (cS : rmS D M + 60100 ≤ 7293034) (pa mo : Nat) (w ii : Int32) : ∃ D' M', K_X0_newInst pa mo w ii M = some (.inl ((pl D' 99).getD R 0), M') ∧ PoW D' M' ∧ R < (pl D' 99).length ∧ Dx D D' M ∧ (∀ i, i ≠ 99 → pl D' i = pl D i) ∧ Fq D (fun t => t = 1 ∨ t = 99 ∨ t = tg 99 R ∨ t = tg 201 R ∨ t = tg 202 R) M M' ∧ O1 [16] M M' ∧ mI M' 16 1 = nI (R + 1) ∧ ((mI M' 2600 ((pl D' 99).getD R 0) = nI R ∧ mR M' 2601 ((pl D' 99).getD R 0) = pa ∧ mR M' 2602 ((pl D' 99).getD R 0) = mo ∧ mI M' 2603 ((pl D' 99).getD R 0) = w ∧ mI M' 2604 ((pl D' 99).getD R 0) = ii) ∧ Ls M' (mR M' 2605 ((pl D' 99).getD R 0)) []) ∧ (rmN D' M' ≤ rmN D M ∧ rmS D' M' ≤ rmS D M) := by
  have c1 : mn M ≤ rmN D M := Nat.le_add_right _ _
  have c2 : ms M ≤ rmS D M := Nat.le_add_right _ _
  have kv : mk (mnew (mnew M 14 0 6) 22 0 3) (mn M) = 14 := by rw [mk_mnew, mn_mnew, ifF (show ¬ mn M = mn M + 1 by omega), mk_mnew, ifT rfl]
  have kl : mk (mnew (mnew M 14 0 6) 22 0 3) (mn M + 1) = 22 := by rw [mk_mnew, mn_mnew, ifT rfl]
  obtain ⟨i1, i2⟩ := ls_init (M := mnew (mnew M 14 0 6) 22 0 3) (l := mn M + 1) kl (by omega) (by rw [mI_mnew, mn_mnew, ifT rfl])
  obtain ⟨Mi, hMi⟩ : ∃ Mi, Mi = msR (msR (msI (mnew (mnew M 14 0 6) 22 0 3) 4200 (mn M + 1) 0) 4201 (mn M + 1) 4398046511104) 2605 (mn M) (mn M + 1) := ⟨_, rfl⟩
  have F : Fz none_ M Mi := by rw [hMi]; exact (((Fz.rf.mnew.mnew).msI (fun z => absurd z (by show ¬ mn M + 1 < mn M; omega))).msR (fun z => absurd z (by show ¬ mn M + 1 < mn M; omega))).msR (fun z => absurd z (Nat.lt_irrefl _))
  have hi : R = (pl D 99).length → K_X14_init (mn M) (mnew M (flK 99) 0 6) = some ((), Mi) := fun eR => by
    have q : ms (mnew M (flK 99) 0 6) + 3 ≤ 7293034 := by show ms M + 6 + 3 ≤ _; omega
    have q2 : mn (mnew M (flK 99) 0 6) ≤ 601024 := by
      have := lsum_mem (f := ptN D M) flI (flI_mem (i := 99) (by decide))
      have e : ptN D M 99 = 2 * (200 - (pl D 99).length) + (flY 99 - capI D M 99) / 5 := rfl
      unfold rmN at cN
      show mn M + 1 ≤ _
      omega
    unfold K_X14_init
    rw [ifT (show ¬ mn M = 0 by omega), ifT ⟨q2, q⟩, nm_eq, nm_eq, ifT (show ¬ mn (mnew M (flK 99) 0 6) = 0 by show ¬ mn M + 1 = 0; omega)]
    rw [show K_J2_init (mn (mnew M (flK 99) 0 6)) (mnew (mnew M (flK 99) 0 6) 22 0 3) = some ((), msR (msI (mnew (mnew M 14 0 6) 22 0 3) 4200 (mn M + 1) 0) 4201 (mn M + 1) 4398046511104) from i1, ob_some, ifT (show mk (msR (msI (mnew (mnew M 14 0 6) 22 0 3) 4200 (mn M + 1) 0) 4201 (mn M + 1) 4398046511104) (mn M) = 14 from kv), nm_eq, hMi]
    rfl
  have LMi : Ls Mi (mn M + 1) [] := by
    have G : Fz (fun o => o = mn M) (msR (msI (mnew (mnew M 14 0 6) 22 0 3) 4200 (mn M + 1) 0) 4201 (mn M + 1) 4398046511104) Mi := by rw [hMi]; exact (Fz.rf (X := fun o => o = mn M)).msR (fun _ => rfl)
    exact i2.kp G.1 (fun o ho => G.k ho) (G.so (by show mn M + 1 < mn M + 1 + 1; omega) (by omega)) (fun z => absurd (by rw [mR_msR, ifT ⟨rfl, rfl⟩]) z)
  obtain ⟨D', M', e, nx⟩ := pool_next (α := (Nat ⊕ Nat) × CM) h hn (l := 99) (by decide) hR hRx hi F (by rw [hMi]; exact kv) (by rw [hMi]; exact ⟨rfl, rfl⟩) (by decide) (fun z => absurd z (by decide)) (fun _ => ⟨by rw [hMi, mR_msR, ifT ⟨rfl, rfl⟩], LMi, by rw [hMi, mR_msR, ifF (by omega), mR_msR, ifT ⟨rfl, rfl⟩]⟩) (fun o h1 h2 => by
    rw [hMi] at h2
    have h2 : o < mn M + 1 + 1 := h2
    rw [hMi]
    show mk (mnew (mnew M 14 0 6) 22 0 3) o ≠ 23
    rcases (by omega : o = mn M ∨ o = mn M + 1) with q | q
    · rw [q, kv]; decide
    · rw [q, kl]; decide) cN cS (fun M => KJ_X0_newInst_46 pa mo w ii M)
  have nx0 := nx
  obtain ⟨w1, w2, w3, w4, w5, w6, w7, w8⟩ := nx
  have n1 := w4.1
  have k14 : mk M' ((pl D' 99).getD R 0) = 14 ∧ (167 ≤ (pl D' 99).getD R 0 ∧ (pl D' 99).getD R 0 < mn M') ∧ ow D' ((pl D' 99).getD R 0) = tg 99 R := (w1.2.1 99 (by decide) R w2)
  obtain ⟨⟨ys, y0, y1⟩, y2, y3, y4⟩ := w1.2.2.2.1 R w2
  generalize hio : (pl D' 99).getD R 0 = io at *
  generalize hlo : mR M' 2605 io = lo at *
  have a167 : mR M 4201 99 ≠ 1 := fun z => by
    have := ((h.1 99 (by decide)).2.1 (by rw [z]; decide)).1.2
    omega
  have s1 : So M M' 1 := w4.so (by omega) (fun z => by rcases z with z | z; exact absurd z (by decide); exact a167 z.symm)
  have cM' : mn M' ≤ 601024 := by have := w6.1; have : mn M' ≤ rmN D' M' := Nat.le_add_right _ _; omega
  have hne : io ≠ lo := fun z => by
    have q := y0.1
    rw [← z, k14.1] at q; exact absurd q (by decide)
  obtain ⟨M2, hM2⟩ : ∃ M2, M2 = msI (msI (msR (msR (msI M' 2600 io (nI R)) 2601 io pa) 2602 io mo) 2603 io w) 2604 io ii := ⟨_, rfl⟩
  have F2 : Fz (fun o => o = io) M' M2 := by rw [hM2]; exact (((((Fz.rf (X := fun o => o = io)).msI (fun _ => rfl)).msR (fun _ => rfl)).msR (fun _ => rfl)).msI (fun _ => rfl)).msI (fun _ => rfl)
  have n2 : mn M2 = mn M' := by rw [hM2]; rfl
  have W2 : PoW D' M2 := w1.wr (l := 99) (by omega) (by decide) w2 (by rw [hio]; exact F2) (fun z => absurd z (by decide)) (fun _ => by rw [hio, hM2, mR_msI, mR_msI, mR_msR, ifF (by omega), mR_msR, ifF (by omega), mR_msI]) (fun o h1 h2 => by omega)
  have r2 : mR M2 2605 io = lo := by rw [hM2, mR_msI, mR_msI, mR_msR, ifF (by omega), mR_msR, ifF (by omega), mR_msI]; exact hlo
  have sl2 : So M' M2 lo := F2.so y2.2 (fun z => hne z.symm)
  have L2 : Ls M2 lo ys := y0.kp F2.1 (fun o ho => F2.k ho) sl2 (fun z => F2.so (by
    rcases y0.lt with q | q
    · exact absurd q z
    · exact q) (fun q => by
    rcases y0.2.2.2.2 with ⟨g, _⟩ | ⟨_, g, _⟩
    · exact z g
    · rw [q, k14.1] at g; exact absurd g (by decide)))
  obtain ⟨M3, d1, d2, d3, d4, d5, d6, d7⟩ := ls_clear L2 (by omega) (by omega)
  have ar2 : mR M2 4201 lo = mR M' 4201 lo := sl2.r _
  have W3 : PoW D' M3 := W2.lst (by omega) (by omega) w2 (by rw [hio]; exact r2) d3 d2 (Nat.zero_le _) rfl (fun _ _ => rfl) (fun z => by
    rw [d7, ar2] at z ⊢
    have := y4 z
    rw [(d6 _).2, (F2.2.1 _ (by
      rcases y0.lt with q | q
      · exact absurd q z
      · exact q)).2]
    exact this) (fun o h1 h2 => by omega)
  have s12 : So M' M2 1 := F2.so (by omega) (by omega)
  have s13 : So M2 M3 1 := d3.so (by omega) (fun z => by
    rcases z with z | z
    · omega
    · rw [ar2] at z
      have := (y4 (by rw [← z]; decide)).1.2
      omega)
  have sio : So M2 M3 io := d3.so (by omega) (fun z => by
    rcases z with z | z
    · exact hne z
    · rw [ar2] at z
      have := (y4 (by rw [← z]; omega)).1.1
      rw [← z, k14.2.2] at this
      unfold tg at this; omega)
  have W4 : PoW D' (msI M3 16 1 (nI (R + 1))) := W3.mv (X := fun o => o = 1) (by omega) (Fz.rf.msI (fun _ => rfl)) nfx1 (fun o h1 h2 => absurd h2 (by show ¬ o < mn M3; omega))
  have i16 : mI M' 16 1 = nI R := by rw [s1.i]; exact h16
  have i3 : mI M3 16 1 = nI R := by rw [s13.i, s12.i]; exact i16
  have kk : KJ_X0_newInst_46 pa mo w ii M' = some (.inl io, msI M3 16 1 (nI (R + 1))) := by
    unfold KJ_X0_newInst_46
    have g := nx_get nx0 (by decide)
    rw [hio] at g
    rw [i16, g, ob_some, ifT (Or.inr k14.1), ifT k14.1, i16, nm_eq, mk_msI, ifT k14.1, nm_eq, mk_msR, mk_msI, ifT k14.1, nm_eq, mk_msR, mk_msR, mk_msI, ifT k14.1, nm_eq, mk_msI, mk_msR, mk_msR, mk_msI, ifT k14.1, nm_eq, ← hM2, ifT (by rw [hM2]; exact k14.1), r2, ifT L2.1, d1, ob_some, i3, nI_addL, nm_eq]
  have fin : mR (msI M3 16 1 (nI (R + 1))) 2605 io = lo := by rw [mR_msI, sio.r]; exact r2
  refine ⟨D', _, ?_, W4, w2, w3, w5, ?_, ?_, ?_, ⟨⟨?_, ?_, ?_, ?_, ?_⟩, ?_⟩, ?_⟩
  · unfold K_X0_newInst
    rw [h16, ifF (show ¬ nI R = 200 from by rw [show (200 : Int32) = nI 200 from rfl, bI_eq (by omega) (by decide)]; omega), hio]
    exact e.trans kk
  · have f1 : Fq D (fun t => t = 1 ∨ t = 99 ∨ t = tg 99 R ∨ t = tg 201 R ∨ t = tg 202 R) M M' := (Nx.fq h (by decide) (by omega) w4).mono (fun t z => Or.inr (Or.inl z))
    have tio : tgof D' io = tg 99 R := by rw [tgo_d k14.2.1.1]; exact k14.2.2
    have tlo : tgof D' lo = tg 201 R := by rw [tgo_d y2.1]; exact y3
    have f2 : Fq D' (fun t => t = 1 ∨ t = 99 ∨ t = tg 99 R ∨ t = tg 201 R ∨ t = tg 202 R) M' M2 := F2.mono (fun o _ z => by rw [z, tio]; exact Or.inr (Or.inr (Or.inl rfl)))
    have f3 : Fq D' (fun t => t = 1 ∨ t = 99 ∨ t = tg 99 R ∨ t = tg 201 R ∨ t = tg 202 R) M2 M3 := d3.mono (fun o ho z => by
      rcases z with z | z
      · rw [z, tlo]; exact Or.inr (Or.inr (Or.inr (Or.inl rfl)))
      · rw [ar2] at z
        exact Or.inr (Or.inr (Or.inr (Or.inr (y4.tg cM' (by omega) z)))))
    have f4 : Fq D' (fun t => t = 1 ∨ t = 99 ∨ t = tg 99 R ∨ t = tg 201 R ∨ t = tg 202 R) M3 (msI M3 16 1 (nI (R + 1))) := Fz.rf.msI (fun _ => by rw [tgo_s (by decide)]; exact Or.inl rfl)
    exact ((f1.tr f2 w3).tr (f3) w3).tr f4 w3
  · exact (((O1.so s1).tr (O1.so s12)).tr (O1.so s13)).tr (O1.msI rfl)
  · rw [mI_msI, ifT ⟨rfl, rfl⟩]
  · rw [hio, mI_msI, ifF (by omega), sio.i, hM2, mI_msI, ifF (by omega), mI_msI, ifF (by omega), mI_msR, mI_msR, mI_msI, ifT ⟨rfl, rfl⟩]
  · rw [hio, mR_msI, sio.r, hM2, mR_msI, mR_msI, mR_msR, ifF (by omega), mR_msR, ifT ⟨rfl, rfl⟩]
  · rw [hio, mR_msI, sio.r, hM2, mR_msI, mR_msI, mR_msR, ifT ⟨rfl, rfl⟩]
  · rw [hio, mI_msI, ifF (by omega), sio.i, hM2, mI_msI, ifF (by omega), mI_msI, ifT ⟨rfl, rfl⟩]
  · rw [hio, mI_msI, ifF (by omega), sio.i, hM2, mI_msI, ifT ⟨rfl, rfl⟩]
  · rw [hio, fin]
    exact d2.kp (Nat.le_refl _) (fun _ _ => rfl) (Fz.so (X := fun o => o = 1) (Fz.rf.msI (fun _ => rfl)) (by omega) (by omega)) (fun z => Fz.so (X := fun o => o = 1) (Fz.rf.msI (fun _ => rfl)) (by
      rcases d2.lt with q | q
      · exact absurd q z
      · exact q) (fun q => by
      rw [d7, ar2] at q z
      have := (y4 z).1.2
      omega))
  · have r := rm_same (D := D') (M := M') (M' := msI M3 16 1 (nI (R + 1))) ⟨by show mn M3 = _; omega, by show ms M3 = _; rw [d5, hM2]; rfl⟩ (fun o => by
      refine ⟨?_, ?_, ?_⟩
      · rw [mR_msI, d7, hM2, mR_msI, mR_msI, mR_msR, ifF (by omega), mR_msR, ifF (by omega), mR_msI]
      · rw [mR_msI, d7, hM2, mR_msI, mR_msI, mR_msR, ifF (by omega), mR_msR, ifF (by omega), mR_msI]
      · show ml M3 o = _; rw [(d6 o).2, hM2]; rfl)
    rw [r.1, r.2]
    exact w6
end NEWI
