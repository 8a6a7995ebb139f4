/-! Layer B: indices -/
set_option maxRecDepth 100000
/-- what stands behind a name of a path: an index, or nothing -/
def sqI (p : Nat) (M : CM) (A : CM → Option ((Unit ⊕ (Nat ⊕ Nat)) × CM)) : Option ((Unit ⊕ (Nat ⊕ Nat)) × CM) :=
  ob (K_X2_take 91 M) fun r39 M38 =>
  if r39 = 0 then A M38
  else
    obS (K_X2_index p M38) (fun w51 M47 => some (.inr (.inr w51), M47)) fun _ M47 =>
    obS (K_X2_sign 93 M47) (fun w56 M52 => some (.inr (.inr w56), M52)) fun _ M52 => A M52
def IxR (m : Nat) (M : CM) (σ : TS) (p q : Nat) : Prop := (tA σ 31 q = 0 ∧ mI M 1601 p = 0 ∧ mI M 1602 p = -1) ∨ (tA σ 31 q = 1 ∧ mI M 1601 p = 1 ∧ mI M 1602 p = -1 ∧ mI M 1603 p = tA σ 32 q ∧ -32767 ≤ tA σ 32 q ∧ tA σ 32 q ≤ 32767) ∨ (tA σ 31 q = 2 ∧ mI M 1601 p = 1 ∧ (∃ w, mI M 1602 p = nI w ∧ 38 ≤ w ∧ w < 38 + m ∧ tB σ 30 q = wc M w) ∧ mI M 1603 p = tA σ 32 q ∧ -32767 ≤ tA σ 32 q ∧ tA σ 32 q ≤ 32767)
section INDEX
variable {C : PC} {M M' Mb : CM} {σ σ' σb : TS} {i ib dep depb c s n c' s' cb' sb' nb' p q : Nat}
theorem Es.sA {k : Nat} {v : Int32} (E : Es Mb σb M σ) (hk : k = 31 ∨ k = 32 ∨ k = 33) (hq : tQ σb ≤ q) : Es Mb σb M (tsA σ k q v) := by
  obtain ⟨e1, e2, e3, ⟨⟨z1, z2⟩, z3, z4, z5⟩, e5⟩ := E
  refine ⟨e1, e2, e3, ⟨⟨z1, z2⟩, fun k' hk' j hj => ?_, fun k' hk' j hj => ?_, z5⟩, e5.p_tsA (by rcases hk with rfl | rfl | rfl <;> rfl)⟩
  · rw [tA_tsA, ifF (by omega)]; exact z3 k' hk' j hj
  · rw [tA_tsA, ifF (by omega)]; exact z4 k' hk' j hj
theorem Es.sB {k : Nat} {v : Int64} (E : Es Mb σb M σ) (hk : k = 29 ∨ k = 30) (hq : tQ σb ≤ q) : Es Mb σb M (tsB σ k q v) := by
  obtain ⟨e1, e2, e3, ⟨⟨z1, z2⟩, z3, z4, z5⟩, e5⟩ := E
  refine ⟨e1, e2, e3, ⟨⟨z1, z2⟩, z3, z4, fun k' hk' j hj => ?_⟩, e5.p_tsB (by rcases hk with rfl | rfl <;> rfl)⟩
  rw [tB_tsB, ifF (by omega)]; exact z5 k' hk' j hj
theorem FB.sA {k w : Nat} {v : Int32} (h : FB C Mb σb M' w σ') (hk : k = 31 ∨ k = 32 ∨ k = 33) (hq : tQ σb ≤ q) : FB C Mb σb M' w (tsA σ' k q v) := by
  obtain ⟨f, e, c, x1, x2, x3, x4, x5⟩ := h
  refine ⟨f, e.sA hk hq, c, x1, ⟨x2.1, x2.2.1, fun i hi => ?_⟩, x3, x4, x5⟩
  rw [tA_tsA, ifF (by omega)]; exact x2.2.2 i hi
theorem Pe.tp {S : List Nat} (P : Pe C M σ i dep c s n) (f : Ft S σ σ') (hS : S.all [29, 30, 31, 32, 33].contains = true) : Pe C M σ' i dep c s n := by
  obtain ⟨N, Q, n1, n2, n3, n4, n5, n6, n7, n8⟩ := P.nodes
  have f' := f.mono hS
  exact P.tw f' (by decide) (by rw [(f' 28 (by decide)).1]; exact n1) ⟨n3, n4⟩ (by rw [(f' 34 (by decide)).1]; exact n5) ⟨n7, n8⟩
/-- a numeral stands here, for both or for none -/
theorem z_num (P : Pe C M σ i dep c s n) : (mA M 91 i = 2 ∧ tI σ 11 = 2 ∧ i < ct C ∧ mA M 92 i = tI σ 15 ∧ ∃ x, tI σ 15 = nI x ∧ x ≤ 2147418112) ∨ (¬ mA M 91 i = 2 ∧ ¬ tI σ 11 = 2) := by
  obtain ⟨kd, s, ⟨b1, b2, b3, b4, b5, b6⟩, b7⟩ := P.px.2.2.2.2.1
  rw [b4]
  rcases b7 with ⟨q, q2⟩ | ⟨q, q2, _⟩ | ⟨q, q2, q3, q4, x, q5, q6, q7⟩ | ⟨q, q2, q3⟩ | ⟨q, q2⟩
  · right; subst q; rw [q2]; exact ⟨by decide, by decide⟩
  · right; subst q; rw [q2]; exact ⟨by decide, by decide⟩
  · left; subst q; exact ⟨q2, rfl, b6.mpr (by decide), q3, x, q5, q6⟩
  · right; subst q
    refine ⟨fun z => ?_, by decide⟩
    rw [q2] at z
    rw [z] at q3
    rcases q3 with h | h | h | h | h
    · rcases h with h | h | h | h | h | h | h | h | h | h | h | h | h | h | h <;> exact absurd h (by decide)
    all_goals exact absurd h (by decide)
  · right; subst q; rw [q2]; exact ⟨by decide, by decide⟩
theorem small_ok {k : Nat} (h : k ≤ 32767) : -32767 ≤ nI k ∧ nI k ≤ 32767 ∧ -32767 ≤ - nI k ∧ - nI k ≤ 32767 := by
  have h1 := bI_toInt (n := k) (by omega)
  have h2 : (32767 : Int32).toInt = 32767 := by decide
  have h3 : (-32767 : Int32).toInt = -32767 := by decide
  have h4 : (- nI k).toInt = - (k : Int) := by
    rw [Int32.toInt_neg, h1, Int.bmod_eq_of_le] <;> omega
  refine ⟨?_, ?_, ?_, ?_⟩ <;> rw [Int32.le_iff_toInt_le] <;> omega
/-- what is kept of the twin's parts while an index is read -/
def Ixk (σ σ' : TS) (q : Nat) : Prop := (tN σ' = tN σ ∧ tQ σ' = tQ σ) ∧ (∀ k, k = 24 ∨ k = 25 ∨ k = 26 ∨ k = 27 ∨ k = 31 ∨ k = 32 ∨ k = 33 → ∀ j, ¬ (j = q ∧ (k = 31 ∨ k = 32)) → tA σ' k j = tA σ k j) ∧ ∀ k, k = 29 ∨ k = 30 → ∀ j, ¬ (j = q ∧ k = 30) → tB σ' k j = tB σ k j
theorem Ixk.rf (σ : TS) (q : Nat) : Ixk σ σ q := ⟨⟨rfl, rfl⟩, fun _ _ _ _ => rfl, fun _ _ _ _ => rfl⟩
theorem Ixk.tr {σ1 σ2 σ3 : TS} (h : Ixk σ1 σ2 q) (g : Ixk σ2 σ3 q) : Ixk σ1 σ3 q := ⟨⟨g.1.1.trans h.1.1, g.1.2.trans h.1.2⟩, fun k hk j hj => (g.2.1 k hk j hj).trans (h.2.1 k hk j hj), fun k hk j hj => (g.2.2 k hk j hj).trans (h.2.2 k hk j hj)⟩
theorem Ixk.ft {S : List Nat} (f : Ft S σ σ') (h : [24, 25, 26, 27, 28, 29, 30, 31, 32, 33, 34].all (fun k => !S.contains k) = true) : Ixk σ σ' q := by
  have hf : ∀ k, k ∈ [24, 25, 26, 27, 28, 29, 30, 31, 32, 33, 34] → S.contains k = false := fun k hk => by
    have := List.all_eq_true.mp h k hk
    simpa using this
  refine ⟨⟨by unfold tN; rw [(f 28 (hf 28 (by decide))).1], by unfold tQ; rw [(f 34 (hf 34 (by decide))).1]⟩, fun k hk j _ => ?_, fun k hk j _ => ?_⟩
  · exact (f k (hf k (by rcases hk with rfl | rfl | rfl | rfl | rfl | rfl | rfl <;> decide))).2.2.1 j
  · exact (f k (hf k (by rcases hk with rfl | rfl <;> decide))).2.2.2 j
theorem Ixk.sA {k : Nat} {v : Int32} (hk : k = 31 ∨ k = 32) : Ixk σ (tsA σ k q v) q := ⟨⟨rfl, rfl⟩, fun k' hk' j hj => by rw [tA_tsA, ifF (by omega)], fun _ _ _ _ => rfl⟩
theorem Ixk.sB {v : Int64} : Ixk σ (tsB σ 30 q v) q := ⟨⟨rfl, rfl⟩, fun _ _ _ _ => rfl, fun k' hk' j hj => by rw [tB_tsB, ifF (by omega)]⟩
/-- the index's own end: ] -/
theorem z_ixEnd (Pb : Pe C Mb σb ib depb cb' sb' nb') (E : Es Mb σb M σ) (P : Pe C M σ i dep c s n) (h1 : 1 ≤ c) (h2 : 8 ≤ s) (hI : IxR (cm C) M σ p q) (hp : mn Mb ≤ p ∧ p < mn M) : (∃ M' σ', K_X2_sign 93 M = some (.inl (), M') ∧ F_pass 93 σ = some ((), σ') ∧ Pe C M' σ' (i + 1) dep (c + 16) (s + 2048) (n + 4) ∧ Es Mb σb M' σ' ∧ Fz (fun o => o = 90) M M' ∧ IxR (cm C) M' σ' p q ∧ Ixk σ σ' q ∧ mn M' = mn M) ∨ ∃ w M' σ', K_X2_sign 93 M = some (.inr w, M') ∧ F_pass 93 σ = some ((), σ') ∧ FB C Mb σb M' w σ' := by
  rcases z_pass P h1 h2 (x := 93) (by decide) with ⟨_, _, σ1, a1, a2, a3, a4, a5, _⟩ | ⟨w, M', y, σ', a1, a2, a3⟩
  · have fr := fS_F_pass _ _ _ _ a2
    left
    have e30 := fr 30 rfl
    have e31 := fr 31 rfl
    have e32 := fr 32 rfl
    refine ⟨_, σ1, a1, a2, a3, E.tr a4, a4.1, ?_, Ixk.ft fr (by decide), rfl⟩
    unfold IxR
    rw [e30.2.2.2, e31.2.2.1, e32.2.2.1]
    have hp90 : p ≠ 90 := by have := Pb.n167; omega
    rw [mI_msI, ifF (by omega), mI_msI, ifF (by omega), mI_msI, ifF (by omega)]
    exact hI
  · right
    exact ⟨w, M', σ', a1, a2, a3.tr E⟩
theorem z_index (Pb : Pe C Mb σb ib depb cb' sb' nb') (E : Es Mb σb M σ) (P : Pe C M σ i dep c s n) (h1 : 1 ≤ c) (h2 : 8 ≤ s) (hp : mn Mb ≤ p ∧ p < mn M) (hk : mk M p = 9) (hf : mI M 1601 p = 0 ∧ mI M 1602 p = -1) (hq : tQ σb ≤ q ∧ q < 7000) (h31 : tA σ 31 q = 0) (hz : mI M 1603 p = 0 ∧ tA σ 32 q = 0) : (∃ M' σ' i', (∀ A, sqI p M A = A M') ∧ F_index (nI q) σ = some ((), σ') ∧ Pe C M' σ' i' dep c s n ∧ Es Mb σb M' σ' ∧ i ≤ i' ∧ Fz (fun o => o = 90 ∨ o = p) M M' ∧ mI M' 1600 p = mI M 1600 p ∧ IxR (cm C) M' σ' p q ∧ Ixk σ σ' q) ∨ ∃ w M' σ', (∀ A, sqI p M A = some (.inr (.inr w), M')) ∧ F_index (nI q) σ = some ((), σ') ∧ FB C Mb σb M' w σ' := by
  have h167 := Pb.n167
  have hp90 : p ≠ 90 := by omega
  have gq : inb (nI q) 7000 := inb_nI' hq.2 (by decide)
  have iq : ix (nI q) = q := ix_nI (by omega)
  unfold F_index
  rw [t_isBad0 P.g0, ob_some, ifT rfl]
  rcases z_take P (x := 91) (by decide) with ⟨σ1, a1, a2, a3, a4, a5, a6⟩ | ⟨a1, a2⟩
  · rw [a2, ob_some, ifF (by decide), a3, ob_some]
    have E1 := E.tr a5
    have fr1 := fS_F_next _ _ _ a3
    -- the part has an index
    obtain ⟨P2, E2⟩ := Pb.re E1 a4 (M' := msI (msI M 405 90 (nI (i + 1))) 1601 p 1) (X := fun o => o = p) (Fz.rf.msI (fun _ => rfl)) (fun o z => by rw [z]; exact hp.1) (c' := c + 16) (s' := s + 2048) (Nat.le_refl _) (Nat.le_refl _)
    have F2 : Fz (fun o => o = 90 ∨ o = p) M (msI (msI M 405 90 (nI (i + 1))) 1601 p 1) := (Fz.rf.msI (fun _ => Or.inl rfl)).msI (fun _ => Or.inr rfl)
    have hk2 : mk (msI M 405 90 (nI (i + 1))) p = 9 := hk
    have f2a : mI (msI (msI M 405 90 (nI (i + 1))) 1601 p 1) 1601 p = 1 := by rw [mI_msI, ifT ⟨rfl, rfl⟩]
    have f2b : mI (msI (msI M 405 90 (nI (i + 1))) 1601 p 1) 1602 p = -1 := by rw [mI_msI, ifF (by omega), mI_msI, ifF (by omega)]; exact hf.2
    have f2c : mI (msI (msI M 405 90 (nI (i + 1))) 1601 p 1) 1600 p = mI M 1600 p := by rw [mI_msI, ifF (by omega), mI_msI, ifF (by omega)]
    obtain ⟨g1, g2⟩ := P2.px.in1
    have seq : ∀ A, sqI p M A = obS (K_X2_index p (msI M 405 90 (nI (i + 1)))) (fun w51 M47 => some (.inr (.inr w51), M47)) fun _ M47 => obS (K_X2_sign 93 M47) (fun w56 M52 => some (.inr (.inr w56), M52)) fun _ M52 => A M52 := fun A => by
      unfold sqI
      rw [a1, ob_some, ifF (by decide)]
    have kx : K_X2_index p (msI M 405 90 (nI (i + 1))) = (if mA (msI (msI M 405 90 (nI (i + 1))) 1601 p 1) 91 (i + 1) = 2 then
        obS (K_X2_number 0 32767 (msI (msI M 405 90 (nI (i + 1))) 1601 p 1)) (fun w54 M50 => some (.inr w54, M50)) fun r51 M50 => if mk M50 p = 9 then nm (msI M50 1603 p r51) fun M56 => some (.inl (), M56) else none
      else
        ob (K_X2_isName (msI (msI M 405 90 (nI (i + 1))) 1601 p 1)) fun r5 M4 =>
        if r5 = 0 then ob (K_X2_stop M4) fun r9 M8 => if mk M8 r9 = 7 then some (.inr r9, M8) else none
        else if inb (mI M4 405 90) 2001 then
          ob (K_X2_isLoop (mA M4 92 (ix (mI M4 405 90))) M4) fun r15 M14 =>
          if r15 = 0 then ob (K_X2_stop M14) fun r44 M43 => if mk M43 r44 = 7 then some (.inr r44, M43) else none
          else if inb (mI M14 405 90) 2001 then if mk M14 p = 9 then
            nm (msI M14 1602 p (mA M14 92 (ix (mI M14 405 90)))) fun M20 =>
            nm (msI M20 405 90 ((mI M20 405 90) + 1)) fun M21 =>
            ob (K_X2_isSign 45 M21) fun r23 M22 =>
            if r23 = 0 then ob (K_X2_isSign 43 M22) fun r38 M37 => if r38 = 0 then some (.inl (), M37) else KJ_X2_index_102 p r23 M37
            else KJ_X2_index_102 p r23 M22
            else none else none
        else none) := by
      unfold K_X2_index
      rw [ifT hk2, nm_eq, ifT g1, g2]
    generalize hM2 : msI (msI M 405 90 (nI (i + 1))) 1601 p 1 = M2 at *
    rcases z_num P2 with ⟨n1, n2, n3, _⟩ | ⟨n1, n2⟩
    · -- a number
      rw [ifT n2, ifT gq, nm_eq, iq]
      have fr3 : Ft [31] σ1 (tsA σ1 31 q 1) := (Ft.rf _ σ1).p_tsA rfl
      have P3 := P2.tp fr3 (by decide)
      have E3 : Es Mb σb M2 (tsA σ1 31 q 1) := E2.sA (Or.inl rfl) hq.1
      rw [ifT n1] at kx
      rcases z_number P3 (by omega) (by omega) (hi := 32767) (x2 := 32767) rfl (by decide) with ⟨x, y, σ4, b1, b2, b3, b4, b5, ⟨k, b6, b7, b8⟩, _⟩ | ⟨w, M', y, σ', b1, b2, b3⟩
      · have fr4 := fS_F_passWhole _ _ _ _ b2
        obtain ⟨P5, E5⟩ := Pb.re (E3.tr b4) b3 (M' := msI (msI M2 405 90 (nI (i + 1 + 1))) 1603 p x) (X := fun o => o = p) (Fz.rf.msI (fun _ => rfl)) (fun o z => by rw [z]; exact hp.1) (c' := c + 16 + 16) (s' := s + 2048 + 2048) (Nat.le_refl _) (Nat.le_refl _)
        have hk5 : mk (msI M2 405 90 (nI (i + 1 + 1))) p = 9 := by rw [← hM2]; exact hk
        rw [b1, obS_inl, ifT hk5, nm_eq] at kx
        rw [b2, ob_some, ifT gq, nm_eq]
        have fr6 : Ft [32] σ4 (tsA σ4 32 q y) := (Ft.rf _ σ4).p_tsA rfl
        have P6 := P5.tp fr6 (by decide)
        have E6 : Es Mb σb _ (tsA σ4 32 q y) := E5.sA (Or.inr (Or.inl rfl)) hq.1
        have sm := small_ok b8
        have hI : IxR (cm C) (msI (msI M2 405 90 (nI (i + 1 + 1))) 1603 p x) (tsA σ4 32 q y) p q := by
          refine Or.inr (Or.inl ⟨?_, ?_, ?_, ?_, ?_, ?_⟩)
          · rw [tA_tsA, ifF (by omega), (fr4 31 rfl).2.2.1, tA_tsA, ifT ⟨rfl, rfl⟩]
          · rw [mI_msI, ifF (by omega), mI_msI, ifF (by omega)]; exact f2a
          · rw [mI_msI, ifF (by omega), mI_msI, ifF (by omega)]; exact f2b
          · rw [mI_msI, ifT ⟨rfl, rfl⟩, tA_tsA, ifT ⟨rfl, rfl⟩, b6, b7]
          · rw [tA_tsA, ifT ⟨rfl, rfl⟩, b7]; exact sm.1
          · rw [tA_tsA, ifT ⟨rfl, rfl⟩, b7]; exact sm.2.1
        have ixk : Ixk σ (tsA σ4 32 q y) q := (((Ixk.ft fr1 (by decide)).tr (Ixk.sA (Or.inl rfl))).tr (Ixk.ft fr4 (by decide))).tr (Ixk.sA (Or.inr rfl))
        rcases z_ixEnd Pb E6 P6 (by omega) (by omega) hI ⟨hp.1, by show p < mn M2; rw [← hM2]; exact hp.2⟩ with ⟨M7, σ7, c1, c2, c3, c4, c5, c6, c7, c8⟩ | ⟨w, M7, σ7, c1, c2, c3⟩
        · left
          rw [c2, ob_some]
          refine ⟨M7, σ7, _, fun A => by rw [seq, kx, obS_inl, c1, obS_inl], rfl, c3.wk (by omega) (by omega) (by omega), c4, by omega, ?_, ?_, c6, ixk.tr c7⟩
          · exact ((F2.msI (fun _ => Or.inl rfl)).msI (fun _ => Or.inr rfl)).tr2 c5 (fun _ _ z => Or.inl z)
          · rw [(c5.so (by show p < mn M2; rw [← hM2]; exact hp.2) hp90).i, mI_msI, ifF (by omega), mI_msI, ifF (by omega)]; exact f2c
        · right
          rw [c2, ob_some]
          exact ⟨w, M7, σ7, fun A => by rw [seq, kx, obS_inl, c1, obS_inr], rfl, c3⟩
      · right
        rw [b1, obS_inr] at kx
        rw [b2, ob_some, ifT gq, nm_eq]
        have fb := (b3.tr E3).sA (k := 32) (q := q) (v := y) (Or.inr (Or.inl rfl)) hq.1
        obtain ⟨_, σ8, e8, g8⟩ := bw_pass fb.bd 93
        rw [e8, ob_some]
        exact ⟨w, M', σ8, fun A => by rw [seq, kx, obS_inr], rfl, fb.br g8⟩
    · -- a name of a for
      rw [ifF n2]
      rw [ifF n1] at kx
      -- faults at the name
      have stopped : ∀ (hK : K_X2_index p (msI M 405 90 (nI (i + 1))) = ob (K_X2_stop M2) fun r9 M8 => if mk M8 r9 = 7 then some (.inr r9, M8) else none), ∃ w M' σ', (∀ A, sqI p M A = some (.inr (.inr w), M')) ∧ (ob (F_cantStand σ1) fun _ s17 => ob (F_pass 93 s17) fun _ s21 => some ((), s21)) = some ((), σ') ∧ FB C Mb σb M' w σ' := by
        intro hK
        obtain ⟨r, x, hr, s1, s2⟩ := y_stop P2.px (P2.cap (by omega))
        have fb := (P2.fb (by omega) (by omega) (r := r) (q := x) (by rcases hr with rfl | rfl <;> decide)).tr E2
        obtain ⟨_, σ8, e8, g8⟩ := bw_pass fb.bd 93
        rw [s1, ob_some, ifT (wM_k _ _ _)] at hK
        exact ⟨_, _, σ8, fun A => by rw [seq, hK, obS_inr], by rw [s2, ob_some, e8, ob_some], fb.br g8⟩
      rcases y_name0 P2.px with ⟨w, m1, m2, _, m3, m4, _, m5, m6, m7, m8⟩ | ⟨m1, m2, _⟩
      · rw [m1, ob_some, ifF (by decide), ifT g1, g2, m5] at kx
        rw [m2, ob_some, ifF (by decide), ← m8]
        rcases z_isLoop P2 m7 with ⟨l1, l2, _⟩ | ⟨l1, l2⟩
        · have hk5 : mk M2 p = 9 := by rw [← hM2]; exact hk
          rw [l1, ob_some, ifF (by decide), ifT g1, ifT hk5, nm_eq, g2, m5, nm_eq] at kx
          rw [l2, ob_some, ifF (by decide), ifT gq, nm_eq, ifT gq, nm_eq, iq]
          -- both write the name, and go on
          have fr3 : Ft [30, 31] σ1 (tsB (tsA σ1 31 q 2) 30 q (tL (tsA σ1 31 q 2) 16)) := ((Ft.rf _ σ1).p_tsA rfl).p_tsB rfl
          have E3 : Es Mb σb M2 (tsB (tsA σ1 31 q 2) 30 q (tL (tsA σ1 31 q 2) 16)) := (E2.sA (Or.inl rfl) hq.1).sB (Or.inr rfl) hq.1
          have P3 := P2.tp fr3 (by decide)
          obtain ⟨P4, E4⟩ := Pb.re E3 P3 (M' := msI M2 1602 p (nI w)) (X := fun o => o = p) (Fz.rf.msI (fun _ => rfl)) (fun o z => by rw [z]; exact hp.1) (c' := c + 16) (s' := s + 2048) (Nat.le_refl _) (Nat.le_refl _)
          have h30 : tB (tsB (tsA σ1 31 q 2) 30 q (tL (tsA σ1 31 q 2) 16)) 30 q = wc M2 w := by rw [tB_tsB, ifT ⟨rfl, rfl⟩, m8]; rfl
          have h31' : tA (tsB (tsA σ1 31 q 2) 30 q (tL (tsA σ1 31 q 2) 16)) 31 q = 2 := by rw [tA_tsB, tA_tsA, ifT ⟨rfl, rfl⟩]
          have ixk3 : Ixk σ (tsB (tsA σ1 31 q 2) 30 q (tL (tsA σ1 31 q 2) 16)) q := ((Ixk.ft fr1 (by decide)).tr (Ixk.sA (Or.inl rfl))).tr Ixk.sB
          have h32' : tA (tsB (tsA σ1 31 q 2) 30 q (tL (tsA σ1 31 q 2) 16)) 32 q = tA σ 32 q := by rw [tA_tsB, tA_tsA, ifF (by omega), (fr1 32 rfl).2.2.1]
          generalize tsB (tsA σ1 31 q 2) 30 q (tL (tsA σ1 31 q 2) 16) = σ3 at *
          obtain ⟨σ5, t1, P5, E5'⟩ := z_step P4 m3
          have E5 := E4.tr E5'
          have fr5 := fS_F_next _ _ _ t1
          rw [t1, ob_some]
          have e405 : mI (msI M2 1602 p (nI w)) 405 90 = nI (i + 1) := P4.i5
          rw [e405, nI_addL] at kx
          have F5 : Fz (fun o => o = 90 ∨ o = p) M (msI (msI M2 1602 p (nI w)) 405 90 (nI (i + 1 + 1))) := (F2.msI (fun _ => Or.inr rfl)).msI (fun _ => Or.inl rfl)
          have f5a : mI (msI (msI M2 1602 p (nI w)) 405 90 (nI (i + 1 + 1))) 1601 p = 1 := by rw [mI_msI, ifF (by omega), mI_msI, ifF (by omega)]; exact f2a
          have f5b : mI (msI (msI M2 1602 p (nI w)) 405 90 (nI (i + 1 + 1))) 1602 p = nI w := by rw [mI_msI, ifF (by omega), mI_msI, ifT ⟨rfl, rfl⟩]
          have f5c : mI (msI (msI M2 1602 p (nI w)) 405 90 (nI (i + 1 + 1))) 1600 p = mI M 1600 p := by rw [mI_msI, ifF (by omega), mI_msI, ifF (by omega)]; exact f2c
          have f5d : mI (msI (msI M2 1602 p (nI w)) 405 90 (nI (i + 1 + 1))) 1603 p = mI M 1603 p := by rw [mI_msI, ifF (by omega), mI_msI, ifF (by omega), ← hM2, mI_msI, ifF (by omega), mI_msI, ifF (by omega)]
          have hwc5 : wc (msI (msI M2 1602 p (nI w)) 405 90 (nI (i + 1 + 1))) w = wc M2 w := rfl
          have hn5 : mn (msI (msI M2 1602 p (nI w)) 405 90 (nI (i + 1 + 1))) = mn M := by rw [← hM2]; rfl
          have hk6 : mk (msI (msI M2 1602 p (nI w)) 405 90 (nI (i + 1 + 1))) p = 9 := hk5
          have ixk5 : Ixk σ σ5 q := ixk3.tr (Ixk.ft fr5 (by decide))
          have h30' : tB σ5 30 q = wc M2 w := by rw [(fr5 30 rfl).2.2.2]; exact h30
          have h31' : tA σ5 31 q = 2 := by rw [(fr5 31 rfl).2.2.1]; exact h31'
          have h32' : tA σ5 32 q = tA σ 32 q := by rw [(fr5 32 rfl).2.2.1]; exact h32'
          generalize hM5 : msI (msI M2 1602 p (nI w)) 405 90 (nI (i + 1 + 1)) = M5 at *
          -- with a number that is added
          have plus : ∀ y0 : Int32, y0 = 0 ∨ y0 = 1 → (∃ hi : i + 1 + 1 < ct C, True) → K_X2_index p (msI M 405 90 (nI (i + 1))) = KJ_X2_index_102 p y0 M5 → (∃ M' σ' i', (∀ A, sqI p M A = A M') ∧ J_index_123 (nI q) y0 σ5 = some ((), σ') ∧ Pe C M' σ' i' dep c s n ∧ Es Mb σb M' σ' ∧ i ≤ i' ∧ Fz (fun o => o = 90 ∨ o = p) M M' ∧ mI M' 1600 p = mI M 1600 p ∧ IxR (cm C) M' σ' p q ∧ Ixk σ σ' q) ∨ ∃ w M' σ', (∀ A, sqI p M A = some (.inr (.inr w), M')) ∧ J_index_123 (nI q) y0 σ5 = some ((), σ') ∧ FB C Mb σb M' w σ' := by
            intro y0 hy hi kx
            obtain ⟨hi, -⟩ := hi
            obtain ⟨σ6, u1, P6, E6'⟩ := z_step P5 hi
            have E6 := E5.tr E6'
            have fr6 := fS_F_next _ _ _ u1
            unfold J_index_123
            rw [u1, ob_some]
            unfold KJ_X2_index_102 at kx
            rw [nm_eq, P5.i5, nI_addL] at kx
            rcases z_number P6 (by omega) (by omega) (hi := 32767) (x2 := 32767) rfl (by decide) with ⟨x, y, σ7, b1, b2, b3, b4, b5, ⟨k, b6, b7, b8⟩, _⟩ | ⟨w', M', y, σ', b1, b2, b3⟩
            · have fr7 := fS_F_passWhole _ _ _ _ b2
              have sm := small_ok b8
              rw [b1, obS_inl] at kx
              rw [b2, ob_some]
              have fin : ∀ v : Int32, (-32767 ≤ v ∧ v ≤ 32767) → K_X2_index p (msI M 405 90 (nI (i + 1))) = some (.inl (), msI (msI (msI M5 405 90 (nI (i + 1 + 1 + 1))) 405 90 (nI (i + 1 + 1 + 1 + 1))) 1603 p v) → (∃ M' σ' i', (∀ A, sqI p M A = A M') ∧ (ob (F_pass 93 (tsA σ7 32 q v)) fun _ s59 => some ((), s59)) = some ((), σ') ∧ Pe C M' σ' i' dep c s n ∧ Es Mb σb M' σ' ∧ i ≤ i' ∧ Fz (fun o => o = 90 ∨ o = p) M M' ∧ mI M' 1600 p = mI M 1600 p ∧ IxR (cm C) M' σ' p q ∧ Ixk σ σ' q) ∨ ∃ w M' σ', (∀ A, sqI p M A = some (.inr (.inr w), M')) ∧ (ob (F_pass 93 (tsA σ7 32 q v)) fun _ s59 => some ((), s59)) = some ((), σ') ∧ FB C Mb σb M' w σ' := by
                intro v hv kx
                obtain ⟨P8, E8⟩ := Pb.re (E6.tr b4) b3 (M' := msI (msI (msI M5 405 90 (nI (i + 1 + 1 + 1))) 405 90 (nI (i + 1 + 1 + 1 + 1))) 1603 p v) (X := fun o => o = p) (Fz.rf.msI (fun _ => rfl)) (fun o z => by rw [z]; exact hp.1) (c' := c + 16 + 16 + 16 + 16) (s' := s + 2048 + 2048 + 2048 + 2048) (Nat.le_refl _) (Nat.le_refl _)
                have fr9 : Ft [32] σ7 (tsA σ7 32 q v) := (Ft.rf _ σ7).p_tsA rfl
                have P9 := P8.tp fr9 (by decide)
                have E9 : Es Mb σb _ (tsA σ7 32 q v) := E8.sA (Or.inr (Or.inl rfl)) hq.1
                have hI : IxR (cm C) (msI (msI (msI M5 405 90 (nI (i + 1 + 1 + 1))) 405 90 (nI (i + 1 + 1 + 1 + 1))) 1603 p v) (tsA σ7 32 q v) p q := by
                  refine Or.inr (Or.inr ⟨?_, ?_, ⟨w, ?_, m6, m7, ?_⟩, ?_, ?_, ?_⟩)
                  · rw [tA_tsA, ifF (by omega), (fr7 31 rfl).2.2.1, (fr6 31 rfl).2.2.1]; exact h31'
                  · rw [mI_msI, ifF (by omega), mI_msI, ifF (by omega), mI_msI, ifF (by omega)]; exact f5a
                  · rw [mI_msI, ifF (by omega), mI_msI, ifF (by omega), mI_msI, ifF (by omega)]; exact f5b
                  · rw [tB_tsA, (fr7 30 rfl).2.2.2, (fr6 30 rfl).2.2.2, h30']; exact hwc5.symm
                  · rw [mI_msI, ifT ⟨rfl, rfl⟩, tA_tsA, ifT ⟨rfl, rfl⟩]
                  · rw [tA_tsA, ifT ⟨rfl, rfl⟩]; exact hv.1
                  · rw [tA_tsA, ifT ⟨rfl, rfl⟩]; exact hv.2
                have ixk9 : Ixk σ (tsA σ7 32 q v) q := ((ixk5.tr (Ixk.ft fr6 (by decide))).tr (Ixk.ft fr7 (by decide))).tr (Ixk.sA (Or.inr rfl))
                rcases z_ixEnd Pb E9 P9 (by omega) (by omega) hI ⟨hp.1, by show p < mn M5; omega⟩ with ⟨M7, σ7', c1, c2, c3, c4, c5, c6, c7, c8⟩ | ⟨w, M7, σ7', c1, c2, c3⟩
                · left
                  rw [c2, ob_some]
                  refine ⟨M7, σ7', _, fun A => by rw [seq, kx, obS_inl, c1, obS_inl], rfl, c3.wk (by omega) (by omega) (by omega), c4, by omega, ?_, ?_, c6, ixk9.tr c7⟩
                  · exact (((F5.msI (fun _ => Or.inl rfl)).msI (fun _ => Or.inl rfl)).msI (fun _ => Or.inr rfl)).tr2 c5 (fun _ _ z => Or.inl z)
                  · rw [(c5.so (by show p < mn M5; omega) hp90).i, mI_msI, ifF (by omega), mI_msI, ifF (by omega), mI_msI, ifF (by omega)]; exact f5c
                · right
                  rw [c2, ob_some]
                  exact ⟨w, M7, σ7', fun A => by rw [seq, kx, obS_inl, c1, obS_inr], rfl, c3⟩
              have hk8 : mk (msI (msI M5 405 90 (nI (i + 1 + 1 + 1))) 405 90 (nI (i + 1 + 1 + 1 + 1))) p = 9 := hk6
              rcases hy with rfl | rfl
              · rw [ifT rfl, ifT hk8, nm_eq] at kx
                rw [ifT rfl, ifT gq, nm_eq, iq]
                have := fin x (by rw [b6]; exact ⟨sm.1, sm.2.1⟩) kx
                rw [b6] at this
                rw [b7]; exact this
              · rw [ifF (by decide), ifT hk8, nm_eq] at kx
                rw [ifF (by decide), ifT gq, nm_eq, iq]
                have := fin (-x) (by rw [b6]; exact ⟨sm.2.2.1, sm.2.2.2⟩) kx
                rw [b6] at this
                rw [b7]; exact this
            · right
              rw [b1, obS_inr] at kx
              have fb : ∀ v : Int32, FB C Mb σb M' w' (tsA σ' 32 q v) := fun v => (b3.tr E6).sA (Or.inr (Or.inl rfl)) hq.1
              rw [b2, ob_some]
              rcases hy with rfl | rfl
              · rw [ifT rfl, ifT gq, nm_eq, iq]
                obtain ⟨_, σ8, e8, g8⟩ := bw_pass (fb y).bd 93
                rw [e8, ob_some]
                exact ⟨w', M', σ8, fun A => by rw [seq, kx, obS_inr], rfl, (fb y).br g8⟩
              · rw [ifF (by decide), ifT gq, nm_eq, iq]
                obtain ⟨_, σ8, e8, g8⟩ := bw_pass (fb (-y)).bd 93
                rw [e8, ob_some]
                exact ⟨w', M', σ8, fun A => by rw [seq, kx, obS_inr], rfl, (fb (-y)).br g8⟩
          rcases y_sign P5.px (c := 43) (by decide) with ⟨u1, u2, u3, u4, u5⟩ | ⟨u1, u2, u3⟩
          · -- +
            have v1 : K_X2_isSign 45 M5 = some (0, M5) := by
              rcases y_sign P5.px (c := 45) (by decide) with ⟨_, _, _, _, v5⟩ | ⟨v1, _⟩
              · rw [u5] at v5; exact absurd v5 (by decide)
              · exact v1
            rw [v1, ob_some, ifT rfl, u1, ob_some, ifF (by decide)] at kx
            rw [u2, ob_some, ifF (by decide)]
            unfold J_index_109
            rw [u5, ifF (by decide)]
            exact plus 0 (Or.inl rfl) ⟨u3, trivial⟩ kx
          · rcases y_sign P5.px (c := 45) (by decide) with ⟨v1, v2, v3, v4, v5⟩ | ⟨v1, v2, v3⟩
            · rw [v1, ob_some, ifF (by decide)] at kx
              rw [u2, ob_some, ifT rfl, v2, ob_some, ifF (by decide)]
              unfold J_index_109
              rw [ifT v5]
              exact plus 1 (Or.inr rfl) ⟨v3, trivial⟩ kx
            · rw [v1, ob_some, ifT rfl, u1, ob_some, ifT rfl] at kx
              rw [u2, ob_some, ifT rfl, v2, ob_some, ifT rfl]
              have hI : IxR (cm C) M5 σ5 p q := by
                refine Or.inr (Or.inr ⟨h31', f5a, ⟨w, f5b, m6, m7, by rw [h30']; exact hwc5.symm⟩, ?_, ?_, ?_⟩)
                · rw [f5d, h32', hz.1, hz.2]
                · rw [h32', hz.2]; decide
                · rw [h32', hz.2]; decide
              rcases z_ixEnd Pb E5 P5 (by omega) (by omega) hI ⟨hp.1, by omega⟩ with ⟨M7, σ7', c1, c2, c3, c4, c5, c6, c7, c8⟩ | ⟨w, M7, σ7', c1, c2, c3⟩
              · left
                rw [c2, ob_some]
                refine ⟨M7, σ7', _, fun A => by rw [seq, kx, obS_inl, c1, obS_inl], rfl, c3.wk (by omega) (by omega) (by omega), c4, by omega, ?_, ?_, c6, ixk5.tr c7⟩
                · exact F5.tr2 c5 (fun _ _ z => Or.inl z)
                · rw [(c5.so (by omega) hp90).i]; exact f5c
              · right
                rw [c2, ob_some]
                exact ⟨w, M7, σ7', fun A => by rw [seq, kx, obS_inl, c1, obS_inr], rfl, c3⟩
        · right
          rw [l1, ob_some, ifT rfl] at kx
          rw [l2, ob_some, ifT rfl]
          exact stopped kx
      · right
        rw [m1, ob_some, ifT rfl] at kx
        rw [m2, ob_some, ifT rfl]
        exact stopped kx
  · rw [a2, ob_some, ifT rfl]
    left
    exact ⟨M, σ, i, fun A => by unfold sqI; rw [a1, ob_some, ifT rfl], rfl, P, E, Nat.le_refl _, Fz.rf, rfl, Or.inl ⟨h31, hf.1, hf.2⟩, Ixk.rf σ q⟩
end INDEX
