/-! Layer B: equations: names of fors come and go -/
set_option maxRecDepth 100000
def PC.fo (C : PC) (w : Nat) : PC := (cb C, cl C, cm C, ct C, cp C, cN C, cS C, cnf C, cfn C, cnl C + 1, (fun k => if k = cnl C then w else clw C k), car C)
theorem lst_snoc : ∀ (l : List Nat), l ≠ [] → ∃ xs x, l = xs ++ [x]
  | [], h => absurd rfl h
  | [a], _ => ⟨[], a, rfl⟩
  | a :: b :: t, _ => by
    obtain ⟨xs, x, e⟩ := lst_snoc (b :: t) (by simp)
    exact ⟨a :: xs, x, by rw [e]; rfl⟩
section FORS
variable {C C' : PC} {M M' M0 M1 M2 Mb : CM} {σ σ' σ0 σ1 σ2 σb s1 : TS} {i dep c s n i' dep' c' s' n' w d0 l o p : Nat} {ps xs : List Nat} {X : Nat → Prop} {α β : Type}
/-- the last one is taken out of a row -/
theorem ls_pop {x : Nat} (h : Ls M l (xs ++ [x])) (hl : l < mn M) (hla : mR M 4201 l ≠ l) : ∃ M', K_J2_size l M = some (nI (xs.length + 1), M) ∧ K_J2_remove l (nI xs.length) M = some (x, M') ∧ Ls M' l xs ∧ Fz (fun o => o = l ∨ o = mR M 4201 l) M M' ∧ mn M' = mn M ∧ ms M' = ms M ∧ ∀ g o, mR M' g o = mR M g o := by
  have hL := h
  have hlen : (xs ++ [x]).length = xs.length + 1 := by simp
  obtain ⟨a1, a2, a3, a5, a4⟩ := h
  have hsz := ls_size hL
  rw [hlen] at a2 a3 hsz
  rcases a4 with ⟨_, q⟩ | ⟨q1, q2, q3, q4, q5, q6⟩
  · exact absurd q (by simp)
  rw [hlen] at q3
  have hx : mX M (mR M 4201 l) xs.length = x := by
    rw [q6 xs.length (by omega), show xs.length = xs.length + 0 from rfl, getD_app_r]; rfl
  have hx' : mX M (mR M 4201 l) (ix (nI xs.length)) = x := by rw [ix_nI (by omega)]; exact hx
  have h0 : ¬ nI xs.length < 0 := by rw [nI_ltL (by omega) (by decide)]; exact Nat.not_lt_zero _
  have h1 : nI xs.length < nI (xs.length + 1) := by rw [bI_lt (by omega) (by omega)]; omega
  have hin : inb (nI xs.length) (ml M (mR M 4201 l)) := inb_nI' (by omega) (by omega)
  have e4 : mI (msI M 4200 l (mI M 4200 l + 1)) 4202 l = nI (xs.length + 1) := by rw [mI_msI, ifF (by omega)]; exact a2
  have e5 : nI (xs.length + 1) - 1 = nI xs.length := by rw [show (1 : Int32) = nI 1 from rfl, nI_sub (by omega)]; rfl
  refine ⟨mwX (msI (msI M 4200 l (mI M 4200 l + 1)) 4202 l (nI xs.length)) (mR M 4201 l) xs.length 0, hsz, ?_, ?_, ?_, rfl, rfl, fun _ _ => rfl⟩
  · unfold K_J2_remove K_J10_checkIndex K_J5_checkIndex K_J2_fastRemove
    rw [ifT a1, a2, ifF h0, ifT h1, ob_some, ob_some, ifT a1, nm_eq, ifT ⟨q2, hin⟩, nm_eq, hx', ifT a1, ifT a1, ifT a1, nm_eq, ifT (show mk (msI M 4200 l (mI M 4200 l + 1)) l = 22 from a1), e4, e5, nm_eq, ifT (show nI xs.length ≤ nI xs.length from by rw [bI_le (by omega) (by omega)]; exact Nat.le_refl _), ifT (show mk (msI M 4200 l (mI M 4200 l + 1)) l = 22 from a1), nm_eq, ifT (show mk (msI (msI M 4200 l (mI M 4200 l + 1)) 4202 l (nI xs.length)) (mR M 4201 l) = 55 ∧ inb (nI xs.length) (ml (msI (msI M 4200 l (mI M 4200 l + 1)) 4202 l (nI xs.length)) (mR M 4201 l)) ∧ goodRef (msI (msI M 4200 l (mI M 4200 l + 1)) 4202 l (nI xs.length)) 0 from ⟨q2, hin, Or.inl rfl⟩), nm_eq, ix_nI (by omega), ob_some]
  · refine ⟨a1, ?_, by omega, fun i hi => ?_, Or.inr ⟨q1, q2, by show xs.length ≤ ml M (mR M 4201 l); omega, q4, q5, fun i hi => ?_⟩⟩
    · show mI (msI (msI M 4200 l (mI M 4200 l + 1)) 4202 l (nI xs.length)) 4202 l = _
      rw [mI_msI, ifT ⟨rfl, rfl⟩]
    · have := a5 i (by rw [hlen]; omega)
      rw [getD_app_l hi] at this
      exact this
    · show mX (mwX (msI (msI M 4200 l (mI M 4200 l + 1)) 4202 l (nI xs.length)) (mR M 4201 l) xs.length 0) (mR M 4201 l) i = _
      rw [mX_mwX, ifF (by omega)]
      have := q6 i (by rw [hlen]; omega)
      rw [getD_app_l hi] at this
      exact this
  · exact (((Fz.rf (X := fun o => o = l ∨ o = mR M 4201 l)).msI (fun _ => Or.inl rfl)).msI (fun _ => Or.inl rfl)).mwX (fun _ => Or.inr rfl)
theorem Se.so (h : Se C M) (hf : FuR C M σ) (h167 : 167 ≤ mn M) (s95 : So M M' 95) (so : ∀ o, o < mn M → Df C M o → So M M' o) : Se C M' := by
  obtain ⟨h1, h2, h3⟩ := h
  obtain ⟨fs, nfs, c1, c2, c3, c4, c5, c6⟩ := hf
  have sc : ∀ k, k < cnf C → So M M' (cfn C k) := fun k hk => so _ (c6 k hk).2.1.2.1 (Or.inr (Or.inr (Or.inr (Or.inr ⟨k, hk, Or.inl rfl⟩))))
  have sa : ∀ k, k < cnf C → So M M' (mR M 1001 (cfn C k)) := fun k hk => by
    obtain ⟨_, _, _, bs, g1, g2, _⟩ := c6 k hk
    exact so _ g2 (Or.inr (Or.inr (Or.inr (Or.inr ⟨k, hk, Or.inr (Or.inl rfl)⟩))))
  refine ⟨by rw [s95.r]; exact h1, fun k hk => by rw [(sc k hk).r]; exact h2 k hk, ?_⟩
  rw [s95.r, (so 89 (by omega) (Or.inl rfl)).r, (so 96 (by omega) (Or.inr (Or.inl rfl))).r]
  rcases h3 with q | ⟨q0, q1, q2, q3⟩
  · exact Or.inl q
  · exact Or.inr ⟨q0, q1, q2, fun k hk => by rw [(sc k hk).r, (sa k hk).r]; exact q3 k hk⟩
theorem Me.es {dep0 : Nat} (h : Me C M σ i dep) (P : Pe C M σ i dep0 c s n) (E : Es M σ M' σ') (hi : i ≤ i') (hd : cnl C ≤ dep') : Me C M' σ' i' dep' := by
  have h167 := P.n167
  have k90 := P.en.1
  obtain ⟨⟨⟨m1, m2⟩, m3⟩, ⟨k, m4, m5, m6⟩, ⟨e, m7, m8, m9⟩, ⟨_, m11, m12⟩, m13⟩ := h
  have so : ∀ o, o < mn M → o ≠ 90 → So M M' o := fun o ho h => E.1.so ho h
  have s := so _ m3 (by omega)
  have e411 := E.2.1 411
  have hn := E.1.1
  obtain ⟨fs, nfs, c1, c2, c3, c4, c5, c6⟩ := P.en.2.2.2.1
  obtain ⟨bs, l95⟩ := P.l95
  refine ⟨⟨⟨by rw [e411, s.k]; exact m1, by rw [e411]; exact m2⟩, by rw [e411]; omega⟩, ⟨k, by rw [e411, s.i]; exact m4, by rw [(E.2.2.2.2 73 rfl).1]; exact m5, m6⟩, ⟨e, by rw [(E.2.2.2.2 72 rfl).1]; exact m7, m8, by omega⟩, ⟨hd, m11, m12⟩, m13.so P.en.2.2.2.1 h167 (so 95 (by omega) (by decide)) (fun o ho hf => so o ho (fun z => ?_))⟩
  rcases hf with q | q | q | q | ⟨j, hj, q⟩
  · omega
  · omega
  · have h90 : mR M 4201 89 = 90 := by omega
    have := c1.k55 P.c6 (by omega)
    rw [h90, k90] at this; exact absurd this (by decide)
  · have h90 : mR M 4201 96 = 90 := by omega
    have := c2.k55 P.c6 (by omega)
    rw [h90, k90] at this; exact absurd this (by decide)
  · obtain ⟨_, ⟨e1, e2, _⟩, _, bs2, g1, g2, _⟩ := c6 j hj
    rcases q with q | q | q
    · have h90 : cfn C j = 90 := by omega
      rw [h90, k90] at e1; exact absurd e1 (by decide)
    · have h90 : mR M 1001 (cfn C j) = 90 := by omega
      have := g1.1
      rw [h90, k90] at this; exact absurd this (by decide)
    · have h90 : mR M 4201 (mR M 1001 (cfn C j)) = 90 := by omega
      have := g1.k55 P.c6 (by omega)
      rw [h90, k90] at this; exact absurd this (by decide)
/-- what the row of names may be written leaves of functions -/
theorem fr_so (P : Pe C M σ i dep c s n) (hS : Se C M) (F : Fz (fun o => o = 95 ∨ o = mR M 4201 95) M M') : ∀ o, o < mn M → Df C M o → So M M' o := by
  have h167 := P.n167
  obtain ⟨bs, l95⟩ := P.l95
  obtain ⟨fs, nfs, c1, c2, c3, c4, c5, c6⟩ := P.en.2.2.2.1
  obtain ⟨s1, s2, s3⟩ := hS
  intro o ho hf
  refine F.so ho (fun z => ?_)
  have k55 : o = mR M 4201 95 → mk M o = 55 := fun q => by rw [q] at ho ⊢; exact l95.k55 P.c6 ho
  have hne : o = mR M 4201 95 → ¬ mR M 4201 95 = 4398046511104 := fun q => by have := P.c6; omega
  rcases hf with q | q | q | q | ⟨j, hj, q⟩
  · rcases z with z | z
    · omega
    · have := k55 z; rw [q, c1.1] at this; exact absurd this (by decide)
  · rcases z with z | z
    · omega
    · have := k55 z; rw [q, c2.1] at this; exact absurd this (by decide)
  · rcases z with z | z
    · have := c1.k55 P.c6 (by omega)
      rw [← q, z, l95.1] at this; exact absurd this (by decide)
    · rcases s3 with g | ⟨_, g, _⟩
      · exact hne z g
      · exact g (q.symm.trans z)
  · rcases z with z | z
    · have := c2.k55 P.c6 (by omega)
      rw [← q, z, l95.1] at this; exact absurd this (by decide)
    · rcases s3 with g | ⟨_, _, g, _⟩
      · exact hne z g
      · exact g (q.symm.trans z)
  · obtain ⟨_, ⟨e1, e2, _⟩, _, bs2, g1, g2, _⟩ := c6 j hj
    rcases q with q | q | q
    · rcases z with z | z
      · rw [← q, z, l95.1] at e1; exact absurd e1 (by decide)
      · have := k55 z; rw [q, e1] at this; exact absurd this (by decide)
    · rcases z with z | z
      · exact s2 j hj (q.symm.trans z)
      · have := k55 z; rw [q, g1.1] at this; exact absurd this (by decide)
    · rcases z with z | z
      · have := g1.k55 P.c6 (by omega)
        rw [← q, z, l95.1] at this; exact absurd this (by decide)
      · rcases s3 with g | ⟨_, _, _, g⟩
        · exact hne z g
        · exact g j hj (q.symm.trans z)
/-- both readers, when the row of names has been written -/
theorem fo_pe (P : Pe C M σ i dep c s n) (hM : Me C M σ i d0) (F : Fz (fun o => o = 95 ∨ o = mR M 4201 95) M M') (f : Ft [35, 37] σ σ') (hD : (cb C' = cb C ∧ cl C' = cl C ∧ cm C' = cm C ∧ ct C' = ct C) ∧ (cp C' = cp C ∧ cN C' = cN C ∧ cS C' = cS C ∧ cnf C' = cnf C ∧ cfn C' = cfn C ∧ car C' = car C)) (hL : (∀ w, wc M' w = wc M w) → LoR C' M' σ') (ha : mR M' 4201 95 = mR M 4201 95 ∨ mn M ≤ mR M' 4201 95 ∧ mR M' 4201 95 < mn M') (h95 : mR M' 4201 95 ≠ 95) (h1 : mn M' + c' ≤ mn M + c) (h2 : ms M' + s' ≤ ms M + s) (hd : cnl C' ≤ dep') : Pe C' M' σ' i dep c' s' n ∧ Me C' M' σ' i dep' ∧ Ee M σ M' σ' := by
  have P0 := P
  have h167 := P.n167
  have hc6 := P.c6
  have k90 := P.en.1
  obtain ⟨L, W, h1280⟩ := P.wb
  obtain ⟨bs, l95⟩ := P.l95
  have fso := fr_so P hM.2.2.2.2 F
  have hfu := P.en.2.2.2.1
  obtain ⟨⟨⟨m1, m2⟩, m3⟩, ⟨k, m4, m5, m6⟩, ⟨e, m7, m8, m9⟩, ⟨_, m11, m12⟩, m13⟩ := hM
  have m130 := m13
  obtain ⟨t1, t2, t3⟩ := m13
  have k55 : mR M 4201 95 < mn M → mk M (mR M 4201 95) = 55 := fun q => l95.k55 hc6 q
  have so : ∀ o, o < mn M → o ≠ 95 → mk M o ≠ 55 → So M M' o := fun o ho h1 h2 => F.so ho (fun z => by
    rcases z with z | z
    · exact h1 z
    · rw [z] at ho h2; exact h2 (k55 ho))
  have hK4 : mk M 4 ≠ 55 := by
    obtain ⟨⟨⟨hK, -⟩, -⟩, -⟩ := P
    rw [hK.1.2.2.2.2.2]; decide
  have s90 := so 90 (by omega) (by decide) (by rw [k90]; decide)
  have hw : ∀ w, wc M' w = wc M w := wc_so (so 4 (by omega) (by decide) hK4) (so _ W.2.2.2.2.2.2.2.1 (fun z => by have := W.2.1; rw [z, l95.1] at this; exact absurd this (by decide)) (by rw [W.2.1]; decide))
  have smo := so _ m3 (by omega) (by rw [m1]; decide)
  have hn := F.1
  obtain ⟨⟨d1, d2, d3, d4⟩, d5, d6, d7, d8, d9, d10⟩ := hD
  obtain ⟨a1, ⟨b1, b2, b3, b4, b5⟩, a3, ⟨a4, a5, a6, a7⟩, N, Q, ⟨a8, a9, a10⟩, a11, a12, a13⟩ := P
  refine ⟨⟨?_, ⟨by rw [s90.k]; exact b1, Nat.le_trans b2 F.1, hL hw, ?_, ?_⟩, ⟨by rw [s90.i]; exact a3.1, by rw [(f 20 rfl).1]; exact a3.2.1, a3.2.2⟩, ⟨by rw [d4, d6]; omega, by rw [d4, d7]; omega, by rw [d6, d7, d4]; exact ⟨a6, a7.1, a7.2⟩⟩, N, Q, ⟨by rw [(f 28 rfl).1]; exact a8, by unfold Lo; rw [d9]; exact a9, by rw [d4]; exact a10⟩, by rw [(f 34 rfl).1]; exact a11, a12, by rw [d4]; exact a13⟩, ⟨⟨⟨by rw [s90.r, smo.k]; exact m1, by rw [s90.r]; exact m2⟩, by rw [s90.r]; omega⟩, ⟨k, by rw [s90.r, smo.i]; exact m4, by rw [(f 73 rfl).1]; exact m5, m6⟩, ⟨e, by rw [(f 72 rfl).1]; exact m7, m8, by unfold cX; rw [d4, d9]; exact m9⟩, ⟨hd, by rw [d10]; exact m11, by rw [d2]; exact m12⟩, ?_⟩, ⟨⟨F.mono (fun o ho z => by rcases z with z | z; exact Or.inr (Or.inl z); exact Or.inr (Or.inr (Or.inl z))), by rcases ha with q | q; exact Or.inl q; exact Or.inr q.1, fun g => s90.r g, fun _ _ => ⟨fun g => smo.r g, fun g _ => smo.i g⟩⟩, ⟨Tz.ft f (by decide), Qz.ft f (by decide)⟩, f.mono (by decide)⟩⟩
  · rw [d1, d2, d3, d4, d5]
    refine a1.go F.lt (fun o z => Or.inr ?_) (s90.i _) (by rw [s90.i]; exact a1.2.2.1.2.1) a1.2.2.1.2.2 (a1.2.2.2.1.1.kp f rfl rfl) (a1.2.2.2.1.2.1.kp f rfl rfl) (by rw [(f 0 rfl).1]; exact a1.2.2.2.1.2.2.1) (by rw [(f 18 rfl).1]; exact a1.2.2.2.1.2.2.2) ?_ ?_
    · obtain ⟨z1, z2⟩ := z
      rcases z2 with z2 | z2
      · exact ⟨by omega, fun q => by have := W.2.1; rw [← q, z2, l95.1] at this; exact absurd this (by decide)⟩
      · rcases t3 with g | ⟨g, _⟩
        · omega
        · exact ⟨by omega, fun q => by have := W.2.1; rw [← q, z2, k55 (by omega)] at this; exact absurd this (by decide)⟩
    · obtain ⟨kd, s, c1, c2⟩ := a1.2.2.2.2.1
      refine ⟨kd, s, by rw [(f 11 rfl).1, (f 12 rfl).1]; exact c1, ?_⟩
      rw [(f 14 rfl).1, (f 15 rfl).1, (f 17 rfl).1, (f 16 rfl).2.1]; exact c2
    · rw [(f 10 rfl).1]; exact a1.2.2.2.2.2
  · have := b4.so (σ' := σ') F fso h167 hw (f 48 rfl).1 (f 42 rfl).2.2.1 (f 40 rfl).2.2.2
    unfold FuR FnR at this ⊢
    rw [d8, d9, d3]; exact this
  · unfold MaR
    rw [d10, d3]
    rcases b5 with ⟨q1, q2, q3⟩ | ⟨q, _⟩
    · exact Or.inl ⟨q1, by rw [s90.r]; exact q2, by rw [(f 39 rfl).1]; exact q3⟩
    · omega
  · obtain ⟨fs, nfs, c1, c2, c3, c4, c5, c6⟩ := hfu
    have sc : ∀ k, k < cnf C → So M M' (cfn C k) := fun k hk => fso _ (c6 k hk).2.1.2.1 (Or.inr (Or.inr (Or.inr (Or.inr ⟨k, hk, Or.inl rfl⟩))))
    have sa : ∀ k, k < cnf C → So M M' (mR M 1001 (cfn C k)) := fun k hk => by
      obtain ⟨_, _, _, bs, g1, g2, _⟩ := c6 k hk
      exact fso _ g2 (Or.inr (Or.inr (Or.inr (Or.inr ⟨k, hk, Or.inr (Or.inl rfl)⟩))))
    unfold Se
    rw [d8, d9]
    refine ⟨h95, fun k hk => by rw [(sc k hk).r]; exact t2 k hk, ?_⟩
    rw [(fso 89 (by omega) (Or.inl rfl)).r, (fso 96 (by omega) (Or.inr (Or.inl rfl))).r]
    rcases ha with q | ⟨q, q'⟩
    · rw [q]
      rcases t3 with g | ⟨g0, g1, g2, g3⟩
      · exact Or.inl g
      · exact Or.inr ⟨g0, g1, g2, fun k hk => by rw [(sc k hk).r, (sa k hk).r]; exact g3 k hk⟩
    · by_cases g : mR M' 4201 95 = 4398046511104
      · exact Or.inl g
      · refine Or.inr ⟨by omega, ?_, ?_, fun k hk => ?_⟩
        · rcases c1.lt with z | z <;> omega
        · rcases c2.lt with z | z <;> omega
        · rw [(sc k hk).r, (sa k hk).r]
          obtain ⟨_, _, _, bs, g1, g2, _⟩ := c6 k hk
          rcases g1.lt with z | z <;> omega
/-- a name comes -/
theorem z_forIn {kK : CM → Option α} {kT : TS → Option β} (P : Pe C M σ i dep c s n) (hM : Me C M σ i d0) (hd : cnl C + 1 ≤ dep') (hd16 : dep' ≤ 16) (hw : 38 ≤ w ∧ w < 38 + cm C) (hc : 2 ≤ c) (hs : 1948 ≤ s) : ∃ M' σ', (ob (K_J16_valueOf (nI w) M) fun r121 M120 => ob (K_J2_add 95 r121 M120) fun _ M124 => kK M124) = kK M' ∧ (if inb (tI σ 37) 20 then nm (tsB σ 35 (ix (tI σ 37)) (wc M w)) fun s38 => nm (tsI s38 37 ((tI s38 37) + 1)) kT else none) = kT σ' ∧ Pe (C.fo w) M' σ' i dep (c - 2) (s - 1948) n ∧ Me (C.fo w) M' σ' i dep' ∧ Ee M σ M' σ' ∧ Fz (fun o => o = 95 ∨ o = mR M 4201 95) M M' := by
  have h167 := P.n167
  obtain ⟨b, M1, b1, b2, b3, F1, n1, s1⟩ := z_box P hw (by omega) (by omega)
  have P1 := P.al F1 (c' := c - 1) (s' := s - 1) (by omega) (by omega)
  have E1 := Es.al (σ := σ) F1 h167
  have M1' := hM.es P E1 (Nat.le_refl i) (hM.2.2.2.1.1)
  obtain ⟨bs, l1, l2, l3, l4, l5⟩ := P1.en.2.2.1
  have cap := P1.cap (k := 1000) (by omega)
  obtain ⟨M2, a1, a2, a3, a4, a5, a6, a7, a8⟩ := ls_add l1 b3 (by have := P1.n167; omega) M1'.2.2.2.2.1 (by omega) ⟨cap.1, by omega⟩
  have hnn : mn M1 ≤ mn M2 ∧ mn M2 ≤ mn M1 + 1 ∧ ms M2 ≤ ms M1 + 1900 := by
    rcases a4 with ⟨_, q1, q2⟩ | ⟨_, q1, q2, _⟩ <;> omega
  have F2 : Fz (fun o => o = 95 ∨ o = mR M1 4201 95) M1 M2 := ⟨hnn.1, a5, fun x hx hX => a3 x hx (fun z => hX (Or.inl z)) (fun z => hX (Or.inr z.1))⟩
  have hin : inb (tI σ 37) 20 := by rw [l4]; exact inb_nI' (by omega) (by decide)
  have hix : ix (tI σ 37) = cnl C := by rw [l4, ix_nI (by omega)]
  have f : Ft [35, 37] σ (tsI (tsB σ 35 (cnl C) (wc M w)) 37 (nI (cnl C + 1))) := ((Ft.rf [35, 37] σ).p_tsB rfl).p_tsI rfl
  have hw1 : ∀ w, wc M1 w = wc M w := fun w => P.wcs F1 (fun o z => absurd z (fun q => q)) w
  obtain ⟨P2, M2', E2⟩ := fo_pe (C' := C.fo w) (c' := c - 2) (s' := s - 1948) P1 M1' F2 f ⟨⟨rfl, rfl, rfl, rfl⟩, rfl, rfl, rfl, rfl, rfl, rfl⟩ (fun hw2 => by
    refine ⟨bs ++ [b], a2, by show (bs ++ [b]).length = cnl C + 1; simp [l2], by show cnl C + 1 ≤ 16; omega, rfl, fun k hk => ?_⟩
    have hk : k < cnl C + 1 := hk
    have hX23 : ∀ o, (o < mn M1 ∧ (o = 95 ∨ o = mR M1 4201 95)) → mk M1 o ≠ 23 := fun o z => by
      rcases z.2 with q | q
      · rw [q, l1.1]; decide
      · have := z.1
        rw [q] at this ⊢; rw [l1.k55 P1.c6 this]; decide
    show BxR M2 (cm C) ((bs ++ [b]).getD k 0) (if k = cnl C then w else clw C k) ∧ tB (tsB σ 35 (cnl C) (wc M w)) 35 k = wc M2 (if k = cnl C then w else clw C k)
    by_cases q : k = cnl C
    · rw [if_pos q, tB_tsB, ifT ⟨rfl, q⟩, hw2, hw1, q, show cnl C = bs.length + 0 by omega, getD_app_r]
      exact ⟨b2.fz F2.lt hX23, rfl⟩
    · rw [if_neg q, tB_tsB, ifF (by omega), getD_app_l (by omega)]
      obtain ⟨q1, q2⟩ := l5 k (by omega)
      exact ⟨q1.fz F2.lt hX23, by rw [hw2]; exact q2⟩) (by
    rcases a4 with ⟨q, _⟩ | ⟨q, q1, _⟩
    · exact Or.inl q
    · right; omega) a8 (by omega) (by omega) hd
  refine ⟨M2, _, by rw [b1, ob_some, a1, ob_some], ?_, P2, M2', (E1.ee h167).tr E2, ?_⟩
  · rw [ifT hin, hix, nm_eq, nm_eq, show tI (tsB σ 35 (cnl C) (wc M w)) 37 = nI (cnl C) from l4, nI_addL]
  · have s95 : mR M1 4201 95 = mR M 4201 95 := (F1.so (by omega) (fun q => q)).r 4201
    exact (F1.mono (fun _ _ z => absurd z (fun q => q))).tr2 F2 (fun o _ z => by rw [s95] at z; exact z)
/-- a name goes -/
theorem z_forOut {kK : CM → Option α} {kT : TS → Option β} (P : Pe (C.fo w) M σ i dep c s n) (hM : Me (C.fo w) M σ i d0) (hd : cnl C ≤ dep') : ∃ M' σ', (ob (K_J2_size 95 M) fun r135 M134 => ob (K_J2_remove 95 (r135 - 1) M134) fun _ M138 => kK M138) = kK M' ∧ (nm (tsI σ 37 ((tI σ 37) - 1)) kT) = kT σ' ∧ Pe C M' σ' i dep c s n ∧ Me C M' σ' i dep' ∧ Ee M σ M' σ' ∧ mn M' = mn M ∧ Fz (fun o => o = 95 ∨ o = mR M 4201 95) M M' ∧ ∀ g o, mR M' g o = mR M g o := by
  have h167 := P.n167
  obtain ⟨bs', l1, l2, l3, l4, l5⟩ := P.en.2.2.1
  have l2 : bs'.length = cnl C + 1 := l2
  have l3 : cnl C + 1 ≤ 16 := l3
  have l4 : tI σ 37 = nI (cnl C + 1) := l4
  obtain ⟨bs, x, rfl⟩ := lst_snoc bs' (fun z => by rw [z] at l2; simp at l2)
  have hb : bs.length = cnl C := by simpa using l2
  obtain ⟨M', p1, p2, p3, F, p4, p5, p6⟩ := ls_pop l1 (by omega) hM.2.2.2.2.1
  have f : Ft [35, 37] σ (tsI σ 37 (nI (cnl C))) := (Ft.rf [35, 37] σ).p_tsI rfl
  have e1 : ∀ k, nI (k + 1) - 1 = nI k ∨ 2147483647 ≤ k := fun k => by
    by_cases h : 2147483647 ≤ k
    · exact Or.inr h
    · left; rw [show (1 : Int32) = nI 1 from rfl, nI_sub (by omega)]; rfl
  have e1' : nI (cnl C + 1) - 1 = nI (cnl C) := by rcases e1 (cnl C) with h | h; exact h; omega
  obtain ⟨P2, M2', E2⟩ := fo_pe (C' := C) (c' := c) (s' := s) P hM F f ⟨⟨rfl, rfl, rfl, rfl⟩, rfl, rfl, rfl, rfl, rfl, rfl⟩ (fun hw2 => by
    refine ⟨bs, p3, hb, by omega, rfl, fun k hk => ?_⟩
    have hX23 : ∀ o, (o < mn M ∧ (o = 95 ∨ o = mR M 4201 95)) → mk M o ≠ 23 := fun o z => by
      rcases z.2 with q | q
      · rw [q, l1.1]; decide
      · have := z.1
        rw [q] at this ⊢; rw [l1.k55 P.c6 this]; decide
    obtain ⟨q1, q2⟩ := l5 k (by show k < cnl C + 1; omega)
    have ew : clw (C.fo w) k = clw C k := if_neg (by omega)
    rw [getD_app_l (by omega), ew] at q1
    rw [ew] at q2
    exact ⟨q1.fz F.lt hX23, by rw [hw2]; exact q2⟩) (Or.inl (p6 _ _)) (by rw [p6]; exact hM.2.2.2.2.1) (by omega) (by omega) hd
  refine ⟨M', _, by rw [p1, ob_some, hb, e1', ← hb, p2, ob_some], ?_, P2, M2', E2, p4, F, p6⟩
  rw [l4, e1', nm_eq]
end FORS
