/-! Layer B: the flat model: the equations of a class and of what it extends -/
set_option maxRecDepth 100000
section OF9
variable {zb zb' : Nat} {C : PC} {D D' D1 D2 : FQ} {M M' M1 M2 M3 M0 : CM} {σ σ' σ1 σ2 σ0 s1 s8 : TS} {mss fss : List Nat} {B V I Bm K N K' N' E A Wn E' A' A0 Wn' v l x0 dc md X N0 Lp Lp' w d s i nf R a b c n1 n2 f h1 h2 eq L ow_ : Nat} {os : List Nat} {P T Y : Nat → Prop} {x2 x3 x3' x4 x y r kd : Int32} {z7 : Nat → Nat} {S : List Nat}
theorem t_eqsB (h : tI σ 0 ≠ 0) (a b : Int32) : F_equationsOf a b σ = some ((), σ) := by
  show B_equationsOf (G_equationsOf 39) a b σ = _
  unfold B_equationsOf
  obtain ⟨G, hG, -⟩ := FUg
  rw [hG, t_eq2b h, ob_some]
theorem t_own7b {cf : Int32 → Int32 → TS → Option (Unit × TS)} {f k : Nat} (h : tI σ 0 ≠ 0) (hk : k < 24) (x : Int32) : L_ownEquations_7 cf (f + 1) (nI k) x2 x σ = some ((), σ) := by
  have ik : inb (nI k) 24 := inb_nI' hk (by decide)
  unfold L_ownEquations_7
  rw [ifT ik, ifT ik]
  by_cases q : tA σ 45 (ix (nI k)) + tA σ 46 (ix (nI k)) ≤ x
  · rw [ifT q]
  · rw [ifF q, t_isBad1 h, ob_some, ifF (show ¬ (1 : Int32) = 0 by decide)]
theorem t_ownB {g k : Nat} (h : tI σ 0 ≠ 0) (hk : k < 24) (x : Int32) : B_ownEquations (G_ownEquations g) (nI k) x σ = some ((), σ) := by
  have ik : inb (nI k) 24 := inb_nI' hk (by decide)
  obtain ⟨G, hG, -⟩ := FUg
  unfold B_ownEquations
  rw [ifT ik, nm_eq, hG, t_own7b h hk, ob_some, t_isBad1 h, ob_some, ifF (show ¬ (1 : Int32) = 0 by decide)]
/-- the equations of class k -/
theorem z_of (hB1 : B ≤ 1280) : ∀ (g kf tf k i : Nat) D M σ K N E A Wn, g < kf → g < tf → ExD σ g k → k < mss.length → i < I → BS 1 z7 C B P mss fss V I Bm 0 0 D M σ K N E A Wn → BO (γ := Unit) (β := Unit) 1 z7 C B P mss fss V I Bm 0 0 id D M σ K N E A Wn (KG_X0_of kf ((pl D 99).getD i 0) (mss.getD k 0) M) (G_ownEquations tf (nI k) (nI i) σ) := by
  intro g
  induction g with
  | zero => intro kf tf k i D M σ K N E A Wn _ _ hx; exact hx.elim
  | succ g ih =>
    intro kf tf k i D M σ K N E A Wn hkf htf hx hk hi h
    obtain ⟨kf, rfl⟩ : ∃ g, kf = g + 1 := ⟨kf - 1, by omega⟩
    obtain ⟨tf, rfl⟩ : ∃ g, tf = g + 1 := ⟨tf - 1, by omega⟩
    have m24 := h.fw.1.2.2.2.2.1.1.1
    have ik : inb (nI k) 24 := inb_nI' (by omega) (by decide)
    have xk : ix (nI k) = k := ix_nI (by omega)
    obtain ⟨⟨⟨c1, c2⟩, -⟩, -, ⟨E0, es, l1, l2, l3, l4, l5, l6, l7⟩, cR⟩ := h.fw.1.2.2.2.2.2.1.2.1 k hk
    obtain ⟨E58, e58, e59⟩ := h.fw.1.2.2.2.2.2.2.1
    have l480 : E0 + es.length ≤ 480 := by rw [e58, ix_nI (by omega)] at l6; omega
    have hFU : 100 < FU := by unfold FU; decide
    -- the loop over elements
    have loop : ∀ (m j f f' : Nat) D' M' σ' K' N' E' A' Wn', j + m = es.length → m < f → m < f' → BS 1 z7 C B P mss fss V I Bm 0 0 D' M' σ' K' N' E' A' Wn' → BTr V C P K N D M σ D' M' σ' → (K ≤ K' ∧ N ≤ N') → BO (γ := Unit) (β := Unit) 1 z7 C B P mss fss V I Bm 0 0 Sum.inr D' M' σ' K' N' E' A' Wn' (KL_X0_of_2 (KG_X0_of kf) f ((pl D 99).getD i 0) (mss.getD k 0) (nI j) M') (L_ownEquations_7 (G_ownEquations tf) f' (nI k) (nI i) (nI (E0 + j)) σ') := by
      intro m
      induction m with
      | zero =>
        intro j f f' D' M' σ' K' N' E' A' Wn' hj hf hf' h' bt kn
        obtain ⟨f, rfl⟩ : ∃ g, f = g + 1 := ⟨f - 1, by omega⟩
        obtain ⟨f', rfl⟩ : ∃ g, f' = g + 1 := ⟨f' - 1, by omega⟩
        have sc := bt.1.2.1.1 _ c1
        have kc : mk M' (mss.getD k 0) = 10 := by rw [sc.k]; exact c2
        have l1' := l1.wz bt.1 (fun _ z => z)
        rw [← sc.r] at l1'
        have kl : mk M' (mR M' 1802 (mss.getD k 0)) = 22 := l1'.1.1
        have fg := bt.2.2.2.1.2.2.1
        have q4 : tA σ' 45 k = nI E0 ∧ tA σ' 46 k = nI es.length := ⟨by rw [(fg 45 rfl).2.2.1]; exact l2, by rw [(fg 46 rfl).2.2.1]; exact l3⟩
        refine Or.inr ⟨D', M', σ', K', N', E', A', Wn', (), (), ?_, ?_, h', ⟨Nat.le_refl _, Nat.le_refl _, Nat.le_refl _, Nat.le_refl _, Nat.le_refl _⟩, BTr.rf h'.cn⟩
        · unfold KL_X0_of_2
          rw [ifT kc, ifT kl, ls_size l1'.1, ob_some, ifT (show nI es.length ≤ nI j from (bI_le (by omega) (by omega)).mpr (by omega))]
        · unfold L_ownEquations_7
          rw [ifT ik, ifT ik, xk, q4.1, q4.2, bI_add, ifT ((bI_le (by omega) (by omega)).mpr (by omega))]
      | succ m ihm =>
        intro j f f' D' M' σ' K' N' E' A' Wn' hj hf hf' h' bt kn
        obtain ⟨f, rfl⟩ : ∃ g, f = g + 1 := ⟨f - 1, by omega⟩
        obtain ⟨f', rfl⟩ : ∃ g, f' = g + 1 := ⟨f' - 1, by omega⟩
        have fg := bt.2.2.2.1.2.2.1
        have sc := bt.1.2.1.1 _ c1
        have kc : mk M' (mss.getD k 0) = 10 := by rw [sc.k]; exact c2
        have l1' := l1.wz bt.1 (fun _ z => z)
        rw [← sc.r] at l1'
        have kl : mk M' (mR M' 1802 (mss.getD k 0)) = 22 := l1'.1.1
        have q45 : tA σ' 45 k = nI E0 := by rw [(fg 45 rfl).2.2.1]; exact l2
        have q46 : tA σ' 46 k = nI es.length := by rw [(fg 46 rfl).2.2.1]; exact l3
        have le1 : ¬ nI es.length ≤ nI j := fun z => by have := (bI_le (by omega) (by omega)).mp z; omega
        have le2 : ¬ nI (E0 + es.length) ≤ nI (E0 + j) := fun z => by have := (bI_le (by omega) (by omega)).mp z; omega
        have get := ls_get l1'.1 (i := j) (by omega)
        have el := (l7 j (by omega)).wz bt.1 (fun _ z => z) (by omega : E0 + j < ix (tI σ 58))
        obtain ⟨⟨e1, e2, e3⟩, -, el⟩ := el
        have ie : inb (nI (E0 + j)) 481 := inb_nI' (by omega) (by decide)
        have xe : ix (nI (E0 + j)) = E0 + j := ix_nI (by omega)
        have nj : nI j + 1 = nI (j + 1) := nI_addL j 1
        have ne : nI (E0 + j) + 1 = nI (E0 + (j + 1)) := nI_addL (E0 + j) 1
        obtain ⟨recK, hrK⟩ : ∃ q, q = KL_X0_of_2 (KG_X0_of kf) f := ⟨_, rfl⟩
        obtain ⟨recT, hrT⟩ : ∃ q, q = L_ownEquations_7 (G_ownEquations tf) f' := ⟨_, rfl⟩
        have ihm' := fun D' M' σ' K' N' E' A' Wn' => ihm (j + 1) f f' D' M' σ' K' N' E' A' Wn' (by omega) (by omega) (by omega)
        rw [← hrK, ← hrT] at ihm'
        have tb : ∀ s : TS, tI s 0 ≠ 0 → ∀ x, recT (nI k) (nI i) x s = some ((), s) := fun s hs x => by
          obtain ⟨f'', rfl⟩ : ∃ g, f' = g + 1 := ⟨f' - 1, by omega⟩
          rw [hrT]; exact t_own7b hs (by omega) x
        unfold KL_X0_of_2 L_ownEquations_7
        rw [ifT kc, ifT kl, ls_size l1'.1, ob_some, ifF le1, ifT kc, ifT kl, get, ob_some, ifT (Or.inr e2), ifT e2, ifT ik, ifT ik, xk, q45, q46, bI_add, ifF le2, t_isBad0 h'.h0, ob_some, ifT (rfl : (0 : Int32) = 0), ifT ie, xe, ← hrK, ← hrT]
        rcases el with ⟨f1, f2, ⟨w, f3, f4, f5, f6⟩, -⟩ | ⟨f1, f2, -⟩
        · have n57 : ¬ tA σ' 57 (E0 + j) = 0 := by rw [f2]; decide
          rw [f1, ifF (show ¬ (1 : Int32) = 0 by decide), ifT kc, ifT kl, get, ob_some, ifT (Or.inr e2), ifT e2, f3, ifF n57, ifT ie]
          obtain ⟨k2, x1, x2⟩ := (hx.fwd fg (by decide) _ _).2 (E0 + j) E0 es.length q45 q46 l480 (by omega) (by omega) n57
          rcases h'.fw.lookup hB1 ⟨f4, f5⟩ with ⟨k', y1, y2, y3, y4⟩ | ⟨y3, y4⟩
          · rw [f6, y4] at x1
            have ek : k' = k2 := by
              have k2h : k2 < 24 := by
                cases g with
                | zero => exact x2.elim
                | succ g => exact x2.1
              have := congrArg Prod.fst (Option.some.inj x1)
              exact (bI_eq (by omega) (by omega)).mp this
            rw [y3, ob_some, f6, y4, ob_some]
            have go := ih kf tf k' i D' M' σ' K' N' E' A' Wn' (by omega) (by omega) (by rw [ek]; exact x2) y1 hi h'
            have e99 : (pl D' 99).getD i 0 = (pl D 99).getD i 0 := (bt.2.1.1 99 i (by have := h.fx.1.1.2.1; omega)).2
            rw [e99] at go
            refine go.seq (fun _ _ => rfl) (fun M3 σ3 w y g => ⟨(), σ3, by rw [nm_eq, tb _ g.ne], g⟩) (fun D3 M3 σ3 K3 N3 E3 A3 Wn3 r y h3 le3 bt3 => ?_)
            have bt13 := bt.tr bt3 kn.1 kn.2
            rw [nm_eq, nm_eq, nj, ne]
            exact ihm' D3 M3 σ3 K3 N3 E3 A3 Wn3 h3 bt13 ⟨by omega, by omega⟩
          · rw [f6, y4] at x1
            have := congrArg Prod.fst (Option.some.inj x1)
            have this : (-1 : Int32) = nI k2 := this
            have k2h : k2 < 24 := by
              cases g with
              | zero => exact x2.elim
              | succ g => exact x2.1
            have := congrArg Int32.toInt this
            rw [bI_toInt (show k2 < 2147483648 by omega)] at this
            have e1 : Int32.toInt (-1) = -1 := by decide
            rw [e1] at this
            omega
        · rw [f1, ifT (rfl : (0 : Int32) = 0), f2, ifT (rfl : (0 : Int32) = 0), nm_eq, nm_eq, nj, ne]
          exact ihm' D' M' σ' K' N' E' A' Wn' h' bt kn
    show BO 1 z7 C B P mss fss V I Bm 0 0 id D M σ K N E A Wn (KB_X0_of (KG_X0_of kf) ((pl D 99).getD i 0) (mss.getD k 0) M) (B_ownEquations (G_ownEquations tf) (nI k) (nI i) σ)
    unfold KB_X0_of B_ownEquations
    rw [ifT ik, xk, l2, nm_eq]
    have lp := loop es.length 0 FU FU D M σ K N E A Wn (by omega) (by omega) (by omega) h (BTr.rf h.cn) ⟨Nat.le_refl _, Nat.le_refl _⟩
    rw [Nat.add_zero] at lp
    refine lp.seq (fun _ _ => rfl) (fun M' σ' w y g => ⟨(), σ', by rw [t_isBad1 g.ne, ob_some, ifF (show ¬ (1 : Int32) = 0 by decide)], g⟩) (fun D' M' σ' K' N' E' A' Wn' r y h' le bt => ?_)
    have sc := bt.1.2.1.1 _ c1
    have kc : mk M' (mss.getD k 0) = 10 := by rw [sc.k]; exact c2
    have fg := bt.2.2.2.1.2.2.1
    have cR' := cR.wz bt.1 (fun _ z => z) (Nat.le_refl _)
    rw [← sc.r] at cR'
    obtain ⟨os, p, d, r1, r2, ⟨r3, r4⟩, r5⟩ := cR'
    have tE3 : tE σ ≤ 3000 := by
      obtain ⟨Q, u1, u2, u3⟩ := h.fw.1.2.2.2.2.2.2.2.2.1
      have c4 := h.fw.1.2.1.2.2.2
      unfold tE
      rw [u1, ix_nI (by omega)]; omega
    have e99 : (pl D' 99).getD i 0 = (pl D 99).getD i 0 := (bt.2.1.1 99 i (by have := h.fx.1.1.2.1; omega)).2
    have q47 : tA σ' 47 k = nI p := by rw [(fg 47 rfl).2.2.1]; exact r2
    have := ls_all (z7 := z7) (C := C) (P := P) (mss := mss) (fss := fss) (V := V) (I := I) (Bm := Bm) (L := 1) hB1 d 40 40 (by omega) (by omega) 0 2 i D' M' σ' K' N' E' A' Wn' (mR M' 1803 (mss.getD k 0)) os p (tE σ) (by decide) (by omega) hi h' r1 ⟨by have := bt.1.2.2.2.1.2.1.1; exact this, tE3⟩ r5
    rw [ifT kc, t_isBad0 h'.h0, ob_some, ifT (rfl : (0 : Int32) = 0), ifT ik, q47, ← e99]
    refine BO.seq (hd := fun w M => some (.inr w, M)) this (fun _ _ => rfl) (fun M3 σ3 w y g => ⟨(), σ3, rfl, g⟩) (fun D3 M3 σ3 K3 N3 E3 A3 Wn3 r y h3 le3 bt3 => ?_)
    exact Or.inr ⟨D3, M3, σ3, K3, N3, E3, A3, Wn3, (), (), rfl, rfl, h3, ⟨Nat.le_refl _, Nat.le_refl _, Nat.le_refl _, Nat.le_refl _, Nat.le_refl _⟩, BTr.rf h3.cn⟩
end OF9
