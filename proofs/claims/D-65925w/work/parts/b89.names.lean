/-! Layer B: names of classes and functions; new names -/
set_option maxRecDepth 100000
/-- the classes' names on both sides -/
def CnR (m : Nat) (M : CM) (σ : TS) (cs : List Nat) : Prop := tI σ 49 = nI cs.length ∧ cs.length ≤ 24 ∧ ∀ k, k < cs.length → mk M (cs.getD k 0) = 10 ∧ cs.getD k 0 ≠ 0 ∧ ∃ w, mI M 1800 (cs.getD k 0) = nI w ∧ 38 ≤ w ∧ w < 38 + m ∧ tB σ 41 k = wc M w
section NAMES
variable {C : PC} {M M' : CM} {σ σ' : TS} {i dep c s n m L w : Nat} {cs ms ns : List Nat} {α β γ : Type}
theorem t_classOf (W : WN M m L) (hm : m ≤ 1280) (H : CnR m M σ cs) (hw : w < 38 + m) : (∃ k, k < cs.length ∧ mI M 1800 (cs.getD k 0) = nI w ∧ (∀ j, j < k → mI M 1800 (cs.getD j 0) ≠ nI w) ∧ F_classOf (wc M w) σ = some (nI k, σ)) ∨ ((∀ j, j < cs.length → mI M 1800 (cs.getD j 0) ≠ nI w) ∧ F_classOf (wc M w) σ = some (-1, σ)) := by
  obtain ⟨h1, h2, h3⟩ := H
  have loop : ∀ (d k f : Nat), k + d = cs.length → d < f → (∀ j, j < k → mI M 1800 (cs.getD j 0) ≠ nI w) → (∃ k, k < cs.length ∧ mI M 1800 (cs.getD k 0) = nI w ∧ (∀ j, j < k → mI M 1800 (cs.getD j 0) ≠ nI w) ∧ L_classOf_2 f (wc M w) (nI (cs.length - d)) σ = some (.inr (nI k), σ)) ∨ ((∀ j, j < cs.length → mI M 1800 (cs.getD j 0) ≠ nI w) ∧ L_classOf_2 f (wc M w) (nI (cs.length - d)) σ = some (.inl (), σ)) := by
    intro d
    induction d with
    | zero =>
      intro k f hk hf hj
      obtain ⟨f, rfl⟩ : ∃ g, f = g + 1 := ⟨f - 1, by omega⟩
      right
      refine ⟨fun j h => hj j (by omega), ?_⟩
      rw [L_classOf_2, h1, ifT ((bI_le (by omega) (by omega)).mpr (by omega))]
    | succ d ih =>
      intro k f hk hf hj
      obtain ⟨f, rfl⟩ : ∃ g, f = g + 1 := ⟨f - 1, by omega⟩
      have ek : cs.length - (d + 1) = k := by omega
      obtain ⟨-, -, w', c1, c2, c3, c4⟩ := h3 k (by omega)
      have hlt : ¬ nI cs.length ≤ nI k := by rw [bI_le (by omega) (by omega)]; omega
      rw [L_classOf_2, ek, h1, ifF hlt, ifT (inb_nI' (by omega) (by decide)), ix_nI (by omega), c4]
      by_cases e : w' = w
      · left
        rw [ifT (lg_eq.mpr (show wc M w' = wc M w from by rw [e]))]
        exact ⟨k, by omega, by rw [c1, e], hj, rfl⟩
      · rw [ifF (fun z => e ((wc_inj W c3 hw).mp (lg_eq.mp z))), nm_eq, nI_addL, show k + 1 = cs.length - d by omega]
        refine ih (k + 1) f (by omega) (by omega) (fun j h => ?_)
        by_cases q : j = k
        · rw [q, c1]; exact fun z => e ((bI_eq (by omega) (by omega)).mp z)
        · exact hj j (by omega)
  unfold F_classOf
  have e0 : (0 : Int32) = nI (cs.length - cs.length) := by rw [Nat.sub_self]; rfl
  rcases loop cs.length 0 FU (by omega) (by have := FUb; omega) (fun j h => absurd h (Nat.not_lt_zero _)) with ⟨k, a1, a2, a3, a4⟩ | ⟨a1, a2⟩
  · left
    rw [e0, a4, obS_inr]
    exact ⟨k, a1, a2, a3, rfl⟩
  · right
    rw [e0, a2, obS_inl]
    exact ⟨a1, rfl⟩
theorem k_model (h : Ls M 88 ms) (hk : ∀ k, k < ms.length → mk M (ms.getD k 0) = 10) (x : Int32) : (∃ k, k < ms.length ∧ mI M 1800 (ms.getD k 0) = x ∧ (∀ j, j < k → mI M 1800 (ms.getD j 0) ≠ x) ∧ K_X0_model x M = some (ms.getD k 0, M)) ∨ ((∀ j, j < ms.length → mI M 1800 (ms.getD j 0) ≠ x) ∧ K_X0_model x M = some (0, M)) := by
  have hl := h.2.2.1
  have loop : ∀ (d k f : Nat), k + d = ms.length → d < f → (∀ j, j < k → mI M 1800 (ms.getD j 0) ≠ x) → (∃ k, k < ms.length ∧ mI M 1800 (ms.getD k 0) = x ∧ (∀ j, j < k → mI M 1800 (ms.getD j 0) ≠ x) ∧ KL_X0_model_2 f x (nI (ms.length - d)) M = some (.inr (ms.getD k 0), M)) ∨ ((∀ j, j < ms.length → mI M 1800 (ms.getD j 0) ≠ x) ∧ KL_X0_model_2 f x (nI (ms.length - d)) M = some (.inl (), M)) := by
    intro d
    induction d with
    | zero =>
      intro k f hk' hf hj
      obtain ⟨f, rfl⟩ : ∃ g, f = g + 1 := ⟨f - 1, by omega⟩
      right
      refine ⟨fun j h => hj j (by omega), ?_⟩
      rw [KL_X0_model_2, ls_size h, ob_some, ifT ((bI_le (by omega) (by omega)).mpr (by omega))]
    | succ d ih =>
      intro k f hk' hf hj
      obtain ⟨f, rfl⟩ : ∃ g, f = g + 1 := ⟨f - 1, by omega⟩
      have ek : ms.length - (d + 1) = k := by omega
      have hlt : ¬ nI ms.length ≤ nI k := by rw [bI_le (by omega) (by omega)]; omega
      have h10 := hk k (by omega)
      rw [KL_X0_model_2, ls_size h, ob_some, ek, ifF hlt, ls_get h (by omega), ob_some, ifT (Or.inr h10), ifT h10]
      by_cases e : mI M 1800 (ms.getD k 0) = x
      · left
        rw [ifT e, ls_get h (by omega), ob_some, ifT (Or.inr h10)]
        exact ⟨k, by omega, e, hj, rfl⟩
      · rw [ifF e, nm_eq, nI_addL, show k + 1 = ms.length - d by omega]
        refine ih (k + 1) f (by omega) (by omega) (fun j h => ?_)
        by_cases q : j = k
        · rw [q]; exact e
        · exact hj j (by omega)
  unfold K_X0_model
  have e0 : (0 : Int32) = nI (ms.length - ms.length) := by rw [Nat.sub_self]; rfl
  rcases loop ms.length 0 FU (by omega) (by have := FUb; omega) (fun j h => absurd h (Nat.not_lt_zero _)) with ⟨k, a1, a2, a3, a4⟩ | ⟨a1, a2⟩
  · left
    rw [e0, a4, obS_inr]
    exact ⟨k, a1, a2, a3, rfl⟩
  · right
    rw [e0, a2, obS_inl]
    exact ⟨a1, rfl⟩
theorem k_newm (h : Ls M 97 ns) (hk : ∀ k, k < ns.length → mk M (ns.getD k 0) = 10) (x1 x2 x : Int32) : ∀ (d k f : Nat) (acc : Int32), k + d = ns.length → d < f → (acc = 0 ∨ acc = 1) → ∃ r, KL_X2_newName_44 f x1 x2 x acc (nI k) M = some (r, M) ∧ (r = 0 ∨ r = 1) ∧ (r = 0 ↔ acc = 0 ∧ ∀ j, k ≤ j → j < ns.length → mI M 1800 (ns.getD j 0) ≠ x) := by
  have hl := h.2.2.1
  intro d
  induction d with
  | zero =>
    intro k f acc hk' hf ha
    obtain ⟨f, rfl⟩ : ∃ g, f = g + 1 := ⟨f - 1, by omega⟩
    refine ⟨acc, ?_, ha, ⟨fun z => ⟨z, fun j h1 h2 => by omega⟩, fun z => z.1⟩⟩
    rw [KL_X2_newName_44, ls_size h, ob_some, ifT ((bI_le (by omega) (by omega)).mpr (by omega))]
  | succ d ih =>
    intro k f acc hk' hf ha
    obtain ⟨f, rfl⟩ : ∃ g, f = g + 1 := ⟨f - 1, by omega⟩
    have hlt : ¬ nI ns.length ≤ nI k := by rw [bI_le (by omega) (by omega)]; omega
    have h10 := hk k (by omega)
    rw [KL_X2_newName_44, ls_size h, ob_some, ifF hlt, ls_get h (by omega), ob_some, ifT (Or.inr h10), ifT h10]
    by_cases e : mI M 1800 (ns.getD k 0) = x
    · rw [ifT e, nm_eq, nm_eq, nI_addL]
      obtain ⟨r, a1, a2, a3⟩ := ih (k + 1) f (acc ||| 1) (by omega) (by omega) (by rcases ha with rfl | rfl <;> decide)
      refine ⟨r, a1, a2, ⟨fun z => ?_, fun z => absurd e (z.2 k (Nat.le_refl _) (by omega))⟩⟩
      have := (a3.mp z).1
      rcases ha with rfl | rfl <;> exact absurd this (by decide)
    · rw [ifF e, nm_eq, nm_eq, nI_addL]
      obtain ⟨r, a1, a2, a3⟩ := ih (k + 1) f (acc ||| 0) (by omega) (by omega) (by rcases ha with rfl | rfl <;> decide)
      have e0 : acc ||| 0 = acc := by rcases ha with rfl | rfl <;> decide
      rw [e0] at a1 a3
      refine ⟨r, by rw [e0]; exact a1, a2, a3.trans ⟨fun z => ⟨z.1, fun j h1 h2 => ?_⟩, fun z => ⟨z.1, fun j h1 h2 => z.2 j (by omega) h2⟩⟩⟩
      by_cases q : j = k
      · rw [q]; exact e
      · exact z.2 j (by omega) h2
/-- the name of something new: good, or both have the same fault -/
theorem z_newName {K lim : Nat} {kT : Int64 → TS → Option (β × TS)} (P : Pe C M σ i dep c s n) (h1 : 1 ≤ c) (h2 : 8 ≤ s) (H : CnR (cm C) M σ (ms ++ ns)) (hm : Ls M 88 ms) (hn : Ls M 97 ns) (hK : K = 48 ∧ lim = 12 ∨ K = 49 ∧ lim = 24) {full : Nat} (hf : full = 0 ∨ full = 1) (hfull : full = 1 ↔ tI σ K = nI lim) : (∃ w σ', K_X2_newName (nI full) M = some (.inl (nI w), msI M 405 90 (nI (i + 1))) ∧ (nm (tI σ 12) fun v6 => ob (F_newName σ) fun r8 s7 => ob (F_isBad s7) fun r12 s11 => if r12 = 0 then if tI s11 K = nI lim then ob (F_bad 7 v6 s11) fun _ s101 => kT r8 s101 else kT r8 s11 else kT r8 s11) = kT (wc M w) σ' ∧ 38 ≤ w ∧ w < 38 + cm C ∧ tI σ K ≠ nI lim ∧ Pe C (msI M 405 90 (nI (i + 1))) σ' (i + 1) dep (c + 16) (s + 2048) (n + 4) ∧ Es M σ (msI M 405 90 (nI (i + 1))) σ' ∧ i < ct C ∧ F_next σ = some ((), σ') ∧ ∀ k, k < (ms ++ ns).length → mI M 1800 ((ms ++ ns).getD k 0) ≠ nI w) ∨ (∃ w M' r σ', K_X2_newName (nI full) M = some (.inr w, M') ∧ (nm (tI σ 12) fun v6 => ob (F_newName σ) fun r8 s7 => ob (F_isBad s7) fun r12 s11 => if r12 = 0 then if tI s11 K = nI lim then ob (F_bad 7 v6 s11) fun _ s101 => kT r8 s101 else kT r8 s11 else kT r8 s11) = kT r σ' ∧ FB C M σ M' w σ' ∧ Ft fs19 σ σ') := by
  obtain ⟨g1, g2⟩ := P.px.in1
  have h12 := P.at12
  have cap := P.cap h2
  obtain ⟨L, W, h1280⟩ := P.wb
  unfold K_X2_newName F_newName
  rw [ifT g1, nm_eq, g2, nm_eq, nm_eq, nm_eq]
  rcases z_name P h1 h2 with ⟨x, y, σ1, a1, a2, P1, E1, hi, ⟨w, hx, hw1, hw2, hy⟩, n1⟩ | ⟨w, M', y, σ1, a1, a2, fb⟩
  rotate_left
  · right
    refine ⟨w, M', 0, σ1, by rw [a1, obS_inr], ?_, fb, fS_F_passName _ _ _ a2⟩
    have hb := fb.2.2.2.1
    rw [a2, ob_some, t_isBad1 hb, ob_some, ifF (show ¬ (1 : Int32) = 0 from by decide), ob_some, t_isBad1 hb, ob_some, ifF (show ¬ (1 : Int32) = 0 from by decide)]
  rw [a1, obS_inl, a2, ob_some, t_isBad0 P1.g0, ob_some, ifT (rfl : (0 : Int32) = 0), hx, hy]
  obtain ⟨M1, hM1⟩ : ∃ M1, M1 = msI M 405 90 (nI (i + 1)) := ⟨_, rfl⟩
  rw [← hM1] at P1 E1 ⊢
  have n1' : mn M1 = mn M := by rw [hM1]; rfl
  have w1 : ∀ w, wc M1 w = wc M w := fun w => by rw [hM1]; rfl
  have i1 : ∀ o, mI M1 1800 o = mI M 1800 o := fun o => by rw [hM1, mI_msI, ifF (by omega)]
  have k1 : ∀ o, mk M1 o = mk M o := fun o => by rw [hM1]; rfl
  have fr := fS_F_next _ _ _ n1
  have Hn : ∀ l xs, Ls M l xs → l < mn M → Ls M1 l xs := fun l xs h hl => h.fz E1.1 hl (fun o z => by rw [z, P.en.1]; exact ⟨by decide, by decide⟩)
  have h167 := P.n167
  have mkt : ∀ r q : Int32, Ft fs19 σ (tsI (tsI σ1 0 r) 1 q) := fun r q => ((fr.mono (by decide)).p_tsI rfl).p_tsI rfl
  have hm1 := Hn 88 ms hm (by omega)
  have hn1 := Hn 97 ns hn (by omega)
  have H1 : CnR (cm C) M1 σ1 (ms ++ ns) := ⟨by rw [(fr 49 rfl).1]; exact H.1, H.2.1, fun k hk => by
    obtain ⟨b1, b2, w', b3, b4, b5, b6⟩ := H.2.2 k hk
    exact ⟨by rw [k1]; exact b1, b2, w', by rw [i1]; exact b3, b4, b5, by rw [(fr 41 rfl).2.2.2, w1]; exact b6⟩⟩
  have hkm : ∀ k, k < ms.length → mk M1 (ms.getD k 0) = 10 ∧ ms.getD k 0 ≠ 0 := fun k hk => by
    have := H1.2.2 k (by rw [List.length_append]; omega)
    rw [getD_app_l hk] at this
    exact ⟨this.1, this.2.1⟩
  have hkn : ∀ k, k < ns.length → mk M1 (ns.getD k 0) = 10 := fun k hk => by
    have := H1.2.2 (ms.length + k) (by rw [List.length_append]; omega)
    rw [getD_app_r] at this
    exact this.1
  have KF : tI σ1 K = tI σ K := by rcases hK with ⟨rfl, _⟩ | ⟨rfl, _⟩ <;> exact (fr _ rfl).1
  have e405 : tI σ 12 = mA M 94 i := h12
  -- a fault with rule r at the name's place
  have mkf : ∀ r : Int32, r ≠ 0 → FB C M σ (wM M1 r (mA M 94 i)) (mn M1) (tsI (tsI σ1 0 r) 1 (mA M 94 i)) := fun r hr => by
    have fb := P1.fb (by omega) (by omega) (r := r) (q := mA M 94 i) hr
    exact fb.tr E1
  have kw : ∀ r, K_X0_wrong r (mA M 94 i) M1 = some (mn M1, wM M1 r (mA M 94 i)) := fun r => k_wrong (M := M1) (by rw [hM1]; exact cap) (by omega) r (mA M 94 i)
  have kk : ∀ r, mk (wM M1 r (mA M 94 i)) (mn M1) = 7 := fun r => wM_k M1 r (mA M 94 i)
  -- what the component does when the name is had, or not
  have had : ∀ acc : Int32, acc = 1 → KJ_X2_newName_39 (nI full) (mA M 94 i) (nI w) acc M1 = some (.inr (mn M1), wM M1 3 (mA M 94 i)) := fun acc ha => by
    obtain ⟨r, r1, r2, r3⟩ := k_newm hn1 hkn (nI full) (mA M 94 i) (nI w) ns.length 0 FU acc (by omega) (by have := FUb; have := hn1.2.2.1; omega) (Or.inr ha)
    have hr : ¬ r = 0 := fun z => by have := (r3.mp z).1; rw [ha] at this; exact absurd this (by decide)
    unfold KJ_X2_newName_39
    rw [show KL_X2_newName_44 FU (nI full) (mA M 94 i) (nI w) acc 0 M1 = some (r, M1) from r1, ob_some, ifF hr, ifF hr, kw, ob_some, ifT (kk 3)]
  rcases z_functionOf P1 (w := w) hw2 with ⟨k, f1, f2, f3, f4, f5, f6⟩ | ⟨f3, f4⟩
  · right
    refine ⟨mn M1, _, wc M w, _, ?_, ?_, mkf 3 (by decide), mkt 3 _⟩
    · rw [f3, ob_some, ifF f5]
      exact had 1 rfl
    · rw [w1] at f4
      rw [f4, ob_some, ifT (show (0 : Int32) ≤ nI k from by rw [show (0 : Int32) = nI 0 from rfl, bI_le (by omega) (by omega)]; omega), e405, t_bad P1.g0, ob_some, ob_some, t_isBad1 (mkf 3 (by decide)).2.2.2.1, ob_some, ifF (show ¬ (1 : Int32) = 0 from by decide)]
  rw [w1] at f4
  rw [f3, ob_some, ifT (rfl : (0 : Nat) = 0), f4, ob_some, ifF (show ¬ (0 : Int32) ≤ -1 from by decide)]
  obtain ⟨L1, W1, _⟩ := P1.wb
  rcases t_classOf W1 h1280 H1 hw2 with ⟨k, c1, c2, c3, c4⟩ | ⟨c3, c4⟩ <;> rw [w1] at c4
  · -- had
    right
    refine ⟨mn M1, _, wc M w, _, ?_, ?_, mkf 3 (by decide), mkt 3 _⟩
    · rcases k_model hm1 (fun k hk => (hkm k hk).1) (nI w) with ⟨k', d1, d2, d3, d4⟩ | ⟨d3, d4⟩
      · rw [d4, ob_some, ifF (hkm k' d1).2]
        exact had 1 rfl
      · rw [d4, ob_some, ifT (rfl : (0 : Nat) = 0)]
        obtain ⟨r, r1, r2, r3⟩ := k_newm hn1 hkn (nI full) (mA M 94 i) (nI w) ns.length 0 FU 0 (by omega) (by have := FUb; have := hn1.2.2.1; omega) (Or.inl rfl)
        have hr : ¬ r = 0 := fun z => by
          have h := (r3.mp z).2
          rcases Nat.lt_or_ge k ms.length with q | q
          · rw [getD_app_l q] at c2; exact d3 k q c2
          · rw [show k = ms.length + (k - ms.length) by omega, getD_app_r] at c2
            rw [List.length_append] at c1
            exact h (k - ms.length) (Nat.zero_le _) (by omega) c2
        unfold KJ_X2_newName_39
        rw [show KL_X2_newName_44 FU (nI full) (mA M 94 i) (nI w) 0 0 M1 = some (r, M1) from r1, ob_some, ifF hr, ifF hr, kw, ob_some, ifT (kk 3)]
    · rw [c4, ob_some, ifF (show ¬ nI k < 0 from by rw [nI_ltL (by have := H1.2.1; omega) (by decide)]; exact Nat.not_lt_zero _), e405, t_bad P1.g0, ob_some, ob_some, t_isBad1 (mkf 3 (by decide)).2.2.2.1, ob_some, ifF (show ¬ (1 : Int32) = 0 from by decide)]
  -- new
  have hnew : ∃ r, KL_X2_newName_44 FU (nI full) (mA M 94 i) (nI w) 0 0 M1 = some (r, M1) ∧ r = 0 := by
    obtain ⟨r, r1, r2, r3⟩ := k_newm hn1 hkn (nI full) (mA M 94 i) (nI w) ns.length 0 FU 0 (by omega) (by have := FUb; have := hn1.2.2.1; omega) (Or.inl rfl)
    refine ⟨r, r1, r3.mpr ⟨rfl, fun j _ hj => ?_⟩⟩
    have := c3 (ms.length + j) (by rw [List.length_append]; omega)
    rw [getD_app_r] at this
    exact this
  obtain ⟨r, r1, r0⟩ := hnew
  have hmod : K_X0_model (nI w) M1 = some (0, M1) := by
    rcases k_model hm1 (fun k hk => (hkm k hk).1) (nI w) with ⟨k', d1, d2, d3, d4⟩ | ⟨d3, d4⟩
    · have := c3 k' (by rw [List.length_append]; omega)
      rw [getD_app_l d1] at this
      exact absurd d2 this
    · exact d4
  rw [hmod, ob_some, ifT (rfl : (0 : Nat) = 0), c4, ob_some, ifT (show (-1 : Int32) < 0 from by decide), ob_some, t_isBad0 P1.g0, ob_some, ifT (rfl : (0 : Int32) = 0), KF]
  unfold KJ_X2_newName_39
  rw [r1, ob_some, ifT r0]
  by_cases hfl : tI σ K = nI lim
  · right
    have h1 : full = 1 := hfull.mpr hfl
    rw [ifF (show ¬ nI full = 0 from by rw [h1]; decide), ifT r0, kw, ob_some, ifT (kk 7), ifT hfl, e405, t_bad P1.g0, ob_some]
    exact ⟨mn M1, _, _, _, rfl, rfl, mkf 7 (by decide), mkt 7 _⟩
  · left
    have h0 : full = 0 := by rcases hf with q | q; exact q; exact absurd (hfull.mp q) hfl
    rw [ifT (show nI full = 0 from by rw [h0]; rfl), ifF hfl]
    exact ⟨w, σ1, rfl, rfl, hw1, hw2, hfl, P1, E1, hi, n1, fun k hk => by rw [← i1]; exact c3 k hk⟩
end NAMES
