/-! Layer B: names of fors, arguments, functions; steps that write what was made since -/
set_option maxRecDepth 100000
section LOOK
variable {C : PC} {M M' Mb : CM} {σ σ' σb : TS} {i ib dep depb c s n c' s' cb' sb' nb' : Nat}
theorem Pe.wb (P : Pe C M σ i dep c s n) : ∃ L, WN M (cm C) L ∧ cm C ≤ 1280 := by
  obtain ⟨⟨⟨-, ⟨L, W⟩, h, -⟩, -⟩, -⟩ := P
  exact ⟨L, W, h⟩
theorem z_isLoop (P : Pe C M σ i dep c s n) {w : Nat} (hw : w < 38 + cm C) : (K_X2_isLoop (nI w) M = some (1, M) ∧ F_isFor (wc M w) σ = some (1, σ) ∧ ∃ k, k < cnl C ∧ clw C k = w) ∨ (K_X2_isLoop (nI w) M = some (0, M) ∧ F_isFor (wc M w) σ = some (0, σ)) := by
  obtain ⟨L, W, h1280⟩ := P.wb
  obtain ⟨bs, a1, a2, a3, a4, a5⟩ := P.en.2.2.1
  have loop : ∀ (d k f f' : Nat), k + d = cnl C → d < f → d < f' → (KL_X2_isLoop_2 f (nI w) (nI k) M = some (.inr 1, M) ∧ L_isFor_2 f' (wc M w) (nI k) σ = some (.inr 1, σ) ∧ ∃ k, k < cnl C ∧ clw C k = w) ∨ (KL_X2_isLoop_2 f (nI w) (nI k) M = some (.inl (), M) ∧ L_isFor_2 f' (wc M w) (nI k) σ = some (.inl (), σ)) := by
    intro d
    induction d with
    | zero =>
      intro k f f' hk hf hf'
      obtain ⟨f, rfl⟩ : ∃ g, f = g + 1 := ⟨f - 1, by omega⟩
      obtain ⟨f', rfl⟩ : ∃ g, f' = g + 1 := ⟨f' - 1, by omega⟩
      right
      rw [KL_X2_isLoop_2, ls_size a1, ob_some, a2, ifT ((bI_le (by omega) (by omega)).mpr (by omega)), L_isFor_2, a4, ifT ((bI_le (by omega) (by omega)).mpr (by omega))]
      exact ⟨rfl, rfl⟩
    | succ d ih =>
      intro k f f' hk hf hf'
      obtain ⟨f, rfl⟩ : ∃ g, f = g + 1 := ⟨f - 1, by omega⟩
      obtain ⟨f', rfl⟩ : ∃ g, f' = g + 1 := ⟨f' - 1, by omega⟩
      obtain ⟨b1, b2⟩ := a5 k (by omega)
      obtain ⟨v1, v2, v3⟩ := b1.val
      have hlw := b1.2.2
      have hltK : ¬ nI (cnl C) ≤ nI k := by rw [bI_le (by omega) (by omega)]; omega
      have hltF : ¬ nI (cnl C) ≤ nI k := by rw [bI_le (by omega) (by omega)]; omega
      rw [KL_X2_isLoop_2, ls_size a1, ob_some, a2, ifF hltK, ls_get a1 (by omega), ob_some, ifT v3, ifT v1, v2, ob_some, L_isFor_2, a4, ifF hltF, ifT (inb_nI' (by omega) (by decide)), ix_nI (by omega), b2]
      by_cases e : clw C k = w
      · left
        rw [ifT (show nI (clw C k) = nI w from by rw [e]), ifT (lg_eq.mpr (show wc M (clw C k) = wc M w from by rw [e]))]
        exact ⟨rfl, rfl, k, by omega, e⟩
      · rw [ifF (show ¬ nI (clw C k) = nI w from fun z => e ((bI_eq (by omega) (by omega)).mp z)), ifF (fun z => e ((wc_inj W hlw hw).mp (lg_eq.mp z))), nm_eq, nm_eq, nI_addL]
        exact ih (k + 1) f f' (by omega) (by omega) (by omega)
  unfold K_X2_isLoop F_isFor
  rcases loop (cnl C) 0 FU FU (by omega) (by show cnl C < 4611686018427387904; omega) (by show cnl C < 4611686018427387904; omega) with ⟨e1, e2, e3⟩ | ⟨e1, e2⟩
  · left
    rw [show (0 : Int32) = nI 0 from rfl, e1, e2, obS_inr, obS_inr]
    exact ⟨rfl, rfl, e3⟩
  · right
    rw [show (0 : Int32) = nI 0 from rfl, e1, e2, obS_inl, obS_inl]
    exact ⟨rfl, rfl⟩
theorem z_argument (P : Pe C M σ i dep c s n) (ha : car C ≠ 0) {w : Nat} (hw : w < 38 + cm C) : (∃ k, k < car C ∧ car C ≤ 4 ∧ K_X2_argument (nI w) M = some (nI k, M) ∧ F_formal (wc M w) σ = some (nI k, σ)) ∨ (K_X2_argument (nI w) M = some (-1, M) ∧ F_formal (wc M w) σ = some (-1, σ)) := by
  obtain ⟨L, W, h1280⟩ := P.wb
  rcases P.en.2.2.2.2 with ⟨q, _⟩ | ⟨a1, a2, a3, a4, a5, a6, a7, bs, b1, b2, b3, b4⟩
  · exact absurd q ha
  have loop : ∀ (d k f f' : Nat), k + d = car C → d < f → d < f' → (∃ k, k < car C ∧ car C ≤ 4 ∧ KL_X2_argument_2 f (nI w) (nI k) M = some (.inr (nI k), M) ∧ L_formal_2 f' (wc M w) (nI k) σ = some (.inr (nI k), σ)) ∨ True → (∃ j, j < car C ∧ KL_X2_argument_2 f (nI w) (nI k) M = some (.inr (nI j), M) ∧ L_formal_2 f' (wc M w) (nI k) σ = some (.inr (nI j), σ)) ∨ (KL_X2_argument_2 f (nI w) (nI k) M = some (.inl (), M) ∧ L_formal_2 f' (wc M w) (nI k) σ = some (.inl (), σ)) := by
    intro d
    induction d with
    | zero =>
      intro k f f' hk hf hf' _
      obtain ⟨f, rfl⟩ : ∃ g, f = g + 1 := ⟨f - 1, by omega⟩
      obtain ⟨f', rfl⟩ : ∃ g, f' = g + 1 := ⟨f' - 1, by omega⟩
      right
      rw [KL_X2_argument_2, ifF a3, ifT a5, ifT b1.1, ls_size b1, ob_some, b3, ifT ((bI_le (by omega) (by omega)).mpr (by omega)), L_formal_2, a7, ifT ((bI_le (by omega) (by omega)).mpr (by omega))]
      exact ⟨rfl, rfl⟩
    | succ d ih =>
      intro k f f' hk hf hf' _
      obtain ⟨f, rfl⟩ : ∃ g, f = g + 1 := ⟨f - 1, by omega⟩
      obtain ⟨f', rfl⟩ : ∃ g, f' = g + 1 := ⟨f' - 1, by omega⟩
      obtain ⟨w', c1, c2⟩ := b4 k (by omega)
      obtain ⟨v1, v2, v3⟩ := c1.val
      have hlw := c1.2.2
      have hltK : ¬ nI (car C) ≤ nI k := by rw [bI_le (by omega) (by omega)]; omega
      have hltF : ¬ nI (car C) ≤ nI k := by rw [bI_le (by omega) (by omega)]; omega
      rw [KL_X2_argument_2, ifF a3, ifT a5, ifT b1.1, ls_size b1, ob_some, b3, ifF hltK, ifT a5, ifT b1.1, ls_get b1 (by omega), ob_some, ifT v3, ifT v1, v2, ob_some, L_formal_2, a7, ifF hltF, ifT (inb_nI' (by omega) (by decide)), ix_nI (by omega), c2]
      by_cases e : w' = w
      · left
        rw [ifT (show nI (w') = nI w from by rw [e]), ifT (lg_eq.mpr (show wc M (w') = wc M w from by rw [e]))]
        exact ⟨k, by omega, rfl, rfl⟩
      · rw [ifF (show ¬ nI (w') = nI w from fun z => e ((bI_eq (by omega) (by omega)).mp z)), ifF (fun z => e ((wc_inj W hlw hw).mp (lg_eq.mp z))), nm_eq, nm_eq, nI_addL]
        exact ih (k + 1) f f' (by omega) (by omega) (by omega) (Or.inr trivial)
  unfold K_X2_argument F_formal
  rcases loop (car C) 0 FU FU (by omega) (by show car C < 4611686018427387904; omega) (by show car C < 4611686018427387904; omega) (Or.inr trivial) with ⟨j, e0, e1, e2⟩ | ⟨e1, e2⟩
  · left
    rw [show (0 : Int32) = nI 0 from rfl, e1, e2, obS_inr, obS_inr]
    exact ⟨j, e0, a2, rfl, rfl⟩
  · right
    rw [show (0 : Int32) = nI 0 from rfl, e1, e2, obS_inl, obS_inl]
    exact ⟨rfl, rfl⟩
theorem getD_app_l {xs ys : List Nat} {k : Nat} (h : k < xs.length) : (xs ++ ys).getD k 0 = xs.getD k 0 := by
  rw [List.getD_eq_getElem?_getD, List.getD_eq_getElem?_getD, List.getElem?_append_left h]
theorem getD_app_r {xs ys : List Nat} {k : Nat} : (xs ++ ys).getD (xs.length + k) 0 = ys.getD k 0 := by
  rw [List.getD_eq_getElem?_getD, List.getD_eq_getElem?_getD, List.getElem?_append_right (Nat.le_add_right _ _), Nat.add_sub_cancel_left]
theorem z_functionOf (P : Pe C M σ i dep c s n) {w : Nat} (hw : w < 38 + cm C) : (∃ k, k < cnf C ∧ cnf C ≤ 12 ∧ K_X2_functionOf (nI w) M = some (cfn C k, M) ∧ F_function (wc M w) σ = some (nI k, σ) ∧ cfn C k ≠ 0 ∧ FnR C M σ k) ∨ (K_X2_functionOf (nI w) M = some (0, M) ∧ F_function (wc M w) σ = some (-1, σ)) := by
  obtain ⟨L, W, h1280⟩ := P.wb
  obtain ⟨fs, nfs, a1, a2, a3, a4, a5, a6⟩ := P.en.2.2.2.1
  have hfn : ∀ k, k < cnf C → ∃ w', mI M 1000 (cfn C k) = nI w' ∧ w' < 38 + cm C ∧ tB σ 40 k = wc M w' ∧ mk M (cfn C k) = 6 := fun k hk => by
    obtain ⟨-, ⟨c1, -, -⟩, ⟨w', d1, d2, d3, d4⟩, -⟩ := a6 k hk
    exact ⟨w', d1, d3, d4, c1⟩
  have loop2 : ∀ (d j f f' : Nat), j + d = nfs.length → d < f → d < f' → (∃ k, k < cnf C ∧ KL_X2_functionOf_60 f (nI w) (nI j) M = some (.inr (cfn C k), M) ∧ L_function_2 f' (wc M w) (nI (fs.length + j)) σ = some (.inr (nI k), σ)) ∨ (KL_X2_functionOf_60 f (nI w) (nI j) M = some (.inl (), M) ∧ L_function_2 f' (wc M w) (nI (fs.length + j)) σ = some (.inl (), σ)) := by
    intro d
    induction d with
    | zero =>
      intro k f f' hk hf hf'
      obtain ⟨f, rfl⟩ : ∃ g, f = g + 1 := ⟨f - 1, by omega⟩
      obtain ⟨f', rfl⟩ : ∃ g, f' = g + 1 := ⟨f' - 1, by omega⟩
      right
      rw [KL_X2_functionOf_60, ls_size a2, ob_some, ifT ((bI_le (by omega) (by omega)).mpr (by omega)), L_function_2, a5, ifT ((bI_le (by omega) (by omega)).mpr (by omega))]
      exact ⟨rfl, rfl⟩
    | succ d ih =>
      intro k f f' hk hf hf'
      obtain ⟨f, rfl⟩ : ∃ g, f = g + 1 := ⟨f - 1, by omega⟩
      obtain ⟨f', rfl⟩ : ∃ g, f' = g + 1 := ⟨f' - 1, by omega⟩
      obtain ⟨w', c1, c2, c3, c4⟩ := hfn (fs.length + k) (by omega)
      have e0 : nfs.getD k 0 = cfn C (fs.length + k) := by rw [(a6 (fs.length + k) (by omega)).1, getD_app_r]
      have hltK : ¬ nI nfs.length ≤ nI k := by rw [bI_le (by omega) (by omega)]; omega
      have hltF : ¬ nI (cnf C) ≤ nI (fs.length + k) := by rw [bI_le (by omega) (by omega)]; omega
      rw [KL_X2_functionOf_60, ls_size a2, ob_some, ifF hltK, ls_get a2 (by omega), ob_some, e0, ifT (Or.inr c4), ifT c4, c1, L_function_2, a5, ifF hltF, ifT (inb_nI' (by omega) (by decide)), ix_nI (by omega), c3]
      by_cases e : w' = w
      · left
        rw [ifT (show nI (w') = nI w from by rw [e]), ls_get a2 (by omega), ob_some, e0, ifT (Or.inr c4), ifT (lg_eq.mpr (show wc M (w') = wc M w from by rw [e]))]
        exact ⟨fs.length + k, by omega, rfl, rfl⟩
      · rw [ifF (show ¬ nI (w') = nI w from fun z => e ((bI_eq (by omega) (by omega)).mp z)), ifF (fun z => e ((wc_inj W c2 hw).mp (lg_eq.mp z))), nm_eq, nm_eq, nI_addL, nI_addL]
        exact ih (k + 1) f f' (by omega) (by omega) (by omega)
  have loop1 : ∀ (d k f f' : Nat), k + d = fs.length → d < f → d + nfs.length < f' → (∃ j, j < cnf C ∧ KL_X2_functionOf_2 f (nI w) (nI k) M = some (.inr (cfn C j), M) ∧ L_function_2 f' (wc M w) (nI k) σ = some (.inr (nI j), σ)) ∨ (KL_X2_functionOf_2 f (nI w) (nI k) M = some (.inl (), M) ∧ ∃ f'', nfs.length < f'' ∧ L_function_2 f' (wc M w) (nI k) σ = L_function_2 f'' (wc M w) (nI fs.length) σ) := by
    intro d
    induction d with
    | zero =>
      intro k f f' hk hf hf'
      obtain ⟨f, rfl⟩ : ∃ g, f = g + 1 := ⟨f - 1, by omega⟩
      right
      rw [KL_X2_functionOf_2, ls_size a1, ob_some, ifT ((bI_le (by omega) (by omega)).mpr (by omega))]
      exact ⟨rfl, f', by omega, by rw [show k = fs.length by omega]⟩
    | succ d ih =>
      intro k f f' hk hf hf'
      obtain ⟨f, rfl⟩ : ∃ g, f = g + 1 := ⟨f - 1, by omega⟩
      obtain ⟨f', rfl⟩ : ∃ g, f' = g + 1 := ⟨f' - 1, by omega⟩
      obtain ⟨w', c1, c2, c3, c4⟩ := hfn k (by omega)
      have e0 : fs.getD k 0 = cfn C k := by rw [(a6 k (by omega)).1, getD_app_l (by omega)]
      have hltK : ¬ nI fs.length ≤ nI k := by rw [bI_le (by omega) (by omega)]; omega
      have hltF : ¬ nI (cnf C) ≤ nI k := by rw [bI_le (by omega) (by omega)]; omega
      rw [KL_X2_functionOf_2, ls_size a1, ob_some, ifF hltK, ls_get a1 (by omega), ob_some, e0, ifT (Or.inr c4), ifT c4, c1, L_function_2, a5, ifF hltF, ifT (inb_nI' (by omega) (by decide)), ix_nI (by omega), c3]
      by_cases e : w' = w
      · left
        rw [ifT (show nI (w') = nI w from by rw [e]), ls_get a1 (by omega), ob_some, e0, ifT (Or.inr c4), ifT (lg_eq.mpr (show wc M (w') = wc M w from by rw [e]))]
        exact ⟨k, by omega, rfl, rfl⟩
      · rw [ifF (show ¬ nI (w') = nI w from fun z => e ((bI_eq (by omega) (by omega)).mp z)), ifF (fun z => e ((wc_inj W c2 hw).mp (lg_eq.mp z))), nm_eq, nm_eq, nI_addL]
        exact ih (k + 1) f f' (by omega) (by omega) (by omega)
  have fin : ∀ k, k < cnf C → cfn C k ≠ 0 ∧ FnR C M σ k := fun k hk => ⟨(a6 k hk).2.1.2.2, (a6 k hk).2⟩
  unfold K_X2_functionOf F_function
  rw [show (0 : Int32) = nI 0 from rfl]
  rcases loop1 fs.length 0 FU FU (by omega) (by show fs.length < 4611686018427387904; omega) (by show fs.length + nfs.length < 4611686018427387904; omega) with ⟨j, e0, e1, e2⟩ | ⟨e1, f'', e2, e3⟩
  · left
    rw [e1, e2, obS_inr, obS_inr]
    exact ⟨j, e0, a4, rfl, rfl, fin j e0⟩
  · rw [e1, obS_inl, e3]
    rcases loop2 nfs.length 0 FU f'' (by omega) (by show nfs.length < 4611686018427387904; omega) (by omega) with ⟨j, g0, g1, g2⟩ | ⟨g1, g2⟩
    · left
      rw [g1, show nI fs.length = nI (fs.length + 0) from rfl, g2, obS_inr, obS_inr]
      exact ⟨j, g0, a4, rfl, rfl, fin j g0⟩
    · right
      rw [g1, show nI fs.length = nI (fs.length + 0) from rfl, g2, obS_inl, obS_inl]
      exact ⟨rfl, rfl⟩
/-- what was made since a base may be written -/
theorem Pe.re {X : Nat → Prop} (Pb : Pe C Mb σb ib depb cb' sb' nb') (E : Es Mb σb M σ) (P : Pe C M σ i dep c s n) (F : Fz X M M') (hX : ∀ o, X o → mn Mb ≤ o) (h1 : mn M' + c' ≤ mn M + c) (h2 : ms M' + s' ≤ ms M + s) : Pe C M' σ i dep c' s' n ∧ Es Mb σb M' σ := by
  have P0 := P
  have h167 := Pb.n167
  obtain ⟨a1, a2, a3, ⟨a4, a5, a6, a7⟩, a8⟩ := P
  have h90 : So M M' 90 := F.so (by have := a2.2.1; omega) (fun q => by have := hX _ q; omega)
  have FE : Fz (fun o => o = 90) Mb M' := E.1.tr2 F (fun o ho z => by have := hX o z; omega)
  have hX3 : ∀ o, o = 90 → mk Mb o = 3 := fun o z => by rw [z]; exact Pb.en.1
  have E' : Es Mb σb M' σ := ⟨FE, fun g => by rw [h90.r]; exact E.2.1 g, fun g g1 g2 => by rw [h90.i]; exact E.2.2.1 g g1 g2, E.2.2.2⟩
  obtain ⟨L, W, -⟩ := Pb.wb
  have hnm : mR M 201 4 = mR Mb 201 4 := (E.1.so (by omega) (by decide)).r 201
  refine ⟨⟨a1.go F (fun o z => Or.inr ⟨by have := hX o z; omega, fun q => ?_⟩) (h90.i _) (by rw [h90.i]; exact a1.2.2.1.2.1) a1.2.2.1.2.2 a1.2.2.2.1.1 a1.2.2.2.1.2.1 a1.2.2.2.1.2.2.1 a1.2.2.2.1.2.2.2 a1.2.2.2.2.1 a1.2.2.2.2.2, Pb.en.fz FE hX3 (E'.2.1 408) (fun w _ => Pb.wcs FE hX3 w) E.2.2.2.2 (by decide), ⟨by rw [h90.i]; exact a3.1, a3.2⟩, ⟨by omega, by omega, a6, a7⟩, a8⟩, E'⟩
  have := hX o z
  have w8 := W.2.2.2.2.2.2.2.1
  rw [hnm] at q
  omega
end LOOK
