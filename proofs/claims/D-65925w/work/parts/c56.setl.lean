/-! Layer B: set: what is put by and back; the call itself -/
set_option maxRecDepth 100000
abbrev seJ : List Nat := [4, 5, 33, 91, 3212, 3213, 3215, 3216]
abbrev seU : List Nat := [0, 1, 2, 3, 104, 105, 110, 111, 158, 160, 161, 170, 171, 248, 249]
/-- old objects but for what set writes -/
def SeD (M M' : CM) : Prop := (∀ g o, o < mn M → seJ.contains g = false → mI M' g o = mI M g o) ∧ (∀ g o, o < mn M → g ≠ 3210 → mR M' g o = mR M g o) ∧ (∀ a j, a < mn M → ([163, 164] : List Nat).contains a = false → mA M' a j = mA M a j) ∧ (∀ a j, a < mn M → mX M' a j = mX M a j) ∧ (∀ o, o < mn M → mk M' o = mk M o ∧ ml M' o = ml M o) ∧ mn M ≤ mn M'
section SETL
variable {C C' : PC} {B : Nat} {P : Nat → Prop} {mss fss : List Nat} {D : FQ} {V K N v k w : Nat} {M M' M0 M1 M2 : CM} {σ σ' σ0 s s1 : TS} {x x1 x2 x3 y r p : Int32} {I0 A0 : List Nat}
theorem SeD.rf : SeD M M := ⟨fun _ _ _ _ => rfl, fun _ _ _ _ => rfl, fun _ _ _ _ => rfl, fun _ _ _ => rfl, fun _ _ => ⟨rfl, rfl⟩, Nat.le_refl _⟩
theorem SeD.kf (h : SeD M M1) (k : KF D I0 [3210] A0 [] M1 M') (hI : I0.all seJ.contains = true) (hA : A0.all ([163, 164] : List Nat).contains = true) : SeD M M' := by
  obtain ⟨a1, a2, a3, a4, a5, a6⟩ := h
  have k : KF D seJ [3210] [163, 164] [] M1 M' := k.mono hI rfl hA rfl
  exact ⟨fun g o ho hg => (k.i hg o).trans (a1 g o ho hg), fun g o ho hg => (k.r (by simpa using hg) o).trans (a2 g o ho hg), fun a j ha hA => (k.ga hA j).trans (a3 a j ha hA), fun a j ha => (k.gx rfl j).trans (a4 a j ha), fun o ho => ⟨(k.k o).trans (a5 o ho).1, (k.gl o).trans (a5 o ho).2⟩, by rw [k.n]; exact a6⟩
theorem SeD.wm1 (h : SeD M M1) (x y : Int32) : SeD M (wM M1 x y) := by
  obtain ⟨a1, a2, a3, a4, a5, a6⟩ := h
  have so : ∀ o, o < mn M → So M1 (wM M1 x y) o := fun o ho => (wM_f M1 x y).so (by omega) (fun q => q)
  exact ⟨fun g o ho hg => ((so o ho).i g).trans (a1 g o ho hg), fun g o ho hg => ((so o ho).r g).trans (a2 g o ho hg), fun a j ha hA => ((so a ha).a j).trans (a3 a j ha hA), fun a j ha => ((so a ha).x j).trans (a4 a j ha), fun o ho => ⟨((wM_f M1 x y).2.1 o (by omega)).1.trans (a5 o ho).1, ((wM_f M1 x y).2.1 o (by omega)).2.trans (a5 o ho).2⟩, Nat.le_trans a6 (wM_f M1 x y).1⟩
/-- values are put by -/
theorem k_57 (W : FW C B P mss fss D M σ) (hV : V ≤ (pl D 98).length ∧ V ≤ 96) (h15 : mI M 15 1 = nI V) {r3 : Nat} : ∀ (m j kf : Nat) (M1 : CM), j + m = V → m < kf → KF D [] [] [163, 164] [] M M1 → (∀ i, i < j → mA M1 163 i = mI M 3213 ((pl D 98).getD i 0) ∧ mA M1 164 i = mI M 3212 ((pl D 98).getD i 0)) → ∃ M', KL_X0_set_57 kf x2 r3 (nI j) M1 = some ((), M') ∧ KF D [] [] [163, 164] [] M M' ∧ ∀ i, i < V → mA M' 163 i = mI M 3213 ((pl D 98).getD i 0) ∧ mA M' 164 i = mI M 3212 ((pl D 98).getD i 0) := by
  intro m
  induction m with
  | zero =>
    intro j kf M1 hj hk k g
    obtain ⟨kf, rfl⟩ : ∃ g, kf = g + 1 := ⟨kf - 1, by omega⟩
    exact ⟨M1, by rw [KL_X0_set_57, k.i rfl, h15, ifT ((bI_le (by omega) (by omega)).mpr (by omega))], k, fun i hi => g i (by omega)⟩
  | succ m ih =>
    intro j kf M1 hj hk k g
    obtain ⟨kf, rfl⟩ : ∃ g, kf = g + 1 := ⟨kf - 1, by omega⟩
    have k17 : ∀ M', KF D [] [] [163, 164] [] M M' → mk M' ((pl D 98).getD j 0) = 17 := fun M' k => by rw [k.k]; exact (W.2.1.2.1 98 (by decide) j (by omega)).1
    have gt : ∀ M', KF D [] [] [163, 164] [] M M' → K_J2_get 98 (nI j) M' = some ((pl D 98).getD j 0, M') := fun M' k => k.get W.2.1 (by decide) (by omega) rfl rfl rfl
    have k2 : KF D [] [] [163, 164] [] M (mwA M1 163 j (mI M 3213 ((pl D 98).getD j 0))) := k.wA rfl ⟨by decide, by decide⟩
    have k3 : KF D [] [] [163, 164] [] M (mwA (mwA M1 163 j (mI M 3213 ((pl D 98).getD j 0))) 164 j (mI M 3212 ((pl D 98).getD j 0))) := k2.wA rfl ⟨by decide, by decide⟩
    obtain ⟨M', e1, e2⟩ := ih (j + 1) kf _ (by omega) (by omega) k3 (fun i hi => by
      rw [mA_mwA, mA_mwA, mA_mwA, mA_mwA, ifF (by omega), ifF (by omega)]
      by_cases q : i = j
      · rw [ifT ⟨rfl, q⟩, ifT ⟨rfl, q⟩, q]; exact ⟨rfl, rfl⟩
      · rw [ifF (fun z => q z.2), ifF (fun z => q z.2)]; exact g i (by omega))
    refine ⟨M', ?_, e2⟩
    have ij : inb (nI j) 96 := inb_nI' (by omega) (by decide)
    have xj : ix (nI j) = j := ix_nI (by omega)
    rw [KL_X0_set_57, k.i rfl, h15, ifF (fun z => by have := (bI_le (by omega) (by omega)).mp z; omega), gt M1 k, ob_some, ifT (Or.inr (k17 M1 k)), ifT (k17 M1 k), ifT ij, xj, k.i rfl, nm_eq, gt _ k2, ob_some, ifT (Or.inr (k17 _ k2)), ifT (k17 _ k2), ifT ij, k2.i rfl, nm_eq, nm_eq, nI_addL]
    exact e1
theorem t_52 (hV : V ≤ 96) : ∀ (m j tf : Nat) (s : TS), j + m = V → m < tf → tI s 107 = nI V → ∃ s', L_set_52 tf x1 x2 (nI j) s = some ((), s') ∧ Ft [160, 248, 249] s s' ∧ (∀ i, i < j → tA s' 248 i = tA s 248 i ∧ tA s' 249 i = tA s 249 i ∧ tA s' 160 i = tA s 160 i) ∧ ∀ i, j ≤ i → i < V → tA s' 248 i = tA s 104 i ∧ tA s' 249 i = tA s 105 i ∧ tA s' 160 i = 0 := by
  intro m
  induction m with
  | zero =>
    intro j tf s hj ht h
    obtain ⟨tf, rfl⟩ : ∃ g, tf = g + 1 := ⟨tf - 1, by omega⟩
    exact ⟨s, by rw [L_set_52, h, ifT ((bI_le (by omega) (by omega)).mpr (by omega))], Ft.rf _ _, fun _ _ => ⟨rfl, rfl, rfl⟩, fun i h1 h2 => by omega⟩
  | succ m ih =>
    intro j tf s hj ht h
    obtain ⟨tf, rfl⟩ : ∃ g, tf = g + 1 := ⟨tf - 1, by omega⟩
    have ij : inb (nI j) 96 := inb_nI' (by omega) (by decide)
    have xj : ix (nI j) = j := ix_nI (by omega)
    obtain ⟨s2, hs2⟩ : ∃ q, q = tsA (tsA (tsA s 248 j (tA s 104 j)) 249 j (tA s 105 j)) 160 j 0 := ⟨_, rfl⟩
    have f2 : Ft [160, 248, 249] s s2 := by rw [hs2]; exact (((Ft.rf _ s).p_tsA rfl).p_tsA rfl).p_tsA rfl
    have v2 : ∀ i, tA s2 248 i = (if i = j then tA s 104 j else tA s 248 i) ∧ tA s2 249 i = (if i = j then tA s 105 j else tA s 249 i) ∧ tA s2 160 i = if i = j then 0 else tA s 160 i := fun i => by
      rw [hs2]
      by_cases e : i = j <;> simp +decide only [tA_tsA, e, ↓reduceIte]
    obtain ⟨s', e1, e2, e3, e4⟩ := ih (j + 1) tf s2 (by omega) (by omega) ((f2 107 rfl).1.trans h)
    refine ⟨s', ?_, f2.tr e2, fun i hi => ?_, fun i h1 h2 => ?_⟩
    · rw [L_set_52, h, ifF (fun z => by have := (bI_le (by omega) (by omega)).mp z; omega), ifT ij, ifT ij, xj, nm_eq, ifT ij, ifT ij, nm_eq, ifT ij, nm_eq, nm_eq, nI_addL]
      have e0 : tA (tsA s 248 j (tA s 104 j)) 105 j = tA s 105 j := by rw [tA_tsA, ifF (by omega)]
      rw [e0, ← hs2, e1]
    · obtain ⟨a1, a2, a3⟩ := e3 i (by omega)
      obtain ⟨b1, b2, b3⟩ := v2 i
      rw [a1, a2, a3, b1, b2, b3, ifF (by omega), ifF (by omega), ifF (by omega)]
      exact ⟨rfl, rfl, rfl⟩
    · by_cases q : i = j
      · obtain ⟨a1, a2, a3⟩ := e3 i (by omega)
        obtain ⟨b1, b2, b3⟩ := v2 i
        rw [a1, a2, a3, b1, b2, b3, ifT q, ifT q, ifT q, q]
        exact ⟨rfl, rfl, rfl⟩
      · obtain ⟨a1, a2, a3⟩ := e4 i (by omega) h2
        rw [a1, a2, a3, (f2 104 rfl).2.2.1, (f2 105 rfl).2.2.1]
        exact ⟨rfl, rfl, rfl⟩
/-- values are put back -/
theorem k_154 (W : FW C B P mss fss D M σ) (hV : V ≤ (pl D 98).length ∧ V ≤ 96) (h15 : mI M 15 1 = nI V) {r3 : Nat} : ∀ (m j kf : Nat) (M1 : CM), j + m = V → m < kf → KF D [3212, 3213] [] [] [] M M1 → (∀ i, i < j → mI M1 3213 ((pl D 98).getD i 0) = mA M 163 i ∧ mI M1 3212 ((pl D 98).getD i 0) = mA M 164 i) → ∃ M', KL_X0_set_154 kf r3 (nI j) M1 = some ((), M') ∧ KF D [3212, 3213] [] [] [] M M' ∧ ∀ i, i < V → mI M' 3213 ((pl D 98).getD i 0) = mA M 163 i ∧ mI M' 3212 ((pl D 98).getD i 0) = mA M 164 i := by
  intro m
  induction m with
  | zero =>
    intro j kf M1 hj hk k g
    obtain ⟨kf, rfl⟩ : ∃ g, kf = g + 1 := ⟨kf - 1, by omega⟩
    exact ⟨M1, by rw [KL_X0_set_154, k.i rfl, h15, ifT ((bI_le (by omega) (by omega)).mpr (by omega))], k, fun i hi => g i (by omega)⟩
  | succ m ih =>
    intro j kf M1 hj hk k g
    obtain ⟨kf, rfl⟩ : ∃ g, kf = g + 1 := ⟨kf - 1, by omega⟩
    have inj : ∀ u, u < V → (pl D 98).getD u 0 = (pl D 98).getD j 0 → u = j := fun u hu e => (W.2.1.inj (by decide) (by decide) (by omega) (by omega) e).2
    have tz := TZ.vr W.2.1 (v := j) (by omega)
    have k17 : ∀ M', KF D [3212, 3213] [] [] [] M M' → mk M' ((pl D 98).getD j 0) = 17 := fun M' k => by rw [k.k]; exact (W.2.1.2.1 98 (by decide) j (by omega)).1
    have gt : ∀ M', KF D [3212, 3213] [] [] [] M M' → K_J2_get 98 (nI j) M' = some ((pl D 98).getD j 0, M') := fun M' k => k.get W.2.1 (by decide) (by omega) rfl rfl rfl
    have k2 : KF D [3212, 3213] [] [] [] M (msI M1 3213 ((pl D 98).getD j 0) (mA M 163 j)) := k.wI rfl tz
    have k3 : KF D [3212, 3213] [] [] [] M (msI (msI M1 3213 ((pl D 98).getD j 0) (mA M 163 j)) 3212 ((pl D 98).getD j 0) (mA M 164 j)) := k2.wI rfl tz
    obtain ⟨M', e1, e2⟩ := ih (j + 1) kf _ (by omega) (by omega) k3 (fun i hi => by
      rw [mI_msI, mI_msI, mI_msI, mI_msI, ifF (by omega)]
      by_cases q : i = j
      · rw [q, ifT ⟨rfl, rfl⟩, ifT ⟨rfl, rfl⟩]; exact ⟨rfl, rfl⟩
      · have ne : (pl D 98).getD i 0 ≠ (pl D 98).getD j 0 := fun e => q (inj i (by omega) e)
        rw [ifF (fun z => ne z.2), ifF (fun z => ne z.2), ifF (fun z => ne z.2)]; exact g i (by omega))
    refine ⟨M', ?_, e2⟩
    have ij : inb (nI j) 96 := inb_nI' (by omega) (by decide)
    have xj : ix (nI j) = j := ix_nI (by omega)
    rw [KL_X0_set_154, k.i rfl, h15, ifF (fun z => by have := (bI_le (by omega) (by omega)).mp z; omega), gt M1 k, ob_some, ifT (Or.inr (k17 M1 k)), ifT ij, ifT (k17 M1 k), xj, k.ga rfl, nm_eq, gt _ k2, ob_some, ifT (Or.inr (k17 _ k2)), ifT ij, ifT (k17 _ k2), k2.ga rfl, nm_eq, nm_eq, nI_addL]
    exact e1
theorem t_208 (hV : V ≤ 96) : ∀ (m j tf : Nat) (s : TS), j + m = V → m < tf → tI s 107 = nI V → ∃ s', L_set_208 tf (nI j) s = some ((), s') ∧ Ft [104, 105, 160] s s' ∧ (∀ i, i < j → tA s' 104 i = tA s 104 i ∧ tA s' 105 i = tA s 105 i ∧ tA s' 160 i = tA s 160 i) ∧ ∀ i, j ≤ i → i < V → tA s' 104 i = tA s 248 i ∧ tA s' 105 i = tA s 249 i ∧ tA s' 160 i = 2 := by
  intro m
  induction m with
  | zero =>
    intro j tf s hj ht h
    obtain ⟨tf, rfl⟩ : ∃ g, tf = g + 1 := ⟨tf - 1, by omega⟩
    exact ⟨s, by rw [L_set_208, h, ifT ((bI_le (by omega) (by omega)).mpr (by omega))], Ft.rf _ _, fun _ _ => ⟨rfl, rfl, rfl⟩, fun i h1 h2 => by omega⟩
  | succ m ih =>
    intro j tf s hj ht h
    obtain ⟨tf, rfl⟩ : ∃ g, tf = g + 1 := ⟨tf - 1, by omega⟩
    have ij : inb (nI j) 96 := inb_nI' (by omega) (by decide)
    have xj : ix (nI j) = j := ix_nI (by omega)
    obtain ⟨s2, hs2⟩ : ∃ q, q = tsA (tsA (tsA s 104 j (tA s 248 j)) 105 j (tA s 249 j)) 160 j 2 := ⟨_, rfl⟩
    have f2 : Ft [104, 105, 160] s s2 := by rw [hs2]; exact (((Ft.rf _ s).p_tsA rfl).p_tsA rfl).p_tsA rfl
    have v2 : ∀ i, tA s2 104 i = (if i = j then tA s 248 j else tA s 104 i) ∧ tA s2 105 i = (if i = j then tA s 249 j else tA s 105 i) ∧ tA s2 160 i = if i = j then 2 else tA s 160 i := fun i => by
      rw [hs2]
      by_cases e : i = j <;> simp +decide only [tA_tsA, e, ↓reduceIte]
    obtain ⟨s', e1, e2, e3, e4⟩ := ih (j + 1) tf s2 (by omega) (by omega) ((f2 107 rfl).1.trans h)
    refine ⟨s', ?_, f2.tr e2, fun i hi => ?_, fun i h1 h2 => ?_⟩
    · rw [L_set_208, h, ifF (fun z => by have := (bI_le (by omega) (by omega)).mp z; omega), ifT ij, ifT ij, xj, nm_eq, ifT ij, ifT ij, nm_eq, ifT ij, nm_eq, nm_eq, nI_addL]
      have e0 : tA (tsA s 104 j (tA s 248 j)) 249 j = tA s 249 j := by rw [tA_tsA, ifF (by omega)]
      rw [e0, ← hs2, e1]
    · obtain ⟨a1, a2, a3⟩ := e3 i (by omega)
      obtain ⟨b1, b2, b3⟩ := v2 i
      rw [a1, a2, a3, b1, b2, b3, ifF (by omega), ifF (by omega), ifF (by omega)]
      exact ⟨rfl, rfl, rfl⟩
    · by_cases q : i = j
      · obtain ⟨a1, a2, a3⟩ := e3 i (by omega)
        obtain ⟨b1, b2, b3⟩ := v2 i
        rw [a1, a2, a3, b1, b2, b3, ifT q, ifT q, ifT q, q]
        exact ⟨rfl, rfl, rfl⟩
      · obtain ⟨a1, a2, a3⟩ := e4 i (by omega) h2
        rw [a1, a2, a3, (f2 248 rfl).2.2.1, (f2 249 rfl).2.2.1]
        exact ⟨rfl, rfl, rfl⟩
end SETL
