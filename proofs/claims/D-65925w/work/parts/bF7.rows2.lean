/-! Layer B: the flat model: the rows of an element, whole (the component) -/
set_option maxRecDepth 100000
section ROWS7
variable {C C' : PC} {D D' D2 : FQ} {M M' M1 M2 : CM} {σ σ' σ0 σ2 : TS} {mss fss xs bs qs os : List Nat} {B l k n o m u w Q I I' L V V' Bm Bm' b v r R R' E E' cr i i' k0 fr e eo fl z env kk tf cb d : Nat} {P P' X T : Nat → Prop} {S S' : List Nat} {a : Nat × Nat × Nat} {A W W1 W2 : List (Nat × Nat × Nat)} {ks : List (Nat × Nat)} {x : Int64}
theorem k_rows (hB1 : B ≤ 1280) (F : FiS C B P mss fss D M σ V I Bm cr R E) (hC : Cx C P D M σ I R E d i tf cb fr W ks) (he : P eo ∧ mk M eo = 11 ∧ mI M 2003 eo = nI w) (hMs : MsR C P M σ (mR M 2006 eo) e) (hw : 38 ≤ w ∧ w < 38 + cm C) :
    ∃ D2 M2 y k0 n, (∀ cf mo x5, elB cf ((pl D 99).getD i 0) eo mo (nI fr) (nI (fr + (W ++ wcE i ks).length)) x5 M = elC cf ((pl D 99).getD i 0) eo mo (nI R) y x5 M2) ∧ FiS C B P mss fss D2 M2 σ V I Bm cr (R + (adv σ (wc M w) (W ++ wcE i ks) ++ msE k0 n i).length) E ∧ Wz C C P M M2 σ σ ∧ Dx D D2 M ∧ (∀ r, r < R → RwS D M D2 M2 r) ∧ (∀ r, r < R → ¬ (fr ≤ r ∧ r < fr + (W ++ wcE i ks).length) → hit D2 M2 r = hit D M r) ∧ (∀ c, c < (W ++ wcE i ks).length → hit D2 M2 (fr + c) = if ldB σ (wc M w) (ge (W ++ wcE i ks) c) = true then 1 else hit D M (fr + c)) ∧ RsR C P D2 M2 σ I R (adv σ (wc M w) (W ++ wcE i ks) ++ msE k0 n i) ∧ FqO D (Tr 0) M M2 ∧ (n ≤ 426 ∧ MxT σ e k0 n ∧ k0 + n ≤ tM σ) ∧ ((y = -1 ∧ rdk σ (wc M w) (W ++ wcE i ks) = 0) ∨ ∃ w', y = nI w' ∧ 38 ≤ w' ∧ w' < 38 + cm C ∧ tB σ 64 (rdk σ (wc M w) (W ++ wcE i ks)) = wc M w' ∧ 1 ≤ rdk σ (wc M w) (W ++ wcE i ks) ∧ rdk σ (wc M w) (W ++ wcE i ks) < tM σ) := by
  obtain ⟨c1, c2, c3, c4, ⟨⟨c5, c6⟩, c7, c8, c9, c10⟩, c11⟩ := hC
  obtain ⟨hWN, h1280, hQ⟩ := F.wn hB1
  have fu := FUb
  obtain ⟨os, k0, q1, q2, q3, q4, q5⟩ := hMs.mx (F.tm24 hB1) hQ
  generalize hWd : W ++ wcE i ks = Wd at *
  have al := adv_len (σ := σ) (x := wc M w) (W := Wd)
  have ts := trR_succ d (by omega)
  have tl := trR_le (d + 1) (by omega)
  have iI := F.2.1.1.2.1
  have hm := F.1.rm
  -- those of the window
  have el := fun (cf : Nat → Nat → Int32 → Int32 → Int32 → CM → Option ((Unit ⊕ Nat) × CM)) (mo : Nat) (x5 : Int32) => k_elemL (cf := cf) (x1 := (pl D 99).getD i 0) (x6 := mo) (x5 := x5) (x7 := nI R) (fr := fr) (to := fr + Wd.length) (eo := eo) hB1 hw Wd 0 FU D M R (-1) (by omega) (by omega) F c4 (by omega) he c3
  -- one state for all of them
  have one : ∃ D1 M1 y, (∀ cf mo x5, KL_X0_element_119 cf FU ((pl D 99).getD i 0) eo (nI (fr + Wd.length)) x5 mo (nI R) (-1) (nI fr) M = some (y, M1)) ∧ FiS C B P mss fss D1 M1 σ V I Bm cr (R + (adv σ (wc M w) Wd).length) E ∧ Wz C C P M M1 σ σ ∧ Dx D D1 M ∧ (∀ r, r < R → RwS D M D1 M1 r) ∧ (∀ r, r < R → ¬ (fr ≤ r ∧ r < fr + Wd.length) → hit D1 M1 r = hit D M r) ∧ (∀ c, c < Wd.length → hit D1 M1 (fr + c) = if ldB σ (wc M w) (ge Wd c) = true then 1 else hit D M (fr + c)) ∧ RsR C P D1 M1 σ I R (adv σ (wc M w) Wd) ∧ FqO D (Tr 0) M M1 ∧ ((y = -1 ∧ rdk σ (wc M w) Wd = 0) ∨ ∃ w', y = nI w' ∧ 38 ≤ w' ∧ w' < 38 + cm C ∧ tB σ 64 (rdk σ (wc M w) Wd) = wc M w' ∧ 1 ≤ rdk σ (wc M w) Wd ∧ rdk σ (wc M w) Wd < tM σ) := by
    obtain ⟨D1, M1, y, g1, g2, g3, g4, g5, g6, g7, g8, g9, g10⟩ := el (fun _ _ _ _ _ _ => none) 0 0
    refine ⟨D1, M1, y, fun cf mo x5 => ?_, g2, g3, g4, g5, g6, g7, g8, g9, ?_⟩
    · have same : ∀ (f : Nat) (x8 x9 : Int32) (N : CM), KL_X0_element_119 cf f ((pl D 99).getD i 0) eo (nI (fr + Wd.length)) x5 mo (nI R) x8 x9 N = KL_X0_element_119 (fun _ _ _ _ _ _ => none) f ((pl D 99).getD i 0) eo (nI (fr + Wd.length)) 0 0 (nI R) x8 x9 N := by
        intro f
        induction f with
        | zero => intro x8 x9 N; rfl
        | succ f ih =>
          intro x8 x9 N
          rw [KL_X0_element_119, KL_X0_element_119]
          simp only [ih]
      rw [same]; exact g1
    · rcases g10 with ⟨z, _⟩ | ⟨_, ⟨z1, z2⟩ | ⟨w', z⟩⟩
      · exact absurd z (by decide)
      · refine Or.inl ⟨z1, ?_⟩
        have := rdk_none (σ := σ) (x := wc M w) (W2 := []) Wd z2
        rw [List.append_nil] at this; exact this
      · exact Or.inr ⟨w', z⟩
  obtain ⟨D1, M1, y, g1, F1, v1, x1, st1, h1, h2, r1, f1, y1⟩ := one
  -- its own
  have s1 := v1.2.1.1 eo he.1
  obtain ⟨D2, M2, a1, F2, v2, x2, st2, r2, z2, f2⟩ := k_addRows (B := B) F1 c1 (q1.wz v1 (fun _ z => z)) (fun j hj => (q4 j hj).wz v1 (fun _ z => z) (by omega)) q2 (by omega)
  have e99 : (pl D1 99).getD i 0 = (pl D 99).getD i 0 := (x1.1 99 i (by omega)).2
  rw [e99] at a1
  refine ⟨D2, M2, y, k0, os.length, fun cf mo x5 => ?_, ?_, v1.tr v2 (fun _ z => z), x1.tr x2 v1.1.1, fun r hr => (st1 r hr).tr (st2 r (by omega)).1, fun r hr hn => by rw [(st2 r (by omega)).2]; exact h1 r hr hn, fun c hc => by rw [(st2 _ (by omega)).2]; exact h2 c hc, ?_, f1.tr (f2.mono (fun t z => Tr.mono (Nat.zero_le _) z)) x1, ⟨q3, q5, q2.2⟩, y1⟩
  · unfold elB
    rw [F.r18.1, nm_eq, g1, ob_some, ifT (by rw [s1.k]; exact he.2.1), s1.r, a1, ob_some]
    rfl
  · rw [List.length_append, msE_len, ← Nat.add_assoc]; exact F2
  · exact (r1.mv v2 x2 (fun j hj => (st2 _ (by omega)).1) ⟨F1.2.1.1.2.1, Nat.le_refl _⟩ (Ft.rf _ _)).app r2
end ROWS7
