/-! Layer B: states are chosen, both sides -/
set_option maxRecDepth 100000
/-- the role of an unknown -/
def rlU (s : TS) (u : Nat) : Nat := if 0 ≤ tA s 189 u then (if tA s 191 u < 0 then 2 else 1) else 0
def rB (s : TS) (k u : Nat) : Bool := decide (rlU s u = k)
section STATES
variable {D D' : FQ} {M M' M0 M1 : CM} {s s' s0 : TS} {V E U S K N mode k e u d j kf tf : Nat} {c p : Nat → Bool} {n i : Nat}
theorem cnB_step (p : Nat → Bool) (n : Nat) : cnB p (n + 1) = cnB p n + if p n = true then 1 else 0 := rfl
theorem cnB_lt : ∀ {n}, u < n → p u = true → cnB p u < cnB p n
  | 0, h, _ => by omega
  | n + 1, h, z => by
    rw [cnB_step]
    by_cases y : u = n
    · subst y; rw [ifT z]; omega
    · have := cnB_lt (n := n) (by omega) z
      omega
theorem cnB_ex : ∀ {n}, i < cnB p n → ∃ u, u < n ∧ p u = true ∧ cnB p u = i
  | 0, h => by unfold cnB at h; omega
  | n + 1, h => by
    rw [cnB_step] at h
    by_cases z : p n = true
    · rw [ifT z] at h
      by_cases y : i < cnB p n
      · obtain ⟨u, a, b⟩ := cnB_ex y
        exact ⟨u, by omega, b⟩
      · exact ⟨n, by omega, z, by omega⟩
    · rw [ifF z] at h
      obtain ⟨u, a, b⟩ := cnB_ex (n := n) (by omega)
      exact ⟨u, by omega, b⟩
theorem rlU_le (s : TS) (u : Nat) : rlU s u ≤ 2 := by
  unfold rlU; split
  · split <;> omega
  · omega
/-- the twin's states below j -/
def TsR (s0 : TS) (j : Nat) (s : TS) : Prop := Ft [192, 198, 206, 207] s0 s ∧ (∀ u, u < j → tA s 192 u = nI (rlU s0 u)) ∧ tI s 198 = nI (cnB (rB s0 2) j) ∧ tI s 206 = nI (cnB (rB s0 1) j) ∧ ∀ u, u < j → rlU s0 u = 2 → tA s 207 (cnB (rB s0 2) u) = nI u
theorem t_115 (hU : U ≤ 180) (h197 : tI s0 197 = nI U) : ∀ (d j tf : Nat) (s : TS), j + d = U → d < tf → TsR s0 j s → ∃ s', L_chooseStates_115 tf (nI j) s = some ((), s') ∧ TsR s0 U s' := by
  intro d
  induction d with
  | zero =>
    intro j tf s hj htf h
    obtain ⟨tf, rfl⟩ : ∃ g, tf = g + 1 := ⟨tf - 1, by omega⟩
    obtain rfl : j = U := by omega
    refine ⟨s, ?_, h⟩
    unfold L_chooseStates_115
    rw [(h.1 197 rfl).1, h197, ifT ((bI_le (by omega) (by omega)).mpr (Nat.le_refl _))]
  | succ d ih =>
    intro j tf s hj htf h
    obtain ⟨tf, rfl⟩ : ∃ g, tf = g + 1 := ⟨tf - 1, by omega⟩
    obtain ⟨f, h1, h2, h3, h4⟩ := h
    have le : ¬ nI U ≤ nI j := fun z => by have := (bI_le (by omega) (by omega)).mp z; omega
    have nx : nI j + 1 = nI (j + 1) := nI_addL j 1
    have ij : inb (nI j) 200 := inb_nI' (by omega) (by decide)
    have xj : ix (nI j) = j := ix_nI (by omega)
    have r2 := rlU_le s0 j
    have cle := cnB_le (rB s0 2) j
    obtain ⟨sa, hsa⟩ : ∃ q, q = tsA s 192 j (nI (rlU s0 j)) := ⟨_, rfl⟩
    have fa : Ft [192, 198, 206, 207] s0 sa := by rw [hsa]; exact f.p_tsA rfl
    have va : ∀ u, tA sa 192 u = if u = j then nI (rlU s0 j) else tA s 192 u := fun u => by
      rw [hsa, tA_tsA]
      by_cases y : u = j
      · rw [ifT ⟨rfl, y⟩, ifT y]
      · rw [ifF (fun q => y q.2), ifF y]
    have eT : L_chooseStates_115 (tf + 1) (nI j) s = J_chooseStates_155_115 (L_chooseStates_115 tf) (nI j) (nI j) (nI (rlU s0 j)) s := by
      conv => lhs; unfold L_chooseStates_115
      rw [(f 197 rfl).1, h197, ifF le, ifT ij, xj, (f 189 rfl).2.2.1]
      unfold rlU
      by_cases a : 0 ≤ tA s0 189 j
      · rw [ifT a, ifT a, ifT ij, (f 191 rfl).2.2.1]
        by_cases b : tA s0 191 j < 0
        · rw [ifT b, ifT b]; rfl
        · rw [ifF b, ifF b]; rfl
      · rw [ifF a, ifF a]; rfl
    have up : ∀ sb, Ft [192, 198, 206, 207] s0 sb → (∀ u, tA sb 192 u = tA sa 192 u) → tI sb 198 = nI (cnB (rB s0 2) (j + 1)) → tI sb 206 = nI (cnB (rB s0 1) (j + 1)) → (∀ u, u < j + 1 → rlU s0 u = 2 → tA sb 207 (cnB (rB s0 2) u) = nI u) → ∃ s', L_chooseStates_115 tf (nI (j + 1)) sb = some ((), s') ∧ TsR s0 U s' := fun sb b1 b2 b3 b4 b5 => ih (j + 1) tf sb (by omega) (by omega) ⟨b1, fun u hu => by
      rw [b2, va]
      by_cases y : u = j
      · rw [ifT y, y]
      · rw [ifF y]; exact h1 u (by omega), b3, b4, b5⟩
    rw [eT]
    unfold J_chooseStates_155_115
    rw [ifT ij, xj, ← hsa, nm_eq, ifT ij, va, ifT rfl]
    by_cases z : rlU s0 j = 2
    · have c2 : cnB (rB s0 2) (j + 1) = cnB (rB s0 2) j + 1 := by rw [cnB_step, ifT (show rB s0 2 j = true from decide_eq_true z)]
      have c1 : cnB (rB s0 1) (j + 1) = cnB (rB s0 1) j := by rw [cnB_step, ifF (show ¬ rB s0 1 j = true by unfold rB; rw [z]; decide)]; rfl
      have e198 : tI sa 198 = nI (cnB (rB s0 2) j) := by rw [hsa]; exact h2
      obtain ⟨sb, hsb⟩ : ∃ q, q = tsI (tsA sa 207 (cnB (rB s0 2) j) (nI j)) 198 (nI (cnB (rB s0 2) j + 1)) := ⟨_, rfl⟩
      have fb : Ft [192, 198, 206, 207] s0 sb := by rw [hsb]; exact (fa.p_tsA rfl).p_tsI rfl
      have e192 : ∀ u, tA sb 192 u = tA sa 192 u := fun u => by rw [hsb]; show tA (tsA sa 207 _ _) 192 u = _; rw [tA_tsA, ifF (by omega)]
      rw [z, ifT (show nI 2 = (2 : Int32) from rfl), e198, ifT (inb_nI' (by omega) (by decide)), ix_nI (by omega), nm_eq, show tI (tsA sa 207 (cnB (rB s0 2) j) (nI j)) 198 = nI (cnB (rB s0 2) j) from e198, nI_addL, ← hsb, nm_eq, ifT ij, e192, va, ifT rfl, z, ifF (by decide), nx, nm_eq]
      refine up sb fb e192 ?_ ?_ (fun u hu hz => ?_)
      · rw [hsb, tI_tsI, ifT rfl, c2]
      · rw [hsb, tI_tsI, ifF (by decide)]
        show tI sa 206 = _
        rw [hsa, c1]; exact h3
      · rw [hsb]
        show tA (tsA sa 207 _ _) 207 _ = _
        rw [tA_tsA]
        by_cases y : u = j
        · subst y; rw [ifT ⟨rfl, rfl⟩]
        · have := cnB_lt (p := rB s0 2) (show u < j by omega) (decide_eq_true hz)
          rw [ifF (by omega), hsa, tA_tsA, ifF (by omega)]
          exact h4 u (by omega) hz
    · have n2 : ¬ nI (rlU s0 j) = (2 : Int32) := fun y => z ((bI_eq (b := 2) (by omega) (by decide)).mp y)
      have c2 : cnB (rB s0 2) (j + 1) = cnB (rB s0 2) j := by rw [cnB_step, ifF (show ¬ rB s0 2 j = true from fun y => z (of_decide_eq_true y))]; rfl
      have o207 : ∀ sb, (∀ i, tA sb 207 i = tA s 207 i) → ∀ u, u < j + 1 → rlU s0 u = 2 → tA sb 207 (cnB (rB s0 2) u) = nI u := fun sb q u hu hz => by
        have : u ≠ j := fun y => z (by rw [← y]; exact hz)
        rw [q]; exact h4 u (by omega) hz
      rw [ifF n2, ifT ij]
      by_cases y : rlU s0 j = 1
      · have c1 : cnB (rB s0 1) (j + 1) = cnB (rB s0 1) j + 1 := by rw [cnB_step, ifT (show rB s0 1 j = true from decide_eq_true y)]
        obtain ⟨sb, hsb⟩ : ∃ q, q = tsI sa 206 (nI (cnB (rB s0 1) j + 1)) := ⟨_, rfl⟩
        have fb : Ft [192, 198, 206, 207] s0 sb := by rw [hsb]; exact fa.p_tsI rfl
        rw [y, ifT (show nI 1 = (1 : Int32) from rfl), show tI sa 206 = nI (cnB (rB s0 1) j) by rw [hsa]; exact h3, nI_addL, ← hsb, nm_eq, nx, nm_eq]
        refine up sb fb (fun u => by rw [hsb]; rfl) ?_ ?_ (o207 sb (fun i => by rw [hsb, hsa]; show tA (tsA s 192 _ _) 207 i = _; rw [tA_tsA, ifF (by omega)]))
        · rw [hsb, tI_tsI, ifF (by decide), c2, hsa]; exact h2
        · rw [hsb, tI_tsI, ifT rfl, c1]
      · have n1 : ¬ nI (rlU s0 j) = (1 : Int32) := fun q => y ((bI_eq (b := 1) (by omega) (by decide)).mp q)
        have c1 : cnB (rB s0 1) (j + 1) = cnB (rB s0 1) j := by rw [cnB_step, ifF (show ¬ rB s0 1 j = true from fun q => y (of_decide_eq_true q))]; rfl
        rw [ifF n1, nx, nm_eq]
        refine up sa fa (fun _ => rfl) ?_ ?_ (o207 sa (fun i => by rw [hsa]; rw [tA_tsA, ifF (by omega)]))
        · rw [c2, hsa]; exact h2
        · rw [c1, hsa]; exact h3
/-- the component's states below j -/
def CsR (D : FQ) (s0 : TS) (M0 : CM) (j : Nat) (M : CM) : Prop := KF D [74] [] [123, 140] [] M0 M ∧ (∀ u, u < j → mA M 123 u = nI (rlU s0 u)) ∧ (mI M 74 1 = nI (cnB (rB s0 2) j) ∧ cnB (rB s0 2) j ≤ 24) ∧ (∀ u, u < j → rlU s0 u = 2 → mA M 140 (cnB (rB s0 2) u) = nI u) ∧ ∀ f o, o ≠ 1 → mI M f o = mI M0 f o
theorem k_65 (hU : U ≤ 180) (h57 : mI M0 57 1 = nI U) (e1 : ∀ u, u < U → mA M0 121 u = tA s0 189 u) (e2 : ∀ u, u < U → mA M0 122 u = tA s0 191 u) (hk : mk M0 123 = 50 ∧ ml M0 123 = 180) (hn : mn M0 ≤ 601024 ∧ ms M0 + 8 ≤ 7293034 ∧ mn M0 ≠ 0) : ∀ (d j kf : Nat) (M : CM), j + d = U → d < kf → CsR D s0 M0 j M →
    (∃ M1, 24 < cnB (rB s0 2) U ∧ KL_X0_chooseStates_65 kf (nI j) M = some (.inr (.inr (mn M1)), wM M1 55 (-1)) ∧ KF D [74] [] [123, 140] [] M0 M1) ∨ ∃ M', KL_X0_chooseStates_65 kf (nI j) M = some (.inl (), M') ∧ CsR D s0 M0 U M' := by
  intro d
  induction d with
  | zero =>
    intro j kf M hj hkf h
    obtain ⟨kf, rfl⟩ : ∃ g, kf = g + 1 := ⟨kf - 1, by omega⟩
    obtain rfl : j = U := by omega
    refine Or.inr ⟨M, ?_, h⟩
    unfold KL_X0_chooseStates_65
    rw [h.1.i rfl, h57, ifT ((bI_le (by omega) (by omega)).mpr (Nat.le_refl _))]
  | succ d ih =>
    intro j kf M hj hkf h
    obtain ⟨kf, rfl⟩ : ∃ g, kf = g + 1 := ⟨kf - 1, by omega⟩
    obtain ⟨f, h1, ⟨h2, h3⟩, h4, h5⟩ := h
    have le : ¬ nI U ≤ nI j := fun z => by have := (bI_le (by omega) (by omega)).mp z; omega
    have nx : nI j + 1 = nI (j + 1) := nI_addL j 1
    have ij : inb (nI j) 180 := inb_nI' (by omega) (by decide)
    have xj : ix (nI j) = j := ix_nI (by omega)
    have r2 := rlU_le s0 j
    obtain ⟨Ma, hMa⟩ : ∃ q, q = mwA M 123 j (nI (rlU s0 j)) := ⟨_, rfl⟩
    have fa : KF D [74] [] [123, 140] [] M0 Ma := by rw [hMa]; exact f.wA rfl ⟨by decide, by decide⟩
    have va : ∀ u, mA Ma 123 u = if u = j then nI (rlU s0 j) else mA M 123 u := fun u => by
      rw [hMa, mA_mwA]
      by_cases y : u = j
      · rw [ifT ⟨rfl, y⟩, ifT y]
      · rw [ifF (fun q => y q.2), ifF y]
    have e74 : mI Ma 74 1 = nI (cnB (rB s0 2) j) := by rw [hMa]; exact h2
    have kk : mk M 123 = 50 ∧ inb (nI j) (ml M 123) := ⟨(f.k 123).trans hk.1, by rw [f.gl, hk.2]; exact ij⟩
    have eK : KL_X0_chooseStates_65 (kf + 1) (nI j) M = KJ_X0_chooseStates_105_65 (KL_X0_chooseStates_65 kf) (nI j) 123 (nI j) (nI (rlU s0 j)) M := by
      conv => lhs; unfold KL_X0_chooseStates_65
      rw [f.i rfl, h57, ifF le, ifT ij, xj, f.ga rfl, e1 j (by omega)]
      unfold rlU
      by_cases a : 0 ≤ tA s0 189 j
      · rw [ifT a, ifT a, ifT ij, f.ga rfl, e2 j (by omega)]
        by_cases b : tA s0 191 j < 0
        · rw [ifT b, ifT b]; rfl
        · rw [ifF b, ifF b]; rfl
      · rw [ifF a, ifF a]; rfl
    have up : ∀ Mb, KF D [74] [] [123, 140] [] M0 Mb → (∀ u, mA Mb 123 u = mA Ma 123 u) → (mI Mb 74 1 = nI (cnB (rB s0 2) (j + 1)) ∧ cnB (rB s0 2) (j + 1) ≤ 24) → (∀ u, u < j + 1 → rlU s0 u = 2 → mA Mb 140 (cnB (rB s0 2) u) = nI u) → (∀ f o, o ≠ 1 → mI Mb f o = mI M0 f o) → (∃ M1, 24 < cnB (rB s0 2) U ∧ KL_X0_chooseStates_65 kf (nI (j + 1)) Mb = some (.inr (.inr (mn M1)), wM M1 55 (-1)) ∧ KF D [74] [] [123, 140] [] M0 M1) ∨ ∃ M', KL_X0_chooseStates_65 kf (nI (j + 1)) Mb = some (.inl (), M') ∧ CsR D s0 M0 U M' := fun Mb b1 b2 b3 b4 b5 => ih (j + 1) kf Mb (by omega) (by omega) ⟨b1, fun u hu => by
      rw [b2, va]
      by_cases y : u = j
      · rw [ifT y, y]
      · rw [ifF y]; exact h1 u (by omega), b3, b4, b5⟩
    rw [eK]
    unfold KJ_X0_chooseStates_105_65
    rw [ifT kk, xj, ← hMa, nm_eq, ifT ij, va, ifT rfl]
    by_cases z : rlU s0 j = 2
    · have c2 : cnB (rB s0 2) (j + 1) = cnB (rB s0 2) j + 1 := by rw [cnB_step, ifT (show rB s0 2 j = true from decide_eq_true z)]
      rw [z, ifT (show nI 2 = (2 : Int32) from rfl), e74]
      by_cases y : cnB (rB s0 2) j = 24
      · left
        have mono := cnB_lt (p := rB s0 2) (show j < U by omega) (decide_eq_true z)
        refine ⟨Ma, by omega, ?_, fa⟩
        rw [ifT (by rw [y]; rfl), k_wrong ⟨by rw [fa.n]; exact hn.1, by rw [fa.2.2.2.2.2.2.2.2]; exact hn.2.1⟩ (by rw [fa.n]; exact hn.2.2), ob_some, ifT (wM_k _ _ _)]
      · have n24 : ¬ nI (cnB (rB s0 2) j) = (24 : Int32) := fun q => y ((bI_eq (b := 24) (by omega) (by decide)).mp q)
        obtain ⟨Mb, hMb⟩ : ∃ q, q = msI (mwA Ma 140 (cnB (rB s0 2) j) (nI j)) 74 1 (nI (cnB (rB s0 2) j + 1)) := ⟨_, rfl⟩
        have fb : KF D [74] [] [123, 140] [] M0 Mb := by rw [hMb]; exact (fa.wA rfl ⟨by decide, by decide⟩).wI rfl TZ.one
        rw [ifF n24]
        unfold KJ_X0_chooseStates_132_65
        rw [ifT ij, xj, va, ifT rfl, z, ifT (show nI 2 = (2 : Int32) from rfl), e74, ifT (inb_nI' (by omega) (by decide)), ix_nI (by omega), nm_eq, show mI (mwA Ma 140 (cnB (rB s0 2) j) (nI j)) 74 1 = nI (cnB (rB s0 2) j) from e74, nI_addL, ← hMb, nm_eq, nx, nm_eq]
        refine up Mb fb (fun u => by rw [hMb]; show mA (mwA Ma 140 _ _) 123 u = _; rw [mA_mwA, ifF (by omega)]) ⟨by rw [hMb, mI_msI, ifT ⟨rfl, rfl⟩, c2], by omega⟩ (fun u hu hz => ?_) (fun f o ho => by rw [hMb, mI_msI, ifF (fun q => ho q.2)]; show mI Ma f o = _; rw [hMa]; exact h5 f o ho)
        rw [hMb]
        show mA (mwA Ma 140 _ _) 140 _ = _
        rw [mA_mwA]
        by_cases q : u = j
        · subst q; rw [ifT ⟨rfl, rfl⟩]
        · have := cnB_lt (p := rB s0 2) (show u < j by omega) (decide_eq_true hz)
          rw [ifF (by omega), hMa, mA_mwA, ifF (by omega)]
          exact h4 u (by omega) hz
    · have n2 : ¬ nI (rlU s0 j) = (2 : Int32) := fun y => z ((bI_eq (b := 2) (by omega) (by decide)).mp y)
      have c2 : cnB (rB s0 2) (j + 1) = cnB (rB s0 2) j := by rw [cnB_step, ifF (show ¬ rB s0 2 j = true from fun y => z (of_decide_eq_true y))]; rfl
      rw [ifF n2]
      unfold KJ_X0_chooseStates_132_65
      rw [ifT ij, xj, va, ifT rfl, ifF n2, nx, nm_eq]
      refine up Ma fa (fun _ => rfl) ⟨by rw [c2]; exact e74, by omega⟩ (fun u hu hz => ?_) (fun f o ho => by rw [hMa]; exact h5 f o ho)
      have : u ≠ j := fun y => z (by rw [← y]; exact hz)
      rw [hMa, mA_mwA, ifF (by omega)]; exact h4 u (by omega) hz
end STATES
