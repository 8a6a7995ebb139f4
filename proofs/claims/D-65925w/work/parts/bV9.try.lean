/-! Layer B: marks are cleared; which unknowns count; one try, both sides -/
set_option maxRecDepth 100000
/-- which count -/
def ctM (M : CM) (mode u : Nat) : Bool := if mode = 0 then decide (¬ 0 ≤ mA M 121 u) else if mode = 1 then decide (¬ mA M 121 u < 0) else decide (¬ 2 ≤ mA M 123 u)
/-- roles, both sides -/
def RolR (M : CM) (s : TS) (U : Nat) : Prop := ∀ u, u < U → ∃ k, k ≤ 2 ∧ mA M 123 u = nI k ∧ tA s 192 u = nI k ∧ (k = 0 ↔ tA s 189 u < 0)
/-- what a try needs -/
def TryR (mode : Nat) (M : CM) (s : TS) (S U : Nat) : Prop := (mI M 57 1 = nI U ∧ tI s 197 = nI U ∧ U ≤ 180 ∧ S ≤ 180) ∧ (∀ e u, e < S → u < U → mA M 132 (180 * e + u) = tA s 202 (200 * e + u)) ∧ (∀ u, u < U → mA M 121 u = tA s 189 u) ∧ (∀ u, u < U → mA M 122 u = tA s 191 u) ∧ Rg U S (fun u => mA M 122 u) ∧ (mode = 2 → RolR M s U)
section TRY
variable {D : FQ} {M M' : CM} {s s' : TS} {U S mode d e f n u k : Nat} {x : Int32}
theorem k_unm : ∀ (d j f : Nat) (M : CM), j + d = 180 → d < f → ∃ M', KL_X0_unmark_2 f (nI j) M = some ((), M') ∧ KF D [] [] [138, 139] [] M M' ∧ ∀ i, (j ≤ i ∧ i < 180 → mA M' 138 i = 0 ∧ mA M' 139 i = 0) ∧ (¬ (j ≤ i ∧ i < 180) → mA M' 138 i = mA M 138 i ∧ mA M' 139 i = mA M 139 i) := by
  intro d
  induction d with
  | zero =>
    intro j f M hj hf
    obtain ⟨f, rfl⟩ : ∃ g, f = g + 1 := ⟨f - 1, by omega⟩
    obtain rfl : j = 180 := by omega
    refine ⟨M, ?_, KF.rf, fun i => ⟨fun z => by omega, fun _ => ⟨rfl, rfl⟩⟩⟩
    unfold KL_X0_unmark_2
    rw [ifT (show (180 : Int32) ≤ nI 180 by decide)]
  | succ d ih =>
    intro j f M hj hf
    obtain ⟨f, rfl⟩ : ∃ g, f = g + 1 := ⟨f - 1, by omega⟩
    obtain ⟨M1, hM1⟩ : ∃ q, q = mwA (mwA M 138 j 0) 139 j 0 := ⟨_, rfl⟩
    have k1 : KF D [] [] [138, 139] [] M M1 := by rw [hM1]; exact (KF.rf.wA rfl ⟨by decide, by decide⟩).wA rfl ⟨by decide, by decide⟩
    obtain ⟨M', a1, a2, a3⟩ := ih (j + 1) f M1 (by omega) (by omega)
    have e0 : nZ 0 = 0 := by decide
    have ij : inb (nI j) 180 := inb_nI' (by omega) (by decide)
    have v8 : mA M1 138 j = 0 ∧ mA M1 139 j = 0 := by
      rw [hM1, mA_mwA, mA_mwA, mA_mwA, ifF (by omega), ifT ⟨rfl, rfl⟩, ifT ⟨rfl, rfl⟩]; exact ⟨rfl, rfl⟩
    have v9 : ∀ i, i ≠ j → mA M1 138 i = mA M 138 i ∧ mA M1 139 i = mA M 139 i := fun i hi => by
      rw [hM1, mA_mwA, mA_mwA, mA_mwA, mA_mwA, ifF (by omega), ifF (by omega), ifF (by omega), ifF (by omega)]; exact ⟨rfl, rfl⟩
    refine ⟨M', ?_, k1.tr a2, fun i => ⟨fun z => ?_, fun z => ?_⟩⟩
    · unfold KL_X0_unmark_2
      rw [ifF (fun z => by have := (bI_le (a := 180) (by decide) (by omega)).mp z; omega), ifT ij, ix_nI (by omega), e0, nm_eq, ifT ij, ← hM1, nm_eq, nI_addL, nm_eq, a1]
    · by_cases y : i = j
      · rw [((a3 i).2 (by omega)).1, ((a3 i).2 (by omega)).2, y]; exact v8
      · exact (a3 i).1 (by omega)
    · rw [((a3 i).2 (by omega)).1, ((a3 i).2 (by omega)).2]; exact v9 i (by omega)
theorem k_unmark (D : FQ) (M : CM) : ∃ M', K_X0_unmark M = some ((), M') ∧ KF D [] [] [138, 139] [] M M' ∧ ∀ i, i < 180 → mA M' 138 i = 0 ∧ mA M' 139 i = 0 := by
  obtain ⟨M', a1, a2, a3⟩ := k_unm (D := D) 180 0 FU M (by omega) (by have := fu2; omega)
  refine ⟨M', ?_, a2, fun i hi => (a3 i).1 (by omega)⟩
  unfold K_X0_unmark
  rw [show KL_X0_unmark_2 FU 0 M = some ((), M') from a1, ob_some]
theorem t_unm1 : ∀ (d j f : Nat) (s : TS), j + d = 200 → d < f → ∃ s', L_unmark_2 f (nI j) s = some ((), s') ∧ Ft [199] s s' ∧ ∀ i, (j ≤ i ∧ i < 200 → tA s' 199 i = 0) ∧ (¬ (j ≤ i ∧ i < 200) → tA s' 199 i = tA s 199 i) := by
  intro d
  induction d with
  | zero =>
    intro j f s hj hf
    obtain ⟨f, rfl⟩ : ∃ g, f = g + 1 := ⟨f - 1, by omega⟩
    obtain rfl : j = 200 := by omega
    refine ⟨s, ?_, Ft.rf _ s, fun i => ⟨fun z => by omega, fun _ => rfl⟩⟩
    unfold L_unmark_2
    rw [ifT (show (200 : Int32) ≤ nI 200 by decide)]
  | succ d ih =>
    intro j f s hj hf
    obtain ⟨f, rfl⟩ : ∃ g, f = g + 1 := ⟨f - 1, by omega⟩
    obtain ⟨s1, hs1⟩ : ∃ q, q = tsA s 199 j 0 := ⟨_, rfl⟩
    have k1 : Ft [199] s s1 := by rw [hs1]; exact (Ft.rf _ s).p_tsA rfl
    obtain ⟨s', a1, a2, a3⟩ := ih (j + 1) f s1 (by omega) (by omega)
    have e0 : nZ 0 = 0 := by decide
    refine ⟨s', ?_, k1.tr a2, fun i => ⟨fun z => ?_, fun z => ?_⟩⟩
    · unfold L_unmark_2
      rw [ifF (fun z => by have := (bI_le (a := 200) (by decide) (by omega)).mp z; omega), ifT (inb_nI' (by omega) (by decide)), ix_nI (by omega), e0, nm_eq, ← hs1, nI_addL, nm_eq, a1]
    · by_cases y : i = j
      · rw [(a3 i).2 (by omega), hs1, tA_tsA, ifT ⟨rfl, y⟩]
      · exact (a3 i).1 (by omega)
    · rw [(a3 i).2 (by omega), hs1, tA_tsA, ifF (by omega)]
theorem t_unm2 : ∀ (d j f : Nat) (s : TS), j + d = 400 → d < f → ∃ s', L_unmark_24 f (nI j) s = some ((), s') ∧ Ft [200] s s' ∧ ∀ i, (j ≤ i ∧ i < 400 → tA s' 200 i = 0) ∧ (¬ (j ≤ i ∧ i < 400) → tA s' 200 i = tA s 200 i) := by
  intro d
  induction d with
  | zero =>
    intro j f s hj hf
    obtain ⟨f, rfl⟩ : ∃ g, f = g + 1 := ⟨f - 1, by omega⟩
    obtain rfl : j = 400 := by omega
    refine ⟨s, ?_, Ft.rf _ s, fun i => ⟨fun z => by omega, fun _ => rfl⟩⟩
    unfold L_unmark_24
    rw [ifT (show (400 : Int32) ≤ nI 400 by decide)]
  | succ d ih =>
    intro j f s hj hf
    obtain ⟨f, rfl⟩ : ∃ g, f = g + 1 := ⟨f - 1, by omega⟩
    obtain ⟨s1, hs1⟩ : ∃ q, q = tsA s 200 j 0 := ⟨_, rfl⟩
    have k1 : Ft [200] s s1 := by rw [hs1]; exact (Ft.rf _ s).p_tsA rfl
    obtain ⟨s', a1, a2, a3⟩ := ih (j + 1) f s1 (by omega) (by omega)
    have e0 : nZ 0 = 0 := by decide
    refine ⟨s', ?_, k1.tr a2, fun i => ⟨fun z => ?_, fun z => ?_⟩⟩
    · unfold L_unmark_24
      rw [ifF (fun z => by have := (bI_le (a := 400) (by decide) (by omega)).mp z; omega), ifT (inb_nI' (by omega) (by decide)), ix_nI (by omega), e0, nm_eq, ← hs1, nI_addL, nm_eq, a1]
    · by_cases y : i = j
      · rw [(a3 i).2 (by omega), hs1, tA_tsA, ifT ⟨rfl, y⟩]
      · exact (a3 i).1 (by omega)
    · rw [(a3 i).2 (by omega), hs1, tA_tsA, ifF (by omega)]
theorem t_unmark (s : TS) : ∃ s', F_unmark s = some ((), s') ∧ Ft [199, 200] s s' ∧ ∀ i, i < 180 → tA s' 199 i = 0 ∧ tA s' 200 i = 0 := by
  obtain ⟨s1, a1, a2, a3⟩ := t_unm1 200 0 FU s (by omega) (by have := fu2; omega)
  obtain ⟨s2, b1, b2, b3⟩ := t_unm2 400 0 FU s1 (by omega) (by have := fu2; omega)
  refine ⟨s2, ?_, (a2.mono (by decide)).tr (b2.mono (by decide)), fun i hi => ⟨?_, (b3 i).1 (by omega)⟩⟩
  · unfold F_unmark
    rw [show L_unmark_2 FU 0 s = some ((), s1) from a1, ob_some, show L_unmark_24 FU 0 s1 = some ((), s2) from b1, ob_some]
  · rw [(b2 199 rfl).2.2.1]; exact (a3 i).1 (by omega)
theorem lt_nn {x : Int32} : x < 0 ↔ ¬ 0 ≤ x := by
  rw [Int32.lt_iff_toInt_lt, Int32.le_iff_toInt_le]
  have : (0 : Int32).toInt = 0 := rfl
  omega
theorem k_counts (hu : u < 180) (hm : mode ≤ 2) : K_X0_counts (nI u) (nI mode) M = some ((if ctM M mode u = true then 1 else 0), M) := by
  have iu : inb (nI u) 180 := inb_nI' hu (by decide)
  have xu : ix (nI u) = u := ix_nI (by omega)
  unfold K_X0_counts ctM
  by_cases h0 : mode = 0
  · subst h0
    rw [ifT (show nI 0 = (0 : Int32) from rfl), ifT iu, xu, ifT rfl]
    by_cases z : 0 ≤ mA M 121 u
    · rw [ifT z, ifF (by simp [z])]
    · rw [ifF z, ifT (by simp [z])]
  · have n0 : ¬ nI mode = (0 : Int32) := fun y => h0 ((bI_eq (b := 0) (by omega) (by decide)).mp y)
    rw [ifF n0, ifF h0]
    by_cases h1 : mode = 1
    · subst h1
      rw [ifT (show nI 1 = (1 : Int32) from rfl), ifT iu, xu, ifT rfl]
      by_cases z : mA M 121 u < 0
      · rw [ifT z, ifF (by simp [z])]
      · rw [ifF z, ifT (by simp [z])]
    · have n1 : ¬ nI mode = (1 : Int32) := fun y => h1 ((bI_eq (b := 1) (by omega) (by decide)).mp y)
      rw [ifF n1, ifF h1, ifT iu, xu]
      by_cases z : 2 ≤ mA M 123 u
      · rw [ifT z, ifF (by simp [z])]
      · rw [ifF z, ifT (by simp [z])]
theorem t_counts (hu : u < U) (hU : U ≤ 180) (hm : mode ≤ 2) (h205 : tI s 205 = nI mode) (e1 : ∀ u, u < U → mA M 121 u = tA s 189 u) (ro : mode = 2 → RolR M s U) : F_counts (nI u) s = some ((if ctM M mode u = true then 1 else 0), s) := by
  have iu : inb (nI u) 200 := inb_nI' (by omega) (by decide)
  have xu : ix (nI u) = u := ix_nI (by omega)
  unfold F_counts ctM
  rw [h205, e1 u hu]
  by_cases h0 : mode = 0
  · subst h0
    rw [ifT (show nI 0 = (0 : Int32) from rfl), ifT iu, xu, ifT rfl]
    by_cases z : 0 ≤ tA s 189 u
    · rw [ifT z, ifF (by simp [z])]
    · rw [ifF z, ifT (by simp [z])]
  · have n0 : ¬ nI mode = (0 : Int32) := fun y => h0 ((bI_eq (b := 0) (by omega) (by decide)).mp y)
    rw [ifF n0, ifF h0]
    by_cases h1 : mode = 1
    · subst h1
      rw [ifT (show nI 1 = (1 : Int32) from rfl), ifT iu, xu, ifT rfl]
      by_cases z : tA s 189 u < 0
      · rw [ifT z, ifF (by simp [z])]
      · rw [ifF z, ifT (by simp [z])]
    · have n1 : ¬ nI mode = (1 : Int32) := fun y => h1 ((bI_eq (b := 1) (by omega) (by decide)).mp y)
      obtain ⟨k, k1, k2, k3, k4⟩ := ro (by omega) u hu
      rw [ifF n1, ifF h1, ifT iu, xu, k2, k3]
      by_cases a2 : k = 2
      · subst a2
        rw [ifT (show nI 2 = (2 : Int32) from rfl), ifF (by decide)]
      · have n2 : ¬ nI k = (2 : Int32) := fun y => a2 ((bI_eq (b := 2) (by omega) (by decide)).mp y)
        have le : ¬ (2 : Int32) ≤ nI k := fun y => by have := (bI_le (a := 2) (by decide) (by omega)).mp y; omega
        rw [ifF n2, ifT iu, ifT (show decide (¬ (2 : Int32) ≤ nI k) = true from decide_eq_true le)]
        by_cases z : tA s 189 u < 0
        · rw [ifT z]
        · have : k = 1 := by
            have : ¬ k = 0 := fun y => z (k4.mp y)
            omega
          subst this
          rw [ifF z, ifT iu, ifT (show nI 1 = (1 : Int32) from rfl)]
/-- a try, both sides, no marks -/
theorem z_try (h : TryR mode M s S U) (hm : mode ≤ 2) (h205 : tI s 205 = nI mode) (he : e < S) (mk : ∀ i, i < 180 → mA M 138 i = 0 ∧ mA M 139 i = 0) (mt : ∀ i, i < 180 → tA s 199 i = 0 ∧ tA s 200 i = 0) : ∃ r g m q M' s', fd U mode (fun e u => mA M 132 (180 * e + u)) (ctM M mode) 300 e (fun u => mA M 122 u, fun _ => 0, fun _ => 0) = (r, g, m, q) ∧ K_X0_find_2 (nI e) (nI mode) M = some (bI r, M') ∧ F_attempt (nI e) s = some (bI r, s') ∧ KF D [] [] fdA [] M M' ∧ Ft fdT s s' ∧ (∀ u, u < U → mA M' 122 u = g u ∧ tA s' 191 u = g u) ∧ (∀ u, u < U → mA M' 138 u = m u ∧ tA s' 199 u = m u) ∧ ∀ x, x < S → mA M' 139 x = q x ∧ tA s' 200 x = q x := by
  obtain ⟨⟨h1, h2, hU, hS⟩, h3, h4, h5, h6, h7⟩ := h
  obtain ⟨r, g, m, q, hfd⟩ : ∃ r g m q, fd U mode (fun e u => mA M 132 (180 * e + u)) (ctM M mode) 300 e (fun u => mA M 122 u, fun _ => 0, fun _ => 0) = (r, g, m, q) := ⟨_, _, _, _, rfl⟩
  have kh : KH D M U S mode (fun e u => mA M 132 (180 * e + u)) (ctM M mode) := ⟨⟨h1, hU, hS, hm⟩, fun _ _ _ _ => rfl, fun M' k u hu => by
    have : ctM M' mode u = ctM M mode u := by
      unfold ctM
      rw [k.ga rfl, k.ga rfl]
    rw [k_counts (by omega) hm, this]⟩
  have th : TH s U S mode (fun e u => mA M 132 (180 * e + u)) (ctM M mode) := ⟨⟨h2, h205, hU, hS, hm⟩, fun e u a b => (h3 e u a b).symm, fun s' f u hu => t_counts hu hU hm ((f 205 rfl).1.trans h205) (fun u hu => (h4 u hu).trans ((f 189 rfl).2.2.1 u).symm) (fun z u hu => by
    rw [(f 192 rfl).2.2.1, (f 189 rfl).2.2.1]; exact h7 z u hu)⟩
  have c0 := cz_le (fun _ => (0 : Int32)) U
  have rg : Rg U S (fun u => mA M 122 u) := h6
  obtain ⟨M', a1, a2, a3⟩ := k_fd hS kh 300 e (fun u => mA M 122 u, fun _ => 0, fun _ => 0) M he rg KF.rf (fun u => ⟨fun hu => ⟨rfl, (mk u (by omega)).1⟩, fun hu => (mk u (by omega)).2⟩) (by show cz (fun _ => 0) U < 300; omega)
  obtain ⟨s', b1, b2, b3⟩ := t_fd hS th 300 e (fun u => mA M 122 u, fun _ => 0, fun _ => 0) s he rg (Ft.rf _ s) (fun u => ⟨fun hu => ⟨(h5 u hu).symm, (mt u (by omega)).1⟩, fun hu => (mt u (by omega)).2⟩) (by show cz (fun _ => 0) U < 300; omega)
  rw [hfd] at a1 a3 b1 b3
  exact ⟨r, g, m, q, M', s', hfd, a1, b1, a2, b2, fun u hu => ⟨((a3 u).1 hu).1, ((b3 u).1 hu).1⟩, fun u hu => ⟨((a3 u).1 hu).2, ((b3 u).1 hu).2⟩, fun x hx => ⟨(a3 x).2 hx, (b3 x).2 hx⟩⟩
end TRY
