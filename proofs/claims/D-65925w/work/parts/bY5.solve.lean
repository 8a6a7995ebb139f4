/-! Layer B: K_X0_solve against F_solve -/
set_option maxRecDepth 100000
abbrev slI : List Nat := [4, 5, 46, 49, 57, 65, 66, 74, 75, 83, 84, 91, 136, 604, 605, 3217, 3218, 3219, 4004]
abbrev slJ : List Nat := [49, 57, 65, 66, 74, 75, 83, 84, 136, 604, 605, 3217, 3218, 3219, 4004]
abbrev slA : List Nat := [117, 118, 119, 120, 121, 122, 123, 128, 129, 130, 131, 132]
abbrev slU : List Nat := [0, 1, 121, 122, 123, 124, 125, 126, 127, 131, 134, 141, 142, 143, 177, 178, 179, 180, 181, 182, 183, 184, 185, 186, 187, 188, 189, 190, 191, 192, 193, 194, 195, 196, 197, 198, 199, 200, 201, 202, 203, 204, 205, 206, 207, 208, 209, 210, 211, 212, 213, 214, 215, 216, 217, 218, 219, 220]
abbrev slT : List Nat := [0, 1, 2, 3, 109, 110, 111, 121, 122, 123, 124, 125, 126, 127, 131, 134, 141, 142, 143, 177, 178, 179, 180, 181, 182, 183, 184, 185, 186, 187, 188, 189, 190, 191, 192, 193, 194, 195, 196, 197, 198, 199, 200, 201, 202, 203, 204, 205, 206, 207, 208, 209, 210, 211, 212, 213, 214, 215, 216, 217, 218, 219, 220, 221]
/-- what solving leaves of the rest -/
def SgV (M M' : CM) (σ s' : TS) : Prop := (∀ o, 1 < o → o < 117 → So M M' o) ∧ (∀ f, slI.contains f = false → mI M' f 1 = mI M f 1) ∧ (∀ f, f ≠ 69 → mR M' f 1 = mR M f 1) ∧ Ft slT σ s'
/-- a fault that was told -/
def SlF (C : PC) (B : Nat) (P : Nat → Prop) (mss fss : List Nat) (M : CM) (σ : TS) (M' : CM) (s' : TS) (z7 : Nat → Nat) (V I Bm K N E A Wn q qs : Nat) : Prop :=
  ∃ D1, FW (C.rm (cN C + 1) (cS C + 8)) B P mss fss D1 M' s' ∧ FP (C.rm (cN C + 1) (cS C + 8)) P mss D1 M' s' z7 V I Bm K N E A Wn q qs ∧ (mI M' 4 1 = tI s' 2 ∧ mI M' 5 1 = tI s' 3 ∧ tI s' 0 = 0) ∧ SgV M M' σ s' ∧ (mI M' 46 1 = 0 ∧ mI M' 91 1 = 0) ∧ tI s' 109 = 0 ∧ tI s' 110 = 0 ∧ tI s' 111 = 0
/-- the model is solvable -/
def SlG (C : PC) (B : Nat) (P : Nat → Prop) (mss fss : List Nat) (M : CM) (σ : TS) (M' : CM) (s' : TS) (z7 : Nat → Nat) (V I Bm K N E A Wn q qs nb : Nat) : Prop :=
  ∃ D1 U S K1 K2 N' hd sg c, FW C B P mss fss D1 M' s' ∧ FP C P mss D1 M' s' z7 V I Bm K N E A Wn q qs ∧ SvS V E A Wn q U S K1 K2 N' hd sg c D1 M' s' ∧ N ≤ N' ∧ (mI M' 75 1 = nI nb ∧ tI s' 208 = nI nb) ∧ SgV M M' σ s' ∧ (mI M' 46 1 = 1 ∧ mI M' 91 1 = 0) ∧ tI s' 109 = 1 ∧ tI s' 110 = 0 ∧ tI s' 111 = 0
section SOLVE
variable {C : PC} {P : Nat → Prop} {mss fss : List Nat} {D D' D1 : FQ} {M M' M1 M3 : CM} {σ σ' s s1 s7 : TS} {z7 : Nat → Nat} {B V I Bm K N E A Wn q qs j f : Nat} {r p : Int32}
theorem t_s48 (hE : E ≤ 120) : ∀ (d j f : Nat) (s : TS), j + d = E → d < f → tI s 144 = nI E → ∃ s', L_solve_48 f (nI j) s = some ((), s') ∧ Ft [141, 142, 194, 195, 196] s s' ∧ (∀ i, j ≤ i → i < E → tA s' 141 i = tA s 174 i ∧ tA s' 142 i = tA s 175 i ∧ tA s' 194 i = -1 ∧ tA s' 195 i = -1) ∧ ∀ k i, i < j → tA s' k i = tA s k i := by
  intro d
  induction d with
  | zero =>
    intro j f s hj hf h
    obtain ⟨f, rfl⟩ : ∃ g, f = g + 1 := ⟨f - 1, by omega⟩
    obtain rfl : j = E := by omega
    refine ⟨s, ?_, Ft.rf _ s, fun i h1 h2 => absurd h2 (by omega), fun _ _ _ => rfl⟩
    unfold L_solve_48
    rw [h, ifT ((bI_le (by omega) (by omega)).mpr (Nat.le_refl _))]
  | succ d ih =>
    intro j f s hj hf h
    obtain ⟨f, rfl⟩ : ∃ g, f = g + 1 := ⟨f - 1, by omega⟩
    obtain ⟨sa, hsa⟩ : ∃ q, q = tsA s 141 j (tA s 174 j) := ⟨_, rfl⟩
    obtain ⟨sb, hsb⟩ : ∃ q, q = tsA sa 142 j (tA sa 175 j) := ⟨_, rfl⟩
    obtain ⟨sc, hsc⟩ : ∃ q, q = tsA (tsA (tsA sb 194 j (-1)) 195 j (-1)) 196 j (-1) := ⟨_, rfl⟩
    have k1 : Ft [141, 142, 194, 195, 196] s sc := by rw [hsc, hsb, hsa]; exact (((((Ft.rf _ s).p_tsA rfl).p_tsA rfl).p_tsA rfl).p_tsA rfl).p_tsA rfl
    have a175 : tA sa 175 j = tA s 175 j := by rw [hsa, tA_tsA, ifF (by omega)]
    have v : ∀ k i, tA sc k i = if k = 196 ∧ i = j then -1 else if k = 195 ∧ i = j then -1 else if k = 194 ∧ i = j then -1 else if k = 142 ∧ i = j then tA s 175 j else if k = 141 ∧ i = j then tA s 174 j else tA s k i := fun k i => by
      rw [hsc, tA_tsA, tA_tsA, tA_tsA, hsb, tA_tsA, a175, hsa, tA_tsA]
    obtain ⟨s', a1, a2, a3, a4⟩ := ih (j + 1) f sc (by omega) (by omega) ((k1 144 rfl).1.trans h)
    have i1 : inb (nI j) 120 := inb_nI' (by omega) (by decide)
    have i4 : inb (nI j) 400 := inb_nI' (by omega) (by decide)
    refine ⟨s', ?_, k1.tr a2, fun i h1 h2 => ?_, fun k i hi => ?_⟩
    · unfold L_solve_48
      rw [h, ifF (fun z => by have := (bI_le (by omega) (by omega)).mp z; omega), ifT i1, ifT i4, ix_nI (by omega), ← hsa, nm_eq, ifT i1, ifT i4, ← hsb, nm_eq, ifT i4, nm_eq, ifT i4, nm_eq, ifT i4, ← hsc, nm_eq, nI_addL, nm_eq]
      exact a1
    · by_cases y : i = j
      · subst y
        rw [a4 141 i (by omega), a4 142 i (by omega), a4 194 i (by omega), a4 195 i (by omega), v, v, v, v]
        simp +decide
      · obtain ⟨b1, b2, b3, b4⟩ := a3 i (by omega) h2
        rw [b1, b2, b3, b4, v, v]
        simp +decide
    · rw [a4 k i (by omega), v]
      have : ¬ i = j := by omega
      simp +decide [this]
theorem t_s109 : ∀ (d j f : Nat) (s : TS), j + d = 80000 → d < f → ∃ s', L_solve_109 f (nI j) s = some ((), s') ∧ Ft [202] s s' ∧ (∀ i, j ≤ i → i < 80000 → tA s' 202 i = 0) ∧ ∀ i, i < j → tA s' 202 i = tA s 202 i := by
  intro d
  induction d with
  | zero =>
    intro j f s hj hf
    obtain ⟨f, rfl⟩ : ∃ g, f = g + 1 := ⟨f - 1, by omega⟩
    obtain rfl : j = 80000 := by omega
    refine ⟨s, ?_, Ft.rf _ s, fun i h1 h2 => absurd h2 (by omega), fun _ _ => rfl⟩
    unfold L_solve_109
    rw [ifT (show (80000 : Int32) ≤ nI 80000 by decide)]
  | succ d ih =>
    intro j f s hj hf
    obtain ⟨f, rfl⟩ : ∃ g, f = g + 1 := ⟨f - 1, by omega⟩
    obtain ⟨sa, hsa⟩ : ∃ q, q = tsA s 202 j 0 := ⟨_, rfl⟩
    have k1 : Ft [202] s sa := by rw [hsa]; exact (Ft.rf _ s).p_tsA rfl
    have v : ∀ i, tA sa 202 i = if i = j then 0 else tA s 202 i := fun i => by
      rw [hsa, tA_tsA]
      by_cases y : i = j
      · rw [ifT ⟨rfl, y⟩, ifT y]
      · rw [ifF (fun q => y q.2), ifF y]
    obtain ⟨s', a1, a2, a3, a4⟩ := ih (j + 1) f sa (by omega) (by omega)
    have e0 : nZ 0 = 0 := by decide
    refine ⟨s', ?_, k1.tr a2, fun i h1 h2 => ?_, fun i hi => ?_⟩
    · unfold L_solve_109
      rw [ifF (fun z => by have := (bI_le (a := 80000) (by decide) (by omega)).mp z; omega), ifT (inb_nI' (by omega) (by decide)), ix_nI (by omega), e0, ← hsa, nm_eq, nI_addL, nm_eq]
      exact a1
    · by_cases y : i = j
      · subst y; rw [a4 i (by omega), v, ifT rfl]
      · exact a3 i (by omega) h2
    · rw [a4 i (by omega), v, ifF (by omega)]
theorem t_146b (h : tI s 0 ≠ 0) : ∀ x, L_solve_146 FU x s = some ((), s) := fun x => by
  obtain ⟨g, hg⟩ : ∃ g, FU = g + 1 := ⟨FU - 1, by have := fu2; omega⟩
  rw [hg]
  unfold L_solve_146
  by_cases z : tI s 144 ≤ x
  · rw [ifT z]
  · rw [ifF z, t_isBad1 h, ob_some, ifF (by decide)]
theorem t_270b (h : tI s 0 ≠ 0) : J_solve_270 s = some (-5, flT s) := by
  unfold J_solve_270
  rw [t_isBad1 h, ob_some, ifF (by decide), t_faulted, ob_some]
theorem t_259b (h : tI s 0 ≠ 0) : J_solve_259 s = some (-5, flT s) := by
  unfold J_solve_259
  rw [t_isBad1 h, ob_some, ifF (by decide), t_270b h]
theorem t_236b (h : tI s 0 ≠ 0) : J_solve_236 s = some (-5, flT s) := by
  unfold J_solve_236
  rw [t_isBad1 h, ob_some, ifF (by decide), t_259b h]
theorem t_225b (h : tI s 0 ≠ 0) : J_solve_225 s = some (-5, flT s) := by
  unfold J_solve_225
  rw [t_isBad1 h, ob_some, ifF (by decide), t_236b h]
theorem t_214b' (h : tI s 0 ≠ 0) : J_solve_214 s = some (-5, flT s) := by
  unfold J_solve_214
  rw [t_isBad1 h, ob_some, ifF (by decide), t_225b h]
theorem sol_bad (W : FW C B P mss fss D M σ) (h : FP C P mss D M σ z7 V I Bm K N E A Wn q qs) (k3 : KF D [46, 91] [] [] [] M M3) (h46 : mI M3 46 1 = 0 ∧ mI M3 91 1 = 0) (f7 : Ft [0, 109, 110, 111, 126, 143] σ s7) (h7 : tI s7 109 = 0 ∧ tI s7 110 = 0 ∧ tI s7 111 = 0) (sv : SvR slJ slA D M3 D1 M1) (hp : PoW D1 M1) (fx : FXb M1) (f : Ft slU s7 s1) (nd : Nd5 s7 s1 N) (h0 : tI s1 0 = r ∧ tI s1 1 = p) (hc : cN C + 1 ≤ 601024 ∧ cS C + 8 ≤ 7293034) : K_X0_fails (mn M1) (wM M1 r p) = some (-5, flM M1 r p) ∧ F_faulted s1 = some (-5, flT s1) ∧ SlF C B P mss fss M σ (flM M1 r p) (flT s1) z7 V I Bm K N E A Wn q qs := by
  have sv0 : SvR slI slA D M D1 M1 := (SvR.kf k3 (by decide) rfl ⟨rfl, rfl⟩ rfl : SvR slI slA D M D M3).tr (sv.mono (by decide) (by decide))
  have F : Ft slT σ s1 := (f7.mono (by decide)).tr (f.mono (by decide))
  obtain ⟨W1, w1⟩ := W.sv sv0 hp fx rfl F (by decide)
  have h1 := h.sv W w1 sv0 rfl rfl (fun g hg n hn => by
    by_cases z : g = 162
    · rw [z]; exact (F 162 rfl).2.2.1 n
    · have m : g ∈ [121, 122, 123, 124, 134] := by
        simp only [List.mem_cons, List.not_mem_nil, or_false] at hg ⊢; omega
      exact (nd g m n hn).trans ((f7 g (by
        have : ∀ g, g ∈ [121, 122, 123, 124, 134] → ([0, 109, 110, 111, 126, 143] : List Nat).contains g = false := by decide
        exact this g m)).2.2.1 n)) F (by decide) (by decide)
  obtain ⟨a1, a2, a3, a4, a5⟩ := z_failS W1 hc h0
  have n1 : 1 < mn M1 := by have := W1.n167; omega
  refine ⟨a1, a2, D1, a3, a5 _ _ _ _ _ _ _ _ _ _ _ h1, a4, ⟨fun o o1 o2 => ?_, fun g hg => ?_, fun g hg => ?_, F.tr ((flT_f (s := s1)).mono (by decide))⟩, ⟨?_, ?_⟩, ?_, ?_, ?_⟩
  · exact (Fz.so sv0.2.1 (by have := W.n167; omega) (fun z => by rw [tgo_s (by omega)] at z; unfold TZ tg at z; omega)).tr (flM_so (by have := W1.n167; omega) (by omega))
  · have : g ≠ 4 ∧ g ≠ 5 := ⟨fun z => by rw [z] at hg; exact absurd hg (by decide), fun z => by rw [z] at hg; exact absurd hg (by decide)⟩
    rw [flM_i n1 this]
    exact sv0.2.2.2.2.1 g hg
  · show mR (wM M1 r p) g 1 = _
    rw [((wM_f M1 r p).so n1 (fun z => z)).r]
    exact sv0.2.2.2.2.2.1 g hg
  · rw [flM_i n1 ⟨by decide, by decide⟩, sv.2.2.2.2.1 46 rfl]; exact h46.1
  · rw [flM_i n1 ⟨by decide, by decide⟩, sv.2.2.2.2.1 91 rfl]; exact h46.2
  · rw [(flT_f 109 rfl).1, (f 109 rfl).1]; exact h7.1
  · rw [(flT_f 110 rfl).1, (f 110 rfl).1]; exact h7.2.1
  · rw [(flT_f 111 rfl).1, (f 111 rfl).1]; exact h7.2.2
end SOLVE
