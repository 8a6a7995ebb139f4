/-! Layer B: K_X0_makeBlocks against F_makeBlocks -/
set_option maxRecDepth 100000
abbrev mbA : List Nat := [122, 131, 138, 139, 141, 142, 143, 144, 145, 146, 147]
abbrev mbS : List Nat := [0, 1, 191, 196, 199, 200, 205, 208, 209, 210, 211, 212, 213, 214, 215, 216, 217, 218, 219, 220]
/-- blocks, both sides -/
def BlR (S U : Nat) (M : CM) (s : TS) : Prop := ∃ (nb : Nat) (fb : Nat → Nat), (mI M 75 1 = nI nb ∧ tI s 208 = nI nb ∧ nb ≤ S ∧ fb 0 = 0) ∧ (∀ b, b < nb → (fb b < fb (b + 1) ∧ fb (b + 1) ≤ S ∧ fb (b + 1) ≤ fb b + 12) ∧ (mA M 141 b = nI (fb b) ∧ mA M 141 (b + 1) = nI (fb (b + 1)) ∧ tA s 209 b = nI (fb b) ∧ tA s 210 b = nI (fb (b + 1) - fb b)) ∧ (mA M 144 b = tA s 213 b ∧ (tA s 213 b = 0 ∨ tA s 213 b = 1 ∧ fb (b + 1) = fb b + 1)) ∧ ∀ i, fb b ≤ i → i < fb (b + 1) → ∃ e u, (e < S ∧ tA s 180 e = 0 ∧ mA M 142 i = nI e ∧ tA s 211 i = nI e) ∧ u < U ∧ ¬ tA s 192 u = 2 ∧ mA M 143 i = nI u ∧ tA s 212 i = nI u) ∧ (∀ e, e < S → mA M 131 e = tA s 196 e ∧ (tA s 196 e = -1 ∨ ∃ b, b < nb ∧ tA s 196 e = nI b)) ∧ ∀ u, u < U → mA M 122 u = tA s 191 u ∧ (tA s 192 u = 2 → tA s 191 u = -1) ∧ (¬ tA s 192 u = 2 → ∃ e, e < S ∧ tA s 191 u = nI e)
section BLOCKS
variable {D : FQ} {M M' M0 M1 : CM} {s s' s0 s1 : TS} {V E U S K N d e f n u k v i b j kf tf : Nat} {ins : Nat → Nat → Bool} {gv : Nat → Nat} {ct c p : Nat → Bool} {li : Nat → Nat → Int32} {P Q : TjS}
theorem k_73 : ∀ (d j f : Nat) (M : CM), j + d = 180 → d < f → ∃ M', KL_X0_makeBlocks_73 f (nI j) M = some ((), M') ∧ KF D [] [] [131, 145] [] M M' ∧ ∀ i, (j ≤ i ∧ i < 180 → mA M' 145 i = 0 ∧ mA M' 131 i = -1) ∧ (¬ (j ≤ i ∧ i < 180) → mA M' 145 i = mA M 145 i ∧ mA M' 131 i = mA M 131 i) := by
  intro d
  induction d with
  | zero =>
    intro j f M hj hf
    obtain ⟨f, rfl⟩ : ∃ g, f = g + 1 := ⟨f - 1, by omega⟩
    obtain rfl : j = 180 := by omega
    refine ⟨M, ?_, KF.rf, fun i => ⟨fun z => by omega, fun _ => ⟨rfl, rfl⟩⟩⟩
    unfold KL_X0_makeBlocks_73
    rw [ifT (show (180 : Int32) ≤ nI 180 by decide)]
  | succ d ih =>
    intro j f M hj hf
    obtain ⟨f, rfl⟩ : ∃ g, f = g + 1 := ⟨f - 1, by omega⟩
    obtain ⟨M1, hM1⟩ : ∃ q, q = mwA (mwA M 145 j 0) 131 j (-1) := ⟨_, rfl⟩
    have k1 : KF D [] [] [131, 145] [] M M1 := by rw [hM1]; exact (KF.rf.wA rfl ⟨by decide, by decide⟩).wA rfl ⟨by decide, by decide⟩
    obtain ⟨M', a1, a2, a3⟩ := ih (j + 1) f M1 (by omega) (by omega)
    have ij : inb (nI j) 180 := inb_nI' (by omega) (by decide)
    have v8 : mA M1 145 j = 0 ∧ mA M1 131 j = -1 := by
      rw [hM1, mA_mwA, mA_mwA, mA_mwA, ifF (by omega), ifT ⟨rfl, rfl⟩, ifT ⟨rfl, rfl⟩]; exact ⟨rfl, rfl⟩
    have v9 : ∀ i, i ≠ j → mA M1 145 i = mA M 145 i ∧ mA M1 131 i = mA M 131 i := fun i hi => by
      rw [hM1, mA_mwA, mA_mwA, mA_mwA, mA_mwA, ifF (by omega), ifF (by omega), ifF (by omega), ifF (by omega)]; exact ⟨rfl, rfl⟩
    refine ⟨M', ?_, k1.tr a2, fun i => ⟨fun z => ?_, fun z => ?_⟩⟩
    · unfold KL_X0_makeBlocks_73
      rw [ifF (fun z => by have := (bI_le (a := 180) (by decide) (by omega)).mp z; omega), ifT ij, ix_nI (by omega), nm_eq, ifT ij, ← hM1, nm_eq, nI_addL, nm_eq, a1]
    · by_cases y : i = j
      · rw [((a3 i).2 (by omega)).1, ((a3 i).2 (by omega)).2, y]; exact v8
      · exact (a3 i).1 (by omega)
    · rw [((a3 i).2 (by omega)).1, ((a3 i).2 (by omega)).2]; exact v9 i (by omega)
theorem t_b7 (hU : U ≤ 180) : ∀ (d j f : Nat) (s : TS), j + d = U → d < f → tI s 197 = nI U → ∃ s', L_makeBlocks_7 f (nI j) s = some ((), s') ∧ Ft [191] s s' ∧ ∀ i, (j ≤ i ∧ i < U → tA s' 191 i = -1) ∧ (¬ (j ≤ i ∧ i < U) → tA s' 191 i = tA s 191 i) := by
  intro d
  induction d with
  | zero =>
    intro j f s hj hf h
    obtain ⟨f, rfl⟩ : ∃ g, f = g + 1 := ⟨f - 1, by omega⟩
    obtain rfl : j = U := by omega
    refine ⟨s, ?_, Ft.rf _ s, fun i => ⟨fun z => by omega, fun _ => rfl⟩⟩
    unfold L_makeBlocks_7
    rw [h, ifT ((bI_le (by omega) (by omega)).mpr (Nat.le_refl _))]
  | succ d ih =>
    intro j f s hj hf h
    obtain ⟨f, rfl⟩ : ∃ g, f = g + 1 := ⟨f - 1, by omega⟩
    obtain ⟨s1, hs1⟩ : ∃ q, q = tsA s 191 j (-1) := ⟨_, rfl⟩
    have k1 : Ft [191] s s1 := by rw [hs1]; exact (Ft.rf _ s).p_tsA rfl
    obtain ⟨s', a1, a2, a3⟩ := ih (j + 1) f s1 (by omega) (by omega) ((k1 197 rfl).1.trans h)
    have ij : inb (nI j) 200 := inb_nI' (by omega) (by decide)
    have v : ∀ i, tA s1 191 i = if i = j then -1 else tA s 191 i := fun i => by
      rw [hs1, tA_tsA]
      by_cases y : i = j
      · rw [ifT ⟨rfl, y⟩, ifT y]
      · rw [ifF (fun q => y q.2), ifF y]
    refine ⟨s', ?_, k1.tr a2, fun i => ⟨fun z => ?_, fun z => ?_⟩⟩
    · unfold L_makeBlocks_7
      rw [h, ifF (fun z => by have := (bI_le (by omega) (by omega)).mp z; omega), ifT ij, ix_nI (by omega), ← hs1, nm_eq, nI_addL, nm_eq, a1]
    · by_cases y : i = j
      · rw [(a3 i).2 (by omega), v, ifT y]
      · exact (a3 i).1 (by omega)
    · rw [(a3 i).2 (by omega), v, ifF (by omega)]
theorem t_112 (hS : S ≤ 180) : ∀ (d j f : Nat) (s : TS), j + d = S → d < f → tI s 143 = nI S → ∃ s', L_makeBlocks_112 f (nI j) s = some ((), s') ∧ Ft [196, 215, 218] s s' ∧ ∀ i, (j ≤ i ∧ i < S → tA s' 215 i = -1 ∧ tA s' 218 i = 0 ∧ tA s' 196 i = -1) ∧ (¬ (j ≤ i ∧ i < S) → tA s' 215 i = tA s 215 i ∧ tA s' 218 i = tA s 218 i ∧ tA s' 196 i = tA s 196 i) := by
  intro d
  induction d with
  | zero =>
    intro j f s hj hf h
    obtain ⟨f, rfl⟩ : ∃ g, f = g + 1 := ⟨f - 1, by omega⟩
    obtain rfl : j = S := by omega
    refine ⟨s, ?_, Ft.rf _ s, fun i => ⟨fun z => by omega, fun _ => ⟨rfl, rfl, rfl⟩⟩⟩
    unfold L_makeBlocks_112
    rw [h, ifT ((bI_le (by omega) (by omega)).mpr (Nat.le_refl _))]
  | succ d ih =>
    intro j f s hj hf h
    obtain ⟨f, rfl⟩ : ∃ g, f = g + 1 := ⟨f - 1, by omega⟩
    obtain ⟨s1, hs1⟩ : ∃ q, q = tsA (tsA (tsA s 215 j (-1)) 218 j 0) 196 j (-1) := ⟨_, rfl⟩
    have k1 : Ft [196, 215, 218] s s1 := by rw [hs1]; exact (((Ft.rf _ s).p_tsA rfl).p_tsA rfl).p_tsA rfl
    obtain ⟨s', a1, a2, a3⟩ := ih (j + 1) f s1 (by omega) (by omega) ((k1 143 rfl).1.trans h)
    have ij : inb (nI j) 400 := inb_nI' (by omega) (by decide)
    have e0 : nZ 0 = 0 := by decide
    have v1 : tA s1 215 j = -1 ∧ tA s1 218 j = 0 ∧ tA s1 196 j = -1 := by
      rw [hs1]
      simp only [tA_tsA]
      refine ⟨?_, ?_, ?_⟩ <;> simp +decide
    have v2 : ∀ i, i ≠ j → tA s1 215 i = tA s 215 i ∧ tA s1 218 i = tA s 218 i ∧ tA s1 196 i = tA s 196 i := fun i hi => by
      rw [hs1]
      simp only [tA_tsA]
      refine ⟨?_, ?_, ?_⟩ <;> simp +decide [hi]
    refine ⟨s', ?_, k1.tr a2, fun i => ⟨fun z => ?_, fun z => ?_⟩⟩
    · unfold L_makeBlocks_112
      rw [h, ifF (fun z => by have := (bI_le (by omega) (by omega)).mp z; omega), ifT ij, ix_nI (by omega), nm_eq, ifT ij, e0, nm_eq, ifT ij, ← hs1, nm_eq, nI_addL, nm_eq, a1]
    · by_cases y : i = j
      · rw [((a3 i).2 (by omega)).1, ((a3 i).2 (by omega)).2.1, ((a3 i).2 (by omega)).2.2, y]; exact v1
      · exact (a3 i).1 (by omega)
    · rw [((a3 i).2 (by omega)).1, ((a3 i).2 (by omega)).2.1, ((a3 i).2 (by omega)).2.2]; exact v2 i (by omega)
/-- all equations are walked from -/
theorem z_tops (Kc : KwC U S ins gv c M0) (T : TwC U S ins gv ct c li s0) (h65 : mI M0 65 1 = nI S) (h128 : ∀ e, e < S → (mA M0 128 e = 0 ↔ c e = true) ∧ (tA s0 180 e = 0 ↔ c e = true)) : ∀ (d j kf tf : Nat) (P : TjS) (M : CM) (s : TS), j + d = S → d < kf → d < tf → TjI S c P → stT P = [] → ftT P = none → (∀ f, f < j → c f = true → wkT P f ≠ 0) → KtR S P M → KwF D M0 M → TtA S P s → TtL S U gv ct li P s → Ft twT s0 s →
    (∃ b M1 s', KL_X0_makeBlocks_102 kf (nI j) M = some (.inr (.inr (mn M1)), wM M1 55 (nI b)) ∧ KwF D M0 M1 ∧ L_makeBlocks_149 tf (nI j) s = some ((), s') ∧ Ft twT s0 s' ∧ tI s' 0 = 55 ∧ tI s' 1 = nI b) ∨
    ∃ Q M' s', KL_X0_makeBlocks_102 kf (nI j) M = some (.inl (), M') ∧ L_makeBlocks_149 tf (nI j) s = some ((), s') ∧ TjI S c Q ∧ stT Q = [] ∧ ftT Q = none ∧ (∀ f, f < S → c f = true → wkT Q f ≠ 0) ∧ KtR S Q M' ∧ KwF D M0 M' ∧ TtA S Q s' ∧ TtL S U gv ct li Q s' ∧ Ft twT s0 s' := by
  obtain ⟨⟨a1, a2, a3⟩, a4, a5, a6, a7⟩ := id Kc
  obtain ⟨⟨t197, t143, -, -⟩, -⟩ := id T
  intro d
  induction d with
  | zero =>
    intro j kf tf P M s hj hkf htf i h1 h2 h3 r k hA hL ff
    obtain ⟨kf, rfl⟩ : ∃ g, kf = g + 1 := ⟨kf - 1, by omega⟩
    obtain ⟨tf, rfl⟩ : ∃ g, tf = g + 1 := ⟨tf - 1, by omega⟩
    obtain rfl : j = S := by omega
    have le : nI j ≤ nI j := (bI_le (by omega) (by omega)).mpr (Nat.le_refl _)
    refine Or.inr ⟨P, M, s, ?_, ?_, i, h1, h2, h3, r, k, hA, hL, ff⟩
    · unfold KL_X0_makeBlocks_102; rw [k.1.i rfl, h65, ifT le]
    · unfold L_makeBlocks_149; rw [(ff 143 rfl).1, t143, ifT le]
  | succ d ih =>
    intro j kf tf P M s hj hkf htf i h1 h2 h3 r k hA hL ff
    obtain ⟨kf, rfl⟩ : ∃ g, kf = g + 1 := ⟨kf - 1, by omega⟩
    obtain ⟨tf, rfl⟩ : ∃ g, tf = g + 1 := ⟨tf - 1, by omega⟩
    have le : ¬ nI S ≤ nI j := fun z => by have := (bI_le (by omega) (by omega)).mp z; omega
    have nx : nI j + 1 = nI (j + 1) := nI_addL j 1
    have ij : inb (nI j) 180 := inb_nI' (by omega) (by decide)
    have ij2 : inb (nI j) 400 := inb_nI' (by omega) (by decide)
    have xj : ix (nI j) = j := ix_nI (by omega)
    have t0 : tI s 0 = 0 := hA.2.2.2.2.2.1 h2
    obtain ⟨q1, q2⟩ := h128 j (by omega)
    have skip : (c j = true → wkT P j ≠ 0) → KL_X0_makeBlocks_102 (kf + 1) (nI j) M = KL_X0_makeBlocks_102 kf (nI (j + 1)) M → L_makeBlocks_149 (tf + 1) (nI j) s = L_makeBlocks_149 tf (nI (j + 1)) s → _ := fun w e1 e2 => by
      have := ih (j + 1) kf tf P M s (by omega) (by omega) (by omega) i h1 h2 (fun f hf hc => by
        by_cases y : f = j
        · subst y; exact w hc
        · exact h3 f (by omega) hc) r k hA hL ff
      rw [← e1, ← e2] at this
      exact this
    by_cases z : c j = true
    · by_cases y : wkT P j = 0
      · have tok := tj_ok a5 300 j P (by omega) z i y (by omega)
        obtain ⟨⟨o1, o2, o3⟩, o4⟩ := tok
        have nil := tj_nil (f := 299) a5 (show j < S by omega) z i y (by omega) h1
        have kt := k_tj (D := D) Kc 300 j P M (by omega) z i y (by omega) h2 r k
        obtain ⟨s2, b1, b2, b3, b4⟩ := t_tj T a5 300 j P s (by omega) z i y (by omega) hA hL ff
        have n215 : ¬ (0 : Int32) ≤ tA s 215 j := by rw [(hA.1 j (by omega)).1, y]; decide
        have eT : L_makeBlocks_149 (tf + 1) (nI j) s = L_makeBlocks_149 tf (nI (j + 1)) s2 := by
          conv => lhs; unfold L_makeBlocks_149
          rw [(ff 143 rfl).1, t143, ifF le, t_isBad0 t0, ob_some, ifT rfl, ifT ij2, xj, (ff 180 rfl).2.2.1, ifT (q2.mpr z), ifT ij2, ifF n215, show F_walk (nI j) s = some ((), s2) from b1, ob_some, nx, nm_eq]
        have eK : KL_X0_makeBlocks_102 (kf + 1) (nI j) M = obS (K_X0_walk (nI j) M) (fun w51 M47 => some (.inr (.inr w51), M47)) fun r48 M47 => KL_X0_makeBlocks_102 kf (nI (j + 1)) M47 := by
          conv => lhs; unfold KL_X0_makeBlocks_102
          rw [k.1.i rfl, h65, ifF le, ifT ij, xj, k.1.ga rfl, ifT (q1.mpr z), ifT ij, (r.1 j (by omega)).1, ifT (by rw [y]; rfl), nx]
          rfl
        rw [eK, eT]
        rcases kt with ⟨c1, M2, c2, c3, c4⟩ | ⟨b, M1, c1, c2, c3, c4⟩
        · rw [show K_X0_walk (nI j) M = some (.inl (), M2) from c2, obS_inl]
          exact ih (j + 1) kf tf (tj U ins gv 300 j P) M2 s2 (by omega) (by omega) (by omega) o1 nil c1 (fun f hf hc => by
            by_cases w : f = j
            · subst w; exact o4
            · have := h3 f (by omega) hc
              rw [o2.1 f this]; exact this) c3 c4 b2 b3 b4
        · left
          obtain ⟨tf', rfl⟩ : ∃ g, tf = g + 1 := ⟨tf - 1, by omega⟩
          have bad := b2.2.2.2.2.2.2 b c1
          refine ⟨b, M1, s2, by rw [show K_X0_walk (nI j) M = _ from c3, obS_inr]; rfl, c4, ?_, b4, bad⟩
          unfold L_makeBlocks_149
          by_cases w : tI s2 143 ≤ nI (j + 1)
          · rw [ifT w]
          · rw [ifF w, t_isBad1 (by rw [bad.1]; decide), ob_some, ifF (by decide)]
      · have wb := (i.1 j y).2.1
        have bd := i.bd
        refine skip (fun _ => y) ?_ ?_
        · conv => lhs; unfold KL_X0_makeBlocks_102
          rw [k.1.i rfl, h65, ifF le, ifT ij, xj, k.1.ga rfl, ifT (q1.mpr z), ifT ij, (r.1 j (by omega)).1, ifF (show ¬ nI (wkT P j) = 0 from fun t => y ((bI_eq (b := 0) (by omega) (by decide)).mp t)), nx, nm_eq]
        · conv => lhs; unfold L_makeBlocks_149
          rw [(ff 143 rfl).1, t143, ifF le, t_isBad0 t0, ob_some, ifT rfl, ifT ij2, xj, (ff 180 rfl).2.2.1, ifT (q2.mpr z), ifT ij2, (hA.1 j (by omega)).1, ifT ((blI_lt (by omega)).mpr y), nx, nm_eq]
    · refine skip (fun t => absurd t z) ?_ ?_
      · conv => lhs; unfold KL_X0_makeBlocks_102
        rw [k.1.i rfl, h65, ifF le, ifT ij, xj, k.1.ga rfl, ifF (fun t => z (q1.mp t)), nx, nm_eq]
      · conv => lhs; unfold L_makeBlocks_149
        rw [(ff 143 rfl).1, t143, ifF le, t_isBad0 t0, ob_some, ifT rfl, ifT ij2, xj, (ff 180 rfl).2.2.1, ifF (fun t => z (q2.mp t)), nx, nm_eq]
/-- whether an unknown is in linear places of an equation -/
def liK (M : CM) (e u : Nat) : Int32 := match K_X0_howIn (mX M 126 e) (nI u) M, K_X0_howIn (mX M 127 e) (nI u) M with
  | some (r1, _), some (r2, _) => if r1 < 2 ∧ r2 < 2 then 1 else 0
  | _, _ => 0
theorem liK_b (M : CM) (e u : Nat) : liK M e u = 0 ∨ liK M e u = 1 := by
  unfold liK
  split
  · split
    · exact Or.inr rfl
    · exact Or.inl rfl
  · exact Or.inl rfl
theorem z_lin (A : ArS 133 134 40000 D M K) (h7 : N ≤ 70000) (he : e < 400) (q : EqI D M s V K N e) (hu : u < 180) : ∃ r1 r2, r1 ≤ 2 ∧ r2 ≤ 2 ∧ K_X0_howIn (mX M 126 e) (nI u) M = some (nI r1, M) ∧ K_X0_howIn (mX M 127 e) (nI u) M = some (nI r2, M) ∧ F_isLinear (nI e) (nI u) s = some (if r1 < 2 ∧ r2 < 2 then 1 else 0, s) ∧ liK M e u = if r1 < 2 ∧ r2 < 2 then 1 else 0 := by
  obtain ⟨n1, n2, ⟨a1, a2, -⟩, ⟨b1, b2, -⟩, -⟩ := q
  obtain ⟨r1, p1, p2, p3, p4⟩ := z_how A h7 hu 200 0 _ _ (by decide) a2
  obtain ⟨r2, q1, q2, q3, q4⟩ := z_how A h7 hu 200 0 _ _ (by decide) b2
  have e1 : K_X0_howIn (mX M 126 e) (nI u) M = some (nI r1, M) := p2 300 (by decide)
  have e2 : K_X0_howIn (mX M 127 e) (nI u) M = some (nI r2, M) := q2 300 (by decide)
  refine ⟨r1, r2, p1, q1, e1, e2, ?_, ?_⟩
  · have iE : inb (nI e) 400 := inb_nI' (by omega) (by decide)
    have xE : ix (nI e) = e := ix_nI (by omega)
    unfold F_isLinear
    rw [ifT iE, xE, a1, show F_straight (nI n1) (nI u) s = some (s01 r1, s) from p4 300 (by decide), ob_some]
    by_cases y : r1 < 2
    · rw [ifF (fun t => s01_0.mp t y), ifT iE, b1, show F_straight (nI n2) (nI u) s = some (s01 r2, s) from q4 300 (by decide), ob_some]
      by_cases y2 : r2 < 2
      · rw [ifF (fun t => s01_0.mp t y2), ifT ⟨y, y2⟩]
      · rw [ifT (s01_0.mpr y2), ifF (fun t => y2 t.2)]
    · rw [ifT (s01_0.mpr y), ifF (fun t => y t.1)]
  · unfold liK
    rw [e1, e2]
    have l : ∀ r, r ≤ 2 → (nI r < 2 ↔ r < 2) := fun r hr => by
      rw [show (2 : Int32) = nI 2 from rfl, bI_lt (by omega) (by decide)]
    show (if nI r1 < 2 ∧ nI r2 < 2 then (1 : Int32) else 0) = _
    by_cases y : r1 < 2 ∧ r2 < 2
    · rw [ifT y, ifT ⟨(l _ p1).mpr y.1, (l _ q1).mpr y.2⟩]
    · rw [ifF y, ifF (fun t => y ⟨(l _ p1).mp t.1, (l _ q1).mp t.2⟩)]
end BLOCKS
