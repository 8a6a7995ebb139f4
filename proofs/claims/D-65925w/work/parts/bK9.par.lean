/-! Layer B: parameters: the component's evaluation; one parameter, both sides -/
set_option maxRecDepth 100000
abbrev fxV (d : Nat) : KVT := (KG_X0_fixed d).1
abbrev fxC (d : Nat) : KVT := (KG_X0_fixed d).2.1
abbrev fxP (d : Nat) := (KG_X0_fixed d).2.2
section PAR
variable {C : PC} {D D' : FQ} {M M' M1 M2 M3 M0 : CM} {σ σ' σ1 σ2 σ0 s1 : TS} {mss fss : List Nat} {B V I Bm k0 t0 h kf tf d s a n x z q K N K2 N2 u v l : Nat} {P T : Nat → Prop} {x2 y r : Int32} {z7 : Nat → Nat} {t : Nat → Int32} {S : List Nat}
theorem fxV_s : fxV (d + 1) = KB_X0_fixed (fxP d) (fxC d) (fxV d) := rfl
theorem fxC_s : fxC (d + 1) = KB_X0_fixedCondition (fxC d) (fxV d) := rfl
theorem fxP_s : fxP (d + 1) = KB_X0_parameter (fxV d) := rfl
theorem fx_keq : KEq fxV fxC := by
  intro d a M ko
  rw [fxV_s, fxC_s]
  refine ⟨fun h => ?_, fun h => ?_, fun h => ?_, fun h => ?_, fun h => ?_, fun h => ?_, fun h => ?_⟩
  · unfold KB_X0_fixed
    rw [ifT ko, h, ifT rfl, ifT ko]
  · unfold KB_X0_fixed eTwo
    simp only [List.mem_cons, List.not_mem_nil, or_false] at h
    rcases h with h | h | h | h | h | h
    · rw [ifT ko, h, ifF (show ¬ (3 : Int32) = 0 by decide), ifF (show ¬ (3 : Int32) = 1 by decide), ifF (show ¬ (3 : Int32) = 2 by decide), ifT (rfl : (3 : Int32) = 3), ifT ko]
    · rw [ifT ko, h, ifF (show ¬ (4 : Int32) = 0 by decide), ifF (show ¬ (4 : Int32) = 1 by decide), ifF (show ¬ (4 : Int32) = 2 by decide), ifF (show ¬ (4 : Int32) = 3 by decide), ifT (rfl : (4 : Int32) = 4), ifT ko]
    · rw [ifT ko, h, ifF (show ¬ (5 : Int32) = 0 by decide), ifF (show ¬ (5 : Int32) = 1 by decide), ifF (show ¬ (5 : Int32) = 2 by decide), ifF (show ¬ (5 : Int32) = 3 by decide), ifF (show ¬ (5 : Int32) = 4 by decide), ifT (rfl : (5 : Int32) = 5), ifT ko]
    · rw [ifT ko, h, ifF (show ¬ (6 : Int32) = 0 by decide), ifF (show ¬ (6 : Int32) = 1 by decide), ifF (show ¬ (6 : Int32) = 2 by decide), ifF (show ¬ (6 : Int32) = 3 by decide), ifF (show ¬ (6 : Int32) = 4 by decide), ifF (show ¬ (6 : Int32) = 5 by decide), ifT (rfl : (6 : Int32) = 6), ifT ko]
    · rw [ifT ko, h, ifF (show ¬ (10 : Int32) = 0 by decide), ifF (show ¬ (10 : Int32) = 1 by decide), ifF (show ¬ (10 : Int32) = 2 by decide), ifF (show ¬ (10 : Int32) = 3 by decide), ifF (show ¬ (10 : Int32) = 4 by decide), ifF (show ¬ (10 : Int32) = 5 by decide), ifF (show ¬ (10 : Int32) = 6 by decide), ifF (show ¬ (10 : Int32) = 7 by decide), ifF (show ¬ (10 : Int32) = 8 by decide), ifF (show ¬ (10 : Int32) = 9 by decide), ifT (rfl : (10 : Int32) = 10), ifT ko]
    · rw [ifT ko, h, ifF (show ¬ (11 : Int32) = 0 by decide), ifF (show ¬ (11 : Int32) = 1 by decide), ifF (show ¬ (11 : Int32) = 2 by decide), ifF (show ¬ (11 : Int32) = 3 by decide), ifF (show ¬ (11 : Int32) = 4 by decide), ifF (show ¬ (11 : Int32) = 5 by decide), ifF (show ¬ (11 : Int32) = 6 by decide), ifF (show ¬ (11 : Int32) = 7 by decide), ifF (show ¬ (11 : Int32) = 8 by decide), ifF (show ¬ (11 : Int32) = 9 by decide), ifF (show ¬ (11 : Int32) = 10 by decide), ifT (rfl : (11 : Int32) = 11), ifT ko]
  · unfold KB_X0_fixed eOne
    simp only [List.mem_cons, List.not_mem_nil, or_false] at h
    rcases h with h | h | h | h | h
    · rw [ifT ko, h, ifF (show ¬ (7 : Int32) = 0 by decide), ifF (show ¬ (7 : Int32) = 1 by decide), ifF (show ¬ (7 : Int32) = 2 by decide), ifF (show ¬ (7 : Int32) = 3 by decide), ifF (show ¬ (7 : Int32) = 4 by decide), ifF (show ¬ (7 : Int32) = 5 by decide), ifF (show ¬ (7 : Int32) = 6 by decide), ifT (rfl : (7 : Int32) = 7), ifT ko, ifT ko]
    · rw [ifT ko, h, ifF (show ¬ (8 : Int32) = 0 by decide), ifF (show ¬ (8 : Int32) = 1 by decide), ifF (show ¬ (8 : Int32) = 2 by decide), ifF (show ¬ (8 : Int32) = 3 by decide), ifF (show ¬ (8 : Int32) = 4 by decide), ifF (show ¬ (8 : Int32) = 5 by decide), ifF (show ¬ (8 : Int32) = 6 by decide), ifF (show ¬ (8 : Int32) = 7 by decide), ifT (rfl : (8 : Int32) = 8), ifT ko, ifT ko]
    · rw [ifT ko, h, ifF (show ¬ (9 : Int32) = 0 by decide), ifF (show ¬ (9 : Int32) = 1 by decide), ifF (show ¬ (9 : Int32) = 2 by decide), ifF (show ¬ (9 : Int32) = 3 by decide), ifF (show ¬ (9 : Int32) = 4 by decide), ifF (show ¬ (9 : Int32) = 5 by decide), ifF (show ¬ (9 : Int32) = 6 by decide), ifF (show ¬ (9 : Int32) = 7 by decide), ifF (show ¬ (9 : Int32) = 8 by decide), ifT (rfl : (9 : Int32) = 9), ifT ko, ifT ko]
    · rw [ifT ko, h, ifF (show ¬ (12 : Int32) = 0 by decide), ifF (show ¬ (12 : Int32) = 1 by decide), ifF (show ¬ (12 : Int32) = 2 by decide), ifF (show ¬ (12 : Int32) = 3 by decide), ifF (show ¬ (12 : Int32) = 4 by decide), ifF (show ¬ (12 : Int32) = 5 by decide), ifF (show ¬ (12 : Int32) = 6 by decide), ifF (show ¬ (12 : Int32) = 7 by decide), ifF (show ¬ (12 : Int32) = 8 by decide), ifF (show ¬ (12 : Int32) = 9 by decide), ifF (show ¬ (12 : Int32) = 10 by decide), ifF (show ¬ (12 : Int32) = 11 by decide), ifT (rfl : (12 : Int32) = 12), ifT ko, ifT ko]
    · rw [ifT ko, h, ifF (show ¬ (13 : Int32) = 0 by decide), ifF (show ¬ (13 : Int32) = 1 by decide), ifF (show ¬ (13 : Int32) = 2 by decide), ifF (show ¬ (13 : Int32) = 3 by decide), ifF (show ¬ (13 : Int32) = 4 by decide), ifF (show ¬ (13 : Int32) = 5 by decide), ifF (show ¬ (13 : Int32) = 6 by decide), ifF (show ¬ (13 : Int32) = 7 by decide), ifF (show ¬ (13 : Int32) = 8 by decide), ifF (show ¬ (13 : Int32) = 9 by decide), ifF (show ¬ (13 : Int32) = 10 by decide), ifF (show ¬ (13 : Int32) = 11 by decide), ifF (show ¬ (13 : Int32) = 12 by decide), ifT (rfl : (13 : Int32) = 13), ifT ko, ifT ko]
  · unfold KB_X0_fixed eIf
    simp only [obS_id]
    rw [ifT ko, h, ifF (show ¬ (14 : Int32) = 0 by decide), ifF (show ¬ (14 : Int32) = 1 by decide), ifF (show ¬ (14 : Int32) = 2 by decide), ifF (show ¬ (14 : Int32) = 3 by decide), ifF (show ¬ (14 : Int32) = 4 by decide), ifF (show ¬ (14 : Int32) = 5 by decide), ifF (show ¬ (14 : Int32) = 6 by decide), ifF (show ¬ (14 : Int32) = 7 by decide), ifF (show ¬ (14 : Int32) = 8 by decide), ifF (show ¬ (14 : Int32) = 9 by decide), ifF (show ¬ (14 : Int32) = 10 by decide), ifF (show ¬ (14 : Int32) = 11 by decide), ifF (show ¬ (14 : Int32) = 12 by decide), ifF (show ¬ (14 : Int32) = 13 by decide), ifT (rfl : (14 : Int32) = 14), ifT ko]
  · unfold KB_X0_fixedCondition eAnd
    rw [ifT ko, h, ifT (rfl : (26 : Int32) = 26), ifT ko]
  · unfold KB_X0_fixedCondition eOr
    rw [ifT ko, h, ifF (show ¬ (27 : Int32) = 26 by decide), ifT (rfl : (27 : Int32) = 27), ifT ko]
  · unfold KB_X0_fixedCondition eNot
    rw [ifT ko, h, ifF (show ¬ (28 : Int32) = 26 by decide), ifF (show ¬ (28 : Int32) = 27 by decide), ifT (rfl : (28 : Int32) = 28), ifT ko]
theorem fx_rel (ko : mk M a = 18) (h : ¬ mI M 3400 a = 26 ∧ ¬ mI M 3400 a = 27 ∧ ¬ mI M 3400 a = 28) : fxC (d + 1) a M = eLive (fxV d) a M := by
  rw [fxC_s]
  unfold KB_X0_fixedCondition eLive
  rw [ifT ko, ifF h.1, ifF h.2.1, ifF h.2.2, ifT ko]
theorem fx_var (ko : mk M a = 18) (h : mI M 3400 a = 1) : fxV (d + 1) a M = fxP d (mI M 3401 a) M := by
  rw [fxV_s]
  unfold KB_X0_fixed
  simp only [obS_id]
  rw [ifT ko, h, ifF (show ¬ (1 : Int32) = 0 by decide), ifT (rfl : (1 : Int32) = 1), ifT ko]
/-- the flags of a variable when another is written -/
theorem Fl1.ow (W : PoW D M0) (hV : V ≤ (pl D 98).length) (h : Fl1 D M σ v) (hv : v < V) (hu : u < V) (ne : v ≠ u) {f : Nat} : Fl1 D (msI M f ((pl D 98).getD u 0) y) σ v := by
  have n : (pl D 98).getD v 0 ≠ (pl D 98).getD u 0 := fun z => ne (W.inj (by decide) (by decide) (by omega) (by omega) z).2
  unfold Fl1 at h ⊢
  rw [mI_msI, mI_msI, mI_msI, ifF (fun z => n z.2), ifF (fun z => n z.2), ifF (fun z => n z.2)]
  exact h
theorem Fl1.o33 (h : Fl1 D M σ v) : Fl1 D (msI M 33 1 y) σ v := by
  unfold Fl1 at h ⊢
  rw [mI_msI, mI_msI, mI_msI, ifF (fun z => by omega), ifF (fun z => by omega), ifF (fun z => by omega)]
  exact h
theorem Fl1.tw (h : Fl1 D M σ v) (h1 : tA σ' 104 v = tA σ 104 v) (h2 : tA σ' 160 v = tA σ 160 v) : Fl1 D M σ' v := by
  unfold Fl1 at h ⊢
  rw [h1, h2]; exact h
/-- one parameter, both sides -/
theorem z_par {L1 : Nat} (W : FW C B P mss fss D M0 σ0) (hV : V ≤ (pl D 98).length ∧ V ≤ 96) (hl : K ≤ (pl D 106).length ∧ N ≤ 70000) (hX : ∀ v, v < V → Vx1 D M0 σ0 V K N v) (hu8 : u ≤ 8) (rec : u < 8 → EvN (PrI D V M0 σ0 (u + 1)) (PrB C B P mss fss M0 σ0) (PrN D M0 σ0 V K N K2 N2) fxV k0 t0 L1 0 100) (hv : v < V) (hk : 1 ≤ kf ∧ (u < 8 → k0 + 101 ≤ kf)) (ht : 1 ≤ tf ∧ (u < 8 → t0 + 201 ≤ tf)) (hs : u < 8 → s + 100 ≤ L1) (J : PrI D V M0 σ0 u s t M σ) :
    (∃ M' σ' w, fxP kf (nI v) M = some (.inr w, M') ∧ gP tf (nI v) σ = some ((), σ') ∧ PrB C B P mss fss M0 σ0 s t M' σ' w) ∨ ∃ x M' σ', fxP kf (nI v) M = some (.inl x, M') ∧ gP tf (nI v) σ = some ((), σ') ∧ PrI D V M0 σ0 u s t M' σ' ∧ tA σ' 104 v = x ∧ tA σ' 160 v = 2 := by
  obtain ⟨kf, rfl⟩ : ∃ g, kf = g + 1 := ⟨kf - 1, by omega⟩
  obtain ⟨tf, rfl⟩ : ∃ g, tf = g + 1 := ⟨tf - 1, by omega⟩
  have J0 := J
  obtain ⟨⟨E, f⟩, ⟨i1, i2, i3⟩, ⟨i4, i5⟩, i6⟩ := J
  obtain ⟨W', v'⟩ := E.fw W hV f (by decide)
  have get := ls_get (W'.2.1.1 98 (by decide)).1 (show v < (pl D 98).length by omega)
  obtain ⟨kv, pv, -⟩ := W'.2.1.2.1 98 (by decide) v (by omega)
  have kv : mk M ((pl D 98).getD v 0) = 17 := kv
  obtain ⟨r, hr⟩ : ∃ r, r = (pl D 98).getD v 0 := ⟨_, rfl⟩
  rw [← hr] at get kv pv
  have inn : ∀ a b : Nat, a ≠ b → a < V → b < V → (pl D 98).getD a 0 ≠ (pl D 98).getD b 0 := fun a b ne ha hb z => ne (W.2.1.inj (by decide) (by decide) (by omega) (by omega) z).2
  have iv : inb (nI v) 96 := inb_nI' (by omega) (by decide)
  have xv : ix (nI v) = v := ix_nI (by omega)
  have wr : ∀ r2 : Int32, r2 ≠ 0 → K_X0_wrong r2 0 M = some (mn M, wM M r2 0) ∧ F_bad r2 0 σ = some ((), badT σ r2) ∧ PrB C B P mss fss M0 σ0 s t (wM M r2 0) (badT σ r2) (mn M) := fun r2 hr2 => by
    obtain ⟨b1, b2, g⟩ := W'.badG hr2 i1
    exact ⟨b1, b2, g.tr (E.sg W hV.1 f (by decide)), i2, (f.mono (by decide)).tr (badT_f.mono (by decide))⟩
  have fl := i6 v hv
  unfold Fl1 at fl
  rw [← hr] at fl
  obtain ⟨fl0, fl⟩ := fl
  rw [fxP_s, gP_s]
  unfold KB_X0_parameter B_parameter
  rw [get, ob_some, ifT (Or.inr kv), ifT kv, ifT iv, xv]
  rcases fl with ⟨a1, a2⟩ | ⟨a1, a2, a3⟩ | ⟨a1, a2, a3⟩
  · -- known
    right
    refine ⟨_, M, σ, ?_, ?_, J0, fl0.symm, a2⟩
    · rw [a1, ifF (show ¬ (1 : Int32) = 0 by decide), ifT kv]
    · rw [ifT a2]
  · -- asked
    left
    obtain ⟨b1, b2, b3⟩ := wr 31 (by decide)
    refine ⟨_, _, _, ?_, ?_, b3⟩
    · rw [a1, ifT (rfl : (0 : Int32) = 0), ifT kv, a2, ifF (show ¬ (1 : Int32) = 0 by decide), ifT kv, ifF (show ¬ (1 : Int32) = 0 by decide), b1, ob_some, ifT (wM_k M 31 0)]
    · rw [a3, ifF (show ¬ (1 : Int32) = 2 by decide), t_isBad0 i1, ob_some, ifT (rfl : (0 : Int32) = 0), ifT iv, a3, ifT rfl, b2, ob_some]
  · by_cases hu : u = 8
    · left
      obtain ⟨b1, b2, b3⟩ := wr 24 (by decide)
      refine ⟨_, _, _, ?_, ?_, b3⟩
      · rw [a1, ifT (rfl : (0 : Int32) = 0), ifT kv, a2, ifT (rfl : (0 : Int32) = 0), i4, hu, ifT (show nI 8 = 8 from rfl), ifT kv, ifT (rfl : (0 : Int32) = 0), b1, ob_some, ifT (wM_k M 24 0)]
      · rw [a3, ifF (show ¬ (0 : Int32) = 2 by decide), t_isBad0 i1, ob_some, ifT (rfl : (0 : Int32) = 0), ifT iv, a3, ifF (show ¬ (0 : Int32) = 1 by decide), i5, hu, ifT (show nI 8 = 8 from rfl), b2, ob_some]
    · have n8 : ¬ nI u = 8 := fun z => by
        have := (bI_eq (by omega) (by decide)).mp (show nI u = nI 8 from z); omega
      obtain ⟨M24, h24⟩ : ∃ N, N = msI M 3216 r 1 := ⟨_, rfl⟩
      obtain ⟨M25, h25⟩ : ∃ N, N = msI M24 33 1 (nI (u + 1)) := ⟨_, rfl⟩
      obtain ⟨s7, h7⟩ : ∃ q, q = tsI σ 161 (nI (u + 1)) := ⟨_, rfl⟩
      obtain ⟨s9, h9⟩ : ∃ q, q = tsA s7 160 v 1 := ⟨_, rfl⟩
      have E24 : E4o D V M M24 := by rw [h24, hr]; exact E4o.wv (by omega) hv (by rw [← hr]; exact pv.1)
      have E25 : E4o D V M M25 := by rw [h25]; exact E24.tr E4o.w33
      have f9 : Ft prS σ s9 := by rw [h9, h7]; exact ((Ft.rf _ σ).p_tsI rfl).p_tsA rfl
      have k25 : mk M25 r = 17 := by rw [(E25.2.2.2.2.1 r).1]; exact kv
      have i33 : mI M24 33 1 = nI u := by rw [h24, mI_msI, ifF (fun z => by omega)]; exact i4
      have v25 : mI M25 3213 r = tA s9 104 v ∧ mI M25 3215 r = 0 ∧ mI M25 3216 r = 1 ∧ tA s9 160 v = 1 := by
        rw [h25, h24, h9, h7, mI_msI, mI_msI, mI_msI, mI_msI, mI_msI, mI_msI, ifF (fun z => by omega), ifF (fun z => by omega), ifF (fun z => by omega), ifF (fun z => by omega), ifF (fun z => by omega), ifT ⟨rfl, rfl⟩, tA_tsA, tA_tsA, ifF (fun z => by omega), ifT ⟨rfl, rfl⟩]
        exact ⟨fl0, a1, rfl, rfl⟩
      have oth : ∀ v', v' < V → v' ≠ v → Fl1 D M25 s9 v' := fun v' hv' ne => by
        have h1 : Fl1 D M24 σ v' := by rw [h24, hr]; exact Fl1.ow W.2.1 hV.1 (i6 v' hv') hv' hv ne
        have h2 : Fl1 D M25 σ v' := by rw [h25]; exact h1.o33
        refine h2.tw ?_ ?_
        · rw [h9, h7, tA_tsA, ifF (fun z => by omega)]; rfl
        · rw [h9, h7, tA_tsA, ifF (fun z => by omega)]; rfl
      have J25 : PrI D V M0 σ0 (u + 1) s t M25 s9 := by
        refine ⟨⟨E.tr E25, f.tr f9⟩, ⟨by rw [h9, h7]; exact i1, by rw [h9, h7]; exact i2, fun j hj => by rw [h9, h7, tA_tsA, ifF (fun z => by omega)]; exact i3 j hj⟩, ⟨by rw [h25, mI_msI, ifT ⟨rfl, rfl⟩], by rw [h9, h7]; rfl⟩, fun v' hv' => ?_⟩
        by_cases q : v' = v
        · subst q
          unfold Fl1
          rw [← hr]
          exact ⟨v25.1, Or.inr (Or.inl v25.2)⟩
        · exact oth v' hv' q
      have kk : ∀ (X : CM → Option ((Int32 ⊕ Nat) × CM)) (Y Z U V2 : Option ((Int32 ⊕ Nat) × CM)), (if mI M 3215 r = 0 then if mk M r = 17 then if mI M 3216 r = 0 then if mI M 33 1 = 8 then Y else if mk M r = 17 then nm (msI M 3216 r 1) fun M24 => nm (msI M24 33 1 (mI M24 33 1 + 1)) fun M25 => X M25 else Z else U else Z else V2) = X M25 := fun X Y Z U V2 => by
        rw [ifT a1, ifT kv, ifT a2, i4, ifF n8, ifT kv, nm_eq, ← h24, i33, nI_addL, nm_eq, ← h25]
      have tt : ∀ (X : TS → Option (Unit × TS)) (Y Z U : Option (Unit × TS)), (if tA σ 160 v = 2 then Y else ob (F_isBad σ) fun r3 s2 => if r3 = 0 then if inb (nI v) 96 then if tA s2 160 v = 1 then ob (F_bad 31 0 s2) fun _ s33 => some ((), s33) else if tI s2 161 = 8 then ob (F_bad 24 0 s2) fun _ s28 => some ((), s28) else nm (tsI s2 161 (tI s2 161 + 1)) fun s7 => if inb (nI v) 96 then nm (tsA s7 160 v 1) fun s9 => X s9 else Z else U else some ((), s2)) = X s9 := fun X Y Z U => by
        rw [ifF (show ¬ tA σ 160 v = 2 by rw [a3]; decide), t_isBad0 i1, ob_some, ifT (rfl : (0 : Int32) = 0), ifT iv, ifF (show ¬ tA σ 160 v = 1 by rw [a3]; decide), i5, ifF n8, nI_addL, nm_eq, ifT iv, nm_eq, ← h7, ← h9]
      rw [kk _ _ _ _ _]
      have x10 : mR M25 3210 r = mR M0 3210 r := by rw [E25.2.2.2.1, E.2.2.2.1]
      have x58 : tA s9 158 v = tA σ0 158 v := by rw [(f9 158 rfl).2.2.1, (f 158 rfl).2.2.1]
      rw [tt _ _ _ _]
      have fin : ∀ (M28 : CM) (s12 : TS) (x : Int32), PrI D V M0 σ0 (u + 1) s t M28 s12 → ∃ M37 s20, (∀ (Y Z : Option ((Int32 ⊕ Nat) × CM)), (nm (msI M28 3213 r x) fun M34 => nm (msI M34 33 1 (mI M34 33 1 - 1)) fun M35 => if mk M35 r = 17 then nm (msI M35 3215 r 1) fun M37 => if mk M37 r = 17 then some (.inl (mI M37 3213 r), M37) else Y else Z) = some (.inl x, M37)) ∧ (∀ Y : Option (Unit × TS), (nm (tsA s12 104 v x) fun s17 => if inb (nI v) 96 then nm (tsA s17 160 v 2) fun s19 => nm (tsI s19 161 (tI s19 161 - 1)) fun s20 => some ((), s20) else Y) = some ((), s20)) ∧ PrI D V M0 σ0 u s t M37 s20 ∧ tA s20 104 v = x ∧ tA s20 160 v = 2 := fun M28 s12 x Jx => by
        obtain ⟨⟨Ex, fx⟩, ⟨j1, j2, j3⟩, ⟨j4, j5⟩, j6⟩ := Jx
        obtain ⟨M34, h34⟩ : ∃ N, N = msI M28 3213 r x := ⟨_, rfl⟩
        obtain ⟨M35, h35⟩ : ∃ N, N = msI M34 33 1 (nI u) := ⟨_, rfl⟩
        obtain ⟨M37, h37⟩ : ∃ N, N = msI M35 3215 r 1 := ⟨_, rfl⟩
        obtain ⟨s17, g17⟩ : ∃ q, q = tsA s12 104 v x := ⟨_, rfl⟩
        obtain ⟨s19, g19⟩ : ∃ q, q = tsA s17 160 v 2 := ⟨_, rfl⟩
        obtain ⟨s20, g20⟩ : ∃ q, q = tsI s19 161 (nI u) := ⟨_, rfl⟩
        have E34 : E4o D V M28 M34 := by rw [h34, hr]; exact E4o.wv (by omega) hv (by rw [← hr]; exact pv.1)
        have E35 : E4o D V M28 M35 := by rw [h35]; exact E34.tr E4o.w33
        have E37 : E4o D V M28 M37 := by rw [h37, hr]; exact E35.tr (E4o.wv (by omega) hv (by rw [← hr]; exact pv.1))
        have kx : ∀ M', E4o D V M28 M' → mk M' r = 17 := fun M' e => by
          have h1 : mk M28 r = mk M0 r := (Ex.2.2.2.2.1 r).1
          rw [(e.2.2.2.2.1 r).1, h1, ← (E.2.2.2.2.1 r).1]; exact kv
        have i34 : mI M34 33 1 - 1 = nI u := by rw [h34, mI_msI, ifF (fun z => by omega), j4, nI_subL _ _ (show 1 ≤ u + 1 by omega)]; rfl
        have i37 : mI M37 3213 r = x := by rw [h37, h35, h34, mI_msI, mI_msI, mI_msI, ifF (fun z => by omega), ifF (fun z => by omega), ifT ⟨rfl, rfl⟩]
        have t19 : tI s19 161 - 1 = nI u := by
          have : tI s19 161 = nI (u + 1) := by rw [g19, g17]; exact j5
          rw [this, nI_subL _ _ (show 1 ≤ u + 1 by omega)]; rfl
        have f20 : Ft prS s12 s20 := by rw [g20, g19, g17]; exact (((Ft.rf _ s12).p_tsA rfl).p_tsA rfl).p_tsI rfl
        have r104 : ∀ j, tA s20 104 j = if j = v then x else tA s12 104 j := fun j => by
          rw [g20, g19, g17]
          show tA (tsA (tsA s12 104 v x) 160 v 2) 104 j = _
          rw [tA_tsA, ifF (fun z => by omega), tA_tsA]
          by_cases q : j = v
          · rw [ifT ⟨rfl, q⟩, ifT q]
          · rw [ifF (fun z => q z.2), ifF q]
        have r160 : ∀ j, tA s20 160 j = if j = v then 2 else tA s12 160 j := fun j => by
          rw [g20, g19, g17]
          show tA (tsA (tsA s12 104 v x) 160 v 2) 160 j = _
          rw [tA_tsA]
          by_cases q : j = v
          · rw [ifT ⟨rfl, q⟩, ifT q]
          · rw [ifF (fun z => q z.2), ifF q, tA_tsA, ifF (fun z => by omega)]
        refine ⟨M37, s20, fun Y Z => ?_, fun Y => ?_, ?_, by rw [r104, ifT rfl], by rw [r160, ifT rfl]⟩
        · rw [nm_eq, ← h34, i34, nm_eq, ← h35, ifT (kx _ E35), nm_eq, ← h37, ifT (kx _ E37), i37]
        · rw [nm_eq, ← g17, ifT iv, nm_eq, ← g19, t19, nm_eq, ← g20]
        · refine ⟨⟨Ex.tr E37, fx.tr f20⟩, ⟨by rw [g20, g19, g17]; exact j1, by rw [g20, g19, g17]; exact j2, fun j hj => ?_⟩, ⟨by rw [h37, h35, mI_msI, mI_msI, ifF (fun z => by omega), ifT ⟨rfl, rfl⟩], by rw [g20]; rfl⟩, fun v' hv' => ?_⟩
          · have : tA s20 170 j = tA s12 170 j := by
              rw [g20, g19, g17]
              show tA (tsA (tsA s12 104 v x) 160 v 2) 170 j = _
              rw [tA_tsA, ifF (fun z => by omega), tA_tsA, ifF (fun z => by omega)]
            rw [this]; exact j3 j hj
          · by_cases q : v' = v
            · subst q
              unfold Fl1
              rw [← hr]
              exact ⟨by rw [i37, r104, ifT rfl], Or.inl ⟨by rw [h37, mI_msI, ifT ⟨rfl, rfl⟩], by rw [r160, ifT rfl]⟩⟩
            · have h1 : Fl1 D M34 s12 v' := by rw [h34, hr]; exact Fl1.ow W.2.1 hV.1 (j6 v' hv') hv' hv q
              have h2 : Fl1 D M35 s12 v' := by rw [h35]; exact h1.o33
              have h3 : Fl1 D M37 s12 v' := by rw [h37, hr]; exact Fl1.ow W.2.1 hV.1 h2 hv' hv q
              exact h3.tw (by rw [r104, ifF q]) (by rw [r160, ifF q])
      rcases hX v hv with ⟨x1, x2⟩ | ⟨n, x1, x2⟩
      · right
        obtain ⟨M37, s20, g1, g2, g3, g4, g5⟩ := fin M25 s9 (mI M25 3213 r) J25
        refine ⟨_, M37, s20, ?_, ?_, g3, g4, g5⟩
        · rw [ifT k25, ifT (x10.trans (by rw [hr]; exact x1)), ifT k25, ifT k25]
          exact g1 _ _
        · rw [ifT iv, ifT (x58.trans x2), ifT iv, ifT iv, ← v25.1]
          exact g2 _
      · have nz : ¬ mR M0 3210 r = 0 := by
          rw [hr]
          obtain ⟨⟨⟨k, k1, k2, -⟩, -⟩, -⟩ := x2
          rw [k2]
          have := (W.2.1.2.1 106 (by decide) k (by omega)).2.1; omega
        have nb := x2.nb
        have nz2 : ¬ nI n = 0 := fun z => by
          have := (bI_eq (by omega) (by decide)).mp (show nI n = nI 0 from z); omega
        have rr : PrN D M0 σ0 V K N K2 N2 100 0 (mR M0 3210 r) n := Or.inl (by rw [hr]; exact x2)
        have e25 : mR M25 3210 r = mR M0 3210 r := x10
        have u8 : u < 8 := by omega
        have hk2 := hk.2 u8
        have ht2 := ht.2 u8
        rcases rec u8 kf tf s t M25 s9 _ n (by omega) (by omega) rr J25 (hs u8) with ⟨M', σ', w, y, d1, d2, d3⟩ | ⟨x, M', σ', d1, d2, d3⟩
        · left
          refine ⟨M', tsI (tsA (tsA σ' 104 v y) 160 v 2) 161 (tI (tsA (tsA σ' 104 v y) 160 v 2) 161 - 1), w, ?_, ?_, ?_⟩
          · rw [ifT k25, ifF (fun z => nz (e25.symm.trans z)), ifT k25, e25, d1, obS_inr]
          · rw [ifT iv, x58, x1, ifF nz2, ifT iv, d2, ob_some, ifT iv, nm_eq, ifT iv, nm_eq, nm_eq]
          · obtain ⟨b1, b2, b3⟩ := d3
            have ff : Ft [104, 160, 161] σ' (tsI (tsA (tsA σ' 104 v y) 160 v 2) 161 (tI (tsA (tsA σ' 104 v y) 160 v 2) 161 - 1)) := (((Ft.rf _ σ').p_tsA rfl).p_tsA rfl).p_tsI rfl
            exact ⟨b1.tws ff (by decide) (by decide) (by decide), by rw [(ff 171 rfl).1]; exact b2, b3.tr (ff.mono (by decide))⟩
        · right
          obtain ⟨M37, s20, g1, g2, g3, g4, g5⟩ := fin M' σ' x d3
          have k28 : mk M' r = 17 := by
            rw [(d3.1.1.2.2.2.2.1 r).1, ← (E.2.2.2.2.1 r).1]; exact kv
          refine ⟨x, M37, s20, ?_, ?_, g3, g4, g5⟩
          · rw [ifT k25, ifF (fun z => nz (e25.symm.trans z)), ifT k25, e25, d1, obS_inl, ifT k28]
            exact g1 _ _
          · rw [ifT iv, x58, x1, ifF nz2, ifT iv, d2, ob_some, ifT iv]
            exact g2 _
end PAR
