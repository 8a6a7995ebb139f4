/-! Layer B: the flat model: an if's condition, worked out in the scratch set of nodes -/
set_option maxRecDepth 100000
def kTr {τ : Type} (eq inst : Nat) (hd : Nat → CM → Option τ) (kk : Int32 → CM → Option τ) (M : CM) : Option τ := ob (K_X3_clear 107 M) fun _ M117 => nm (msR M117 27 1 107) fun M121 => if mk M121 eq = 13 then obS (K_X0_flatten_2 (mR M121 2401 eq) inst 1 (-1) M121) hd fun r124 M123 => nm (msR M123 27 1 105) fun M128 => obS (K_X0_fixedCondition r124 M128) hd fun r130 M129 => kk r130 M129 else none
section TRUTH
variable {zb : Nat} {C : PC} {D D' D1 D2 : FQ} {M M' M1 M2 M3 M0 : CM} {σ σ' σ1 σ2 σ0 s1 : TS} {mss fss : List Nat} {B V I Bm K N K' N' E A Wn E' A' Wn' v l k x0 dc md X N0 Lp w d s o n i nf R a b n1 n2 f j eq : Nat} {P T : Nat → Prop} {x3 x3' x y r : Int32} {z7 : Nat → Nat} {S : List Nat} {τ : Type} {hd : Nat → CM → Option τ} {kk : Int32 → CM → Option τ}
theorem Ft.tsI2 {v : Int32} (f : Ft S σ σ') : Ft S (tsI σ k v) (tsI σ' k v) := fun j hj => by
  obtain ⟨a, b, c, d⟩ := f j hj
  refine ⟨?_, b, c, d⟩
  show (if j = k then v else tI σ' j) = if j = k then v else tI σ j
  by_cases q : j = k
  · rw [ifT q, ifT q]
  · rw [ifF q, ifF q]; exact a
theorem FSt.mv1 (h : FSt md x0 l X N0 z7 C B P mss fss D M σ V I Bm K N Lp 0 x3) (hx : x0 < 167) (W' : FW C B P mss fss D' M' σ') (FX' : FlX z7 C P D' mss M' σ' V I Bm) (s24 : mI M' 24 1 = mI M 24 1) (s27 : mR M' 27 1 = mR M 27 1) (sx : So M M' x0) (LP : LpR C M' σ' Lp) (hl : pl D' l = pl D l) (h9 : pl D' 109 = pl D 109) (ti : ∀ k, k ∈ [0, 126, 127, 129, 130, 131, 137, 138] → tI σ' k = tI σ k) (nd4 : Nd4 σ σ' N) : FSt md x0 l X N0 z7 C B P mss fss D' M' σ' V I Bm K N Lp 0 x3 := by
  obtain ⟨W, FX, ⟨⟨n1, n2⟩, ⟨n3, n4, n5, n6⟩, ⟨n7, n8⟩, n9, n10, n11, n12, n13⟩, LP0, CA, ⟨h1, h2, h3⟩, h4, h5⟩ := h
  have CT : CtM σ' md K := by
    rcases n9 with ⟨q1, q2, q3⟩ | ⟨q1, q2, q3, q4⟩ | ⟨q1, q2, q3⟩
    · exact Or.inl ⟨q1, by rw [ti 129 (by decide)]; exact q2, by rw [ti 127 (by decide)]; exact q3⟩
    · exact Or.inr (Or.inl ⟨q1, by rw [ti 129 (by decide)]; exact q2, by rw [ti 130 (by decide)]; exact q3, by rw [ti 131 (by decide)]; exact q4⟩)
    · exact Or.inr (Or.inr ⟨q1, by rw [ti 129 (by decide)]; exact q2, by rw [ti 130 (by decide)]; exact q3⟩)
  exact ⟨W', FX', ⟨⟨by rw [s27]; exact n1, n2⟩, ⟨by rw [sx.i]; exact n3, by rw [hl]; exact n4, n5, by rw [sx.i]; exact n6⟩, ⟨by rw [ti 126 (by decide)]; exact n7, n8⟩, CT, n10, n11, n12, n13.mv nd4⟩, LP, fun k hk => absurd hk (Nat.not_lt_zero _), ⟨by rw [h9]; exact h1, h2, by rw [ti 137 (by decide)]; exact h3⟩, by rw [ti 138 (by decide)]; exact h4, by rw [ti 0 (by decide)]; exact h5⟩
/-- the scratch set is begun -/
theorem z_scr (h : BS 1 z7 C B P mss fss V I Bm Lp 0 D M σ K N E A Wn) : ∃ M1, K_X3_clear 107 M = some ((), msI (msI M 604 107 0) 605 107 0) ∧ M1 = msR (msI (msI M 604 107 0) 605 107 0) 27 1 107 ∧ FSt 2 107 108 1000 N z7 C B P mss fss D M1 (tsI (tsI (tsI σ 129 0) 131 0) 138 1) V I Bm 0 N Lp 0 1 ∧ Wz C C P M M1 σ (tsI (tsI (tsI σ 129 0) 131 0) 138 1) ∧ Fq D (fun t => t = 1 ∨ t = 107) M M1 ∧ (∀ f, mI M1 f 1 = mI M f 1) := by
  have W := h.fw
  obtain ⟨W0, FX, ⟨⟨n1, n2⟩, ⟨n3, n4, n5, n6⟩, ⟨n7, n8⟩, n9, n10⟩, LP, CA, ⟨h1, h2, h3⟩, h4, h5⟩ := h.1
  have k107 : mk M 107 = 4 := (W.2.2.2.1.1 (107, 4, 0) (by decide)).1
  obtain ⟨M1, hM1⟩ : ∃ q, q = msR (msI (msI M 604 107 0) 605 107 0) 27 1 107 := ⟨_, rfl⟩
  obtain ⟨s7, hs7⟩ : ∃ q, q = tsI (tsI (tsI σ 129 0) 131 0) 138 1 := ⟨_, rfl⟩
  rw [← hs7]
  have F1 : Fz (fun o => o = 1 ∨ o = 107) M M1 := by
    rw [hM1]
    exact (((Fz.rf (X := fun o => o = 1 ∨ o = 107)).msI (fun _ => Or.inr rfl)).msI (fun _ => Or.inr rfl)).msR (fun _ => Or.inl rfl)
  have ii : ∀ g o, ¬ o = 107 → mI M1 g o = mI M g o := fun g o ho => by rw [hM1, mI_msR, mI_msI, ifF (fun z => ho z.2), mI_msI, ifF (fun z => ho z.2)]
  have i6 : ∀ g, g ≠ 604 → g ≠ 605 → mI M1 g 107 = mI M g 107 := fun g h1 h2 => by rw [hM1, mI_msR, mI_msI, ifF (fun z => h2 z.1), mI_msI, ifF (fun z => h1 z.1)]
  have rr : ∀ g o, ¬ (g = 27 ∧ o = 1) → mR M1 g o = mR M g o := fun g o ho => by rw [hM1, mR_msR, ifF ho]; rfl
  have ft : Ft [129, 131, 138] σ s7 := by rw [hs7]; exact (((Ft.rf _ σ).p_tsI rfl).p_tsI rfl).p_tsI rfl
  obtain ⟨W1, v1, -⟩ := W.w2 F1 (fun o _ z => by
    rcases z with z | z
    · exact Or.inl (Or.inl (by omega))
    · exact Or.inl (Or.inr ⟨by omega, by omega, by rw [z]; decide⟩)) (by rw [hM1]; exact ⟨rfl, rfl⟩) (fun o => ⟨rr _ _ (by omega), rr _ _ (by omega), by rw [hM1]; rfl⟩) (fun o => rr _ _ (by omega)) (ii _ _ (by decide)) (fun q hq => rr _ _ (by
      have := fixO q hq
      omega)) (fun q hq => by
      by_cases z : q.2.1 = 107
      · have : ∀ q, q ∈ bfI → q.1 ≠ 604 ∧ q.1 ≠ 605 := by decide +kernel
        rw [z]
        exact i6 _ (this q hq).1 (this q hq).2
      · exact ii _ _ z) ft (by decide)
  have fq : Fq D (fun t => t = 1 ∨ t = 107) M M1 := F1.mono (fun o ho z => by
    rcases z with z | z
    · rw [z, tgo_s (by decide)]; exact Or.inl rfl
    · rw [z, tgo_s (by decide)]; exact Or.inr rfl)
  have FX1 := FX.kp W fq (fun t z => by unfold TV tg; omega) (fun k hk => by
    have s := W.2.1.so3 (k := k) (l := 98) (by decide) (by have := FX.1.1.1; omega) fq (fun z => by unfold tg at z; omega)
    exact ⟨fun f _ => s.i f, fun f _ => s.r f⟩) v1 (Dx.rf D M) ft (by decide) ⟨ii _ _ (by decide), ii _ _ (by decide)⟩
  have s103 : ∀ k, mA M1 103 k = mA M 103 k ∧ mA M1 104 k = mA M 104 k := fun k => by rw [hM1]; exact ⟨rfl, rfl⟩
  have b130 := h.2.2.2.2.2.1.2.1
  refine ⟨M1, ?_, hM1, ⟨W1, FX1, ⟨⟨by rw [hM1, mR_msR, ifT ⟨rfl, rfl⟩], Or.inr (Or.inl ⟨rfl, rfl, rfl, rfl⟩)⟩, ⟨by rw [hM1, mI_msR, mI_msI, ifF (by decide), mI_msI, ifT ⟨rfl, rfl⟩]; rfl, Nat.zero_le _, Nat.zero_le _, by rw [hM1, mI_msR, mI_msI, ifT ⟨rfl, rfl⟩]⟩, ⟨by rw [(ft 126 rfl).1]; exact n7, by omega, by omega, by omega⟩, Or.inr (Or.inl ⟨rfl, by rw [hs7]; rfl, by rw [(ft 130 rfl).1]; exact b130, by rw [hs7]; rfl⟩), by decide, by decide, fun q => absurd q (by decide), n10.2.2.2.ft ft (by decide)⟩, LP.mv v1 (ii _ _ (by decide)) s103 ft (by decide), fun k hk => absurd hk (Nat.not_lt_zero _), ⟨h1, h2, by rw [(ft 137 rfl).1]; exact h3⟩, Or.inl ⟨rfl, by rw [hs7]; show ¬ (1 : Int32) = 0; decide⟩, by rw [(ft 0 rfl).1]; exact h5⟩, v1, fq, fun f => ii _ _ (by decide)⟩
  unfold K_X3_clear
  rw [ifT k107, nm_eq, mk_msI, ifT k107, nm_eq]
theorem t_truth (hr : ∃ y, F_build x (nI i) 0 1 (tsI (tsI (tsI σ 129 0) 131 0) 138 1) = some (y, σ1)) (hb : tI σ1 0 ≠ 0) : F_truth x (nI i) σ = some (0, tsI (tsI (tsI σ1 138 (tI σ 138)) 129 (tI σ 129)) 126 (tI σ 126)) := by
  obtain ⟨y, hr⟩ := hr
  unfold F_truth
  simp only [nm_eq]
  rw [hr, ob_some, t_isBad1 (by exact hb), ob_some, ifF (show ¬ (1 : Int32) = 0 by decide), ifT rfl]
  rfl
theorem t_truth2 {n' : Int32} (hr : F_build x (nI i) 0 1 (tsI (tsI (tsI σ 129 0) 131 0) 138 1) = some (n', σ1)) (hb : tI σ1 0 = 0) (hh : F_holds n' 0 (tsI (tsI σ1 138 (tI σ 138)) 129 (tI σ 129)) = some (y, σ2)) (h6 : tI σ2 126 = tI σ1 126) : F_truth x (nI i) σ = some (if y = 0 then 0 else 1, tsI σ2 126 (tI σ 126)) := by
  unfold F_truth
  simp only [nm_eq]
  rw [hr, ob_some, t_isBad0 (by exact hb), ob_some, ifT (rfl : (0 : Int32) = 0), hh, ob_some]
  have e : tI σ2 126 = tI (tsI (tsI σ1 138 (tI σ 138)) 129 (tI σ 129)) 126 := h6
  by_cases q : y = 0
  · rw [ifT q, ifT q, ifT e]; rfl
  · rw [ifF q, ifF q, ifT e]; rfl
end TRUTH
