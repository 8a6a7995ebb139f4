/-! Layer B: texts: all classes and functions -/
set_option maxRecDepth 100000
/-- the same text -/
def Cs (C C' : PC) : Prop := cb C' = cb C ∧ cl C' = cl C ∧ cm C' = cm C ∧ ct C' = ct C ∧ cp C' = cp C ∧ cN C' = cN C ∧ cS C' = cS C ∧ cX C' = cX C ∧ cfn C' 1000 = cfn C 1000
theorem fnC_cX {C : PC} {fo : Nat} (h : cnf C ≤ 12) : cX (fnC C fo) = cX C := by
  unfold cX
  rw [show cfn (fnC C fo) 1001 = cfn C 1001 from ifF (show ¬ 1001 = cnf C by omega)]
section TEXTL
variable {T : Nat → Prop} {Mt M M' : CM} {σt σ σ' : TS} {c s n K9 : Nat} {mss : List Nat}
theorem y_end {C : PC} {i dep c s n : Nat} (P : Pe C M σ i dep c s n) : (mA M 91 i = 4 ∧ tI σ 11 = 0 ∧ i = ct C) ∨ (mA M 91 i ≠ 4 ∧ tI σ 11 ≠ 0) := by
  have hit := P.it
  obtain ⟨kd, s', ⟨b1, b2, b3, b4, b5, b6⟩, b7⟩ := P.1.2.2.2.2.1
  rcases b7 with ⟨q, p2⟩ | ⟨q, p2, _⟩ | ⟨q, p2, _⟩ | ⟨q, p2, p3⟩ | ⟨q, p2⟩
  · left
    refine ⟨p2, by rw [b4, q]; rfl, ?_⟩
    have : ¬ i < ct C := fun z => by have := b6.mp z; omega
    omega
  · right; rw [b4, q, p2]; exact ⟨by decide, by decide⟩
  · right; rw [b4, q, p2]; exact ⟨by decide, by decide⟩
  · right
    rw [b4, q, p2]
    refine ⟨fun z => ?_, by decide⟩
    rw [z] at p3
    rcases p3 with h | h | h | h | h
    · rcases h with h | h | h | h | h | h | h | h | h | h | h | h | h | h | h <;> exact absurd h (by decide)
    all_goals exact absurd h (by decide)
  · right; rw [b4, q, p2]; exact ⟨by decide, by decide⟩
theorem t_loadb {x1 x2 x3 x4 x5 x6 x7 : Int32} (h : tI σ 0 ≠ 0) (f : Nat) : L_load_82 (f + 1) x1 x2 x3 x4 x5 x6 x7 σ = some ((), σ) := by
  rw [L_load_82, t_isBad1 h, ob_some, ifF (show ¬ (1 : Int32) = 0 from by decide)]
theorem text_loop {y1 x2 x3 x4 x5 x6 x7 : Int32} (h9 : mI Mt 9 1 = nI K9) (hSt : Sx Mt) (hc : 120 ≤ c) (hs : 12000 ≤ s) (hn : 20 ≤ n) : ∀ (g : Nat) (C : PC) (M : CM) (σ : TS) (i f f' : Nat) (ns : List Nat), ct C - i < g → g < f → g + 1 < f' → K9 + ct C ≤ 6000 → TI C T Mt σt M σ i c s n mss ns →
    (∃ C' M' σ' ns', KL_X2_text_36 f M = some (.inr (.inl ()), M') ∧ L_load_82 f' y1 x2 x3 x4 x5 x6 x7 σ = some ((), σ') ∧ TI C' T Mt σt M' σ' (ct C) c s n mss ns' ∧ tI σ' 11 = 0 ∧ Cs C C') ∨
    (∃ w M' σ', KL_X2_text_36 f M = some (.inr (.inr w), M') ∧ L_load_82 f' y1 x2 x3 x4 x5 x6 x7 σ = some ((), σ') ∧ FL C Mt σt M' w σ') ∨
    ∃ w M1 M' σ', KL_X2_text_36 f M = some (.inl (), M1) ∧ K_X2_stop M1 = some (w, M') ∧ L_load_82 f' y1 x2 x3 x4 x5 x6 x7 σ = some ((), σ') ∧ FL C Mt σt M' w σ' := by
  intro g
  induction g with
  | zero => intro C M σ i f f' ns hg; exact absurd hg (Nat.not_lt_zero _)
  | succ g ih =>
    intro C M σ i f f' ns hg hf hf' h6 I
    have I0 := I
    obtain ⟨⟨P0, hcn, hcr, hcl, hf1⟩, ⟨⟨L88, L97⟩, HC⟩, hS, ⟨Pq, hT⟩, -, ⟨F0, ha0, h167t⟩, htw, hqz, h49t, h48t⟩ := I
    obtain ⟨f, rfl⟩ : ∃ g, f = g + 1 := ⟨f - 1, by omega⟩
    obtain ⟨f', rfl⟩ : ∃ g, f' = g + 2 := ⟨f' - 2, by omega⟩
    have hit := P0.it
    have h167 := P0.n167
    obtain ⟨in1, in2⟩ := P0.px.in1
    rw [KL_X2_text_36, ifT in1, in2, L_load_82, t_isBad0 P0.g0, ob_some, ifT (rfl : (0 : Int32) = 0)]
    rcases y_end P0 with ⟨e1, e2, e3⟩ | ⟨e1, e2⟩
    · left
      have m9 : mI M 9 1 = nI K9 := by
        rw [(F0.so (o := 1) (by omega) (fun z => by
          rcases z with z | z | z | z | z | z | z
          · omega
          · omega
          · omega
          · omega
          · rcases (hSt 95 (by decide)).2 with q | q <;> omega
          · rcases (hSt 96 (by decide)).2 with q | q <;> omega
          · rcases (hSt 97 (by decide)).2 with q | q <;> omega)).i]
        exact h9
      have m404 : mI M 404 90 = nI (ct C + 1) := P0.1.2.2.1.1
      have hle : (mI M 9 1 + mI M 404 90) - 1 ≤ 6000 := by
        rw [m9, m404, bI_add, show (1 : Int32) = nI 1 from rfl, nI_sub (by omega), show (6000 : Int32) = nI 6000 from rfl, bI_le (by omega) (by decide)]
        omega
      rw [ifT e1, ifT hle, ifT e2]
      exact ⟨C, M, σ, ns, rfl, rfl, e3 ▸ I0, e2, rfl, rfl, rfl, rfl, rfl, rfl, rfl, rfl, rfl⟩
    rw [ifF e1, ifF e2]
    rcases z_takeKey P0 (j := 2) (x := 2) (y := 7382928537577680750) rfl (by decide) (by decide) with ⟨σ1, a1, a2, a3, P1, E1, hi⟩ | ⟨a1, a2⟩
    · rw [a1, ob_some, ifF (show ¬ (1 : Int32) = 0 from by decide), a2, ob_some, ifF (show ¬ (1 : Int32) = 0 from by decide)]
      rcases z_function I0 hi hc hs hn with ⟨M', σ', i', fo, b1, b2, b3, b4⟩ | ⟨w, M', σ', b1, b2, b3⟩
      · rw [b1, obS_inl, b2, ob_some]
        have h6' : K9 + ct (fnC C fo) ≤ 6000 := h6
        have hg' : ct (fnC C fo) - i' < g := by show ct C - i' < g; omega
        rcases ih (fnC C fo) M' σ' i' f (f' + 1) ns hg' (by omega) (by omega) h6' b3 with ⟨C2, M2, σ2, ns2, d1, d2, d3, d4, d5⟩ | d | d
        · exact Or.inl ⟨C2, M2, σ2, ns2, d1, d2, d3, d4, d5.1, d5.2.1, d5.2.2.1, d5.2.2.2.1, d5.2.2.2.2.1, d5.2.2.2.2.2.1, d5.2.2.2.2.2.2.1, d5.2.2.2.2.2.2.2.1.trans (fnC_cX P0.nf12), d5.2.2.2.2.2.2.2.2.trans (ifF (show ¬ 1000 = cnf C by have := P0.nf12; omega))⟩
        · exact Or.inr (Or.inl d)
        · exact Or.inr (Or.inr d)
      · rw [b1, obS_inr, b2, ob_some, t_loadb b3.1.2.2.2.2]
        exact Or.inr (Or.inl ⟨w, M', σ', rfl, rfl, b3⟩)
    rw [a1, ob_some, ifT (rfl : (0 : Int32) = 0), a2, ob_some, ifT (rfl : (0 : Int32) = 0)]
    have cls : ∀ (x1 : Int32), x1 = 0 ∨ x1 = 1 → i < ct C → F_isWord 470020285804 σ = some (if x1 = 0 then 1 else 0, σ) → (∃ C' M' σ' ns', (obS (K_X2_newModel x1 (msI M 405 90 (nI (i + 1)))) (fun w55 M51 => some ((.inr (.inr w55) : Unit ⊕ (Unit ⊕ Nat)), M51)) fun _ M51 => KL_X2_text_36 f M51) = some (.inr (.inl ()), M') ∧ (ob (F_readClass σ) fun _ s47 => L_load_82 (f' + 1) y1 x2 x3 x4 x5 x6 x7 s47) = some ((), σ') ∧ TI C' T Mt σt M' σ' (ct C) c s n mss ns' ∧ tI σ' 11 = 0 ∧ Cs C C') ∨ (∃ w M' σ', (obS (K_X2_newModel x1 (msI M 405 90 (nI (i + 1)))) (fun w55 M51 => some ((.inr (.inr w55) : Unit ⊕ (Unit ⊕ Nat)), M51)) fun _ M51 => KL_X2_text_36 f M51) = some (.inr (.inr w), M') ∧ (ob (F_readClass σ) fun _ s47 => L_load_82 (f' + 1) y1 x2 x3 x4 x5 x6 x7 s47) = some ((), σ') ∧ FL C Mt σt M' w σ') ∨ ∃ w M1 M' σ', (obS (K_X2_newModel x1 (msI M 405 90 (nI (i + 1)))) (fun w55 M51 => some ((.inr (.inr w55) : Unit ⊕ (Unit ⊕ Nat)), M51)) fun _ M51 => KL_X2_text_36 f M51) = some (.inl (), M1) ∧ K_X2_stop M1 = some (w, M') ∧ (ob (F_readClass σ) fun _ s47 => L_load_82 (f' + 1) y1 x2 x3 x4 x5 x6 x7 s47) = some ((), σ') ∧ FL C Mt σt M' w σ' := fun x1 hx hi hkw => by
      rcases z_class I0 hi hx hkw hc hs hn with ⟨M', σ', i', v, b1, b2, b3, b4⟩ | ⟨w, M', σ', b1, b2, b3⟩
      · rw [b1, obS_inl, b2, ob_some]
        exact ih C M' σ' i' f (f' + 1) _ (by omega) (by omega) (by omega) h6 b3
      · rw [b1, obS_inr, b2, ob_some, t_loadb b3.1.2.2.2.2]
        exact Or.inr (Or.inl ⟨w, M', σ', rfl, rfl, b3⟩)
    have h5 := P0.i5
    rcases y_key P0.px (j := 0) (x := 0) (c := 470020285804) rfl (by decide) (by decide) with ⟨q1, q2, hi, q3, q4⟩ | ⟨q1, q2, _⟩
    · rcases y_key P0.px (j := 1) (x := 1) (c := -10) rfl (by decide) (by decide) with ⟨r1, r2, _, r3, r4⟩ | ⟨r1, r2, _⟩
      · exact absurd (q4.symm.trans r4) (by decide)
      rw [q1, ob_some, ifF (show ¬ (1 : Int32) = 0 from by decide), r1, ob_some, nm_eq, h5, nI_addL, q2, ob_some, ifF (show ¬ (1 : Int32) = 0 from by decide)]
      exact cls 0 (Or.inl rfl) hi (by rw [q2]; rfl)
    · rcases y_key P0.px (j := 1) (x := 1) (c := -10) rfl (by decide) (by decide) with ⟨r1, r2, hi, r3, r4⟩ | ⟨r1, r2, _⟩
      · rw [q1, ob_some, ifT (rfl : (0 : Int32) = 0), r1, ob_some, ifF (show ¬ (1 : Int32) = 0 from by decide), r1, ob_some, nm_eq, h5, nI_addL, q2, ob_some, ifT (rfl : (0 : Int32) = 0), r2, ob_some, ifF (show ¬ (1 : Int32) = 0 from by decide)]
        exact cls 1 (Or.inr rfl) hi (by rw [q2]; rfl)
      · rw [q1, ob_some, ifT (rfl : (0 : Int32) = 0), r1, ob_some, ifT (rfl : (0 : Int32) = 0), q2, ob_some, ifT (rfl : (0 : Int32) = 0), r2, ob_some, ifT (rfl : (0 : Int32) = 0)]
        obtain ⟨r, p, hr, s1, s2⟩ := y_stop P0.px (P0.cap (k := 8) (by omega))
        have hr0 : r ≠ 0 := by rcases hr with rfl | rfl <;> decide
        rw [s2, ob_some, t_loadb (show tI (tsI (tsI σ 0 r) 1 p) 0 ≠ 0 from hr0)]
        have fb := P0.fb (q := p) (by omega) (by omega) hr0
        have fr : Ft [0, 1] σ (tsI (tsI σ 0 r) 1 p) := ((Ft.rf _ σ).p_tsI rfl).p_tsI rfl
        have G := fb.2.1.1
        obtain ⟨bs, l95⟩ := P0.l95
        exact Or.inr (Or.inr ⟨mn M, M, wM M r p, _, rfl, s1, rfl, FL.of P0 hS L97 F0 ha0 htw h49t h48t G (fun o _ z => Or.inl z) (Or.inl ((G.so (by omega) (by decide)).r _)) ⟨bs, l95.fz G (by omega) (fun o z => by rw [z, P0.en.1]; exact ⟨by decide, by decide⟩)⟩ fb.1 fb.2.2.1 (Tw.ft fr (by decide))⟩)
end TEXTL
