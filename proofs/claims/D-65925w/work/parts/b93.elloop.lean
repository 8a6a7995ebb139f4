/-! Layer B: classes: all elements -/
set_option maxRecDepth 100000
section ELLOOP
variable {C : PC} {M M' M0 Mb : CM} {σ σ' σ0 σb s1 : TS} {i dep c s n ib depb cb' sb' nb' K cc E0 cur ce v w : Nat} {es : List Nat} {X : Nat → Prop} {x1 : Int32}
/-- at `equation` the twin's element stops at once -/
theorem t_el_stop {E : Nat} (P : Pe C M σ i dep c s n) (h11 : tI σ 11 = 1) (h16 : tL σ 16 = kco 14) (hc : cc < 24) (h58 : tI σ 58 = nI E) (hE : E < 481) (h20 : ¬ tA σ 46 cc = 20) : ∃ σ', F_element (nI cc) σ = some ((), σ') ∧ tI σ' 0 = 2 ∧ tI σ' 1 = tI σ 12 := by
  have hin : inb (nI cc) 24 := inb_nI' hc (by decide)
  have hie : inb (nI E) 481 := inb_nI' hE (by decide)
  have hix : ix (nI cc) = cc := ix_nI (by omega)
  have hixe : ix (nI E) = E := ix_nI (by omega)
  unfold F_element
  rw [ifT hin, hix, ifF h20, nm_eq, h58]
  simp only [ifT hie, hixe, nm_eq]
  have g0 := P.g0
  have hK := P.px.2.2.2.1.2.1
  obtain ⟨t, ht⟩ : ∃ t, t = tsA (tsA (tsA (tsA (tsA σ 52 E 0) 53 E 0) 54 E 0) 55 E 0) 56 E 0 := ⟨_, rfl⟩
  have f1 : Ft [52, 53, 54, 55, 56] σ t := by rw [ht]; exact (((((Ft.rf _ _).p_tsA rfl).p_tsA rfl).p_tsA rfl).p_tsA rfl).p_tsA rfl
  rw [← ht]
  have a11 : tI t 11 = 1 := by rw [(f1 11 rfl).1]; exact h11
  have a16 : tL t 16 = kco 14 := by rw [(f1 16 rfl).2.1]; exact h16
  have aw : ∀ (u : TS) (c : Int64), tI u 11 = 1 → tL u 16 = kco 14 → c ≠ kco 14 → F_isWord c u = some (0, u) := fun u c h1 h2 h3 => t_isWord0 c (fun z => h3 (by rw [← z.2, h2]))
  rw [aw t _ a11 a16 (by decide), ob_some]
  obtain ⟨t2, ht2⟩ : ∃ t2, t2 = tsA t 57 E (nZ 0) := ⟨_, rfl⟩
  have f2 : Ft [57] t t2 := by rw [ht2]; exact (Ft.rf _ _).p_tsA rfl
  have b57 : tA t2 57 E = 0 := by rw [ht2, tA_tsA, ifT ⟨rfl, rfl⟩]; rfl
  have b11 : tI t2 11 = 1 := by rw [(f2 11 rfl).1]; exact a11
  have b16 : tL t2 16 = kco 14 := by rw [(f2 16 rfl).2.1]; exact a16
  have b0 : tI t2 0 = 0 := by rw [(f2 0 rfl).1, (f1 0 rfl).1]; exact g0
  have b12 : tI t2 12 = tI σ 12 := by rw [(f2 12 rfl).1, (f1 12 rfl).1]
  have bk : F_isKey t2 = some (1, t2) := t_isKey1 ((hK.kp f1 rfl rfl).kp f2 rfl rfl) (w := 14) (by decide) b16
  rw [← ht2, ifT b57]
  have bf : F_flag t2 = some (0, t2) := by
    have ne : ∀ c : Int64, c ≠ kco 14 → ¬ lg_cmp (tL t2 16) c = 0 := fun c hc z => hc (by rw [← lg_eq.mp z, b16])
    unfold F_flag
    rw [ifT b11, ifF (ne _ (by decide)), ifF (ne _ (by decide)), ifF (ne _ (by decide)), ifF (ne _ (by decide)), ifF (ne _ (by decide)), ifF (ne _ (by decide))]
  have bn : F_passName t2 = some (0, tsI (tsI t2 0 2) 1 (tI t2 12)) := by
    unfold F_passName F_isName
    rw [t_isBad0 b0, ob_some, ifT (rfl : (0 : Int32) = 0), ifT b11, bk, ob_some, ifF (show ¬ (1 : Int32) = 0 from by decide), ob_some, ifT (rfl : (0 : Int32) = 0), t_cs b0, ob_some, ifF (show ¬ tI t2 11 = 4 from by rw [b11]; decide)]
  have bad : ∀ (u : TS), tI u 0 = 2 → F_isBad u = some (1, u) := fun u h => t_isBad1 (by rw [h]; decide)
  have bp : ∀ (u : TS), tI u 0 = 2 → F_passName u = some (0, u) := fun u h => by
    unfold F_passName
    rw [bad u h, ob_some, ifF (show ¬ (1 : Int32) = 0 from by decide)]
  unfold F_component J_component_52 J_component_110 J_element_162
  rw [FUs, L_component_0, t_isBad0 b0, ob_some, ifT (rfl : (0 : Int32) = 0), bf, ob_some, ifT (rfl : (0 : Int32) = 0), obS_inl, t_isBad0 b0, ob_some, ifT (rfl : (0 : Int32) = 0), aw t2 _ b11 b16 (by decide), ob_some, ifT (rfl : (0 : Int32) = 0), bn, ob_some, ifT hie, nm_eq, nm_eq, hixe]
  rw [bp _ (show tI (tsB (tsI (tsI t2 0 2) 1 (tI t2 12)) 51 E 0) 0 = 2 from rfl), ob_some, ifT hie, nm_eq, bad _ (show tI (tsB (tsB (tsI (tsI t2 0 2) 1 (tI t2 12)) 51 E 0) 50 E 0) 0 = 2 from rfl), ob_some, ifF (show ¬ (1 : Int32) = 0 from by decide), ob_some, bad _ (show tI (tsB (tsB (tsI (tsI t2 0 2) 1 (tI t2 12)) 51 E 0) 50 E 0) 0 = 2 from rfl), ob_some, ifF (show ¬ (1 : Int32) = 0 from by decide)]
  exact ⟨_, rfl, rfl, b12⟩
/-- a fault of the twin with what the component's stop says -/
theorem FB.at {r : Int32} (P : Pe C M σ i dep c s n) (h1 : 1 ≤ c) (h2 : 8 ≤ s) (hr : r ≠ 0) (E : Es Mb σb M σ) (h167 : 167 ≤ mn Mb) (hT : Tz σb σ' ∧ Ft sF_txt σb σ') (hB : Bd C σ') (h0 : tI σ' 0 = r) (hp : tI σ' 1 = tI σ 12) : FB C Mb σb (wM M r (tI σ 12)) (mn M) σ' := by
  have fb := P.fb h1 h2 (r := r) (q := tI σ 12) hr
  have e := E.tr (Es.al (σ := σ) (wM_f M r (tI σ 12)) P.n167)
  exact ⟨⟨by rw [(wM_n M r (tI σ 12)).1]; omega, wM_k _ _ _, by rw [(wM_v M r (tI σ 12)).1, h0], by rw [(wM_v M r (tI σ 12)).2, hp], by rw [h0]; exact hr⟩, ⟨e.1, e.2.1, e.2.2.1, hT.1, hT.2⟩, fb.2.2.1, hB⟩
theorem k_stop (P : Pe C M σ i dep c s n) (h2 : 8 ≤ s) (h : ¬ mA M 91 i = 3) : K_X2_stop M = some (mn M, wM M 2 (tI σ 12)) := by
  obtain ⟨g1, g2⟩ := P.px.in1
  have h167 := P.n167
  unfold K_X2_stop
  rw [ifT g1, g2, ifF h, ifT g1, k_wrong (P.cap h2) (by omega), ob_some, P.at12]
theorem el_loop (Pb : Pe C Mb σb ib depb cb' sb' nb') (hcl : cl C ≤ 1280) (hc : 96 ≤ c) (hs : 9000 ≤ s) (hn : 20 ≤ n) (hx : x1 = 0 ∨ x1 = 1) :
    ∀ (g : Nat) (M : CM) (σ : TS) (i f f' : Nat) (es : List Nat) (K : Nat), ct C - i < g → g < f → g < f' → Es Mb σb M σ → ClX C Mb M σ cur ce cc E0 es → mI M 1801 cur = x1 → Pe C M σ i dep c s n → (tI σ 65 = nI K ∧ 1 ≤ K ∧ K + (ct C - i) ≤ cX C) → ElO C Mb σb M σ i dep c s n cur ce cc E0 x1 (KL_X2_newModel_58 f x1 M) (L_readClass_125 f' x1 (nI cc) σ) := by
  intro g
  induction g with
  | zero => intro M σ i f f' es K hg; exact absurd hg (Nat.not_lt_zero _)
  | succ g ih =>
    intro M σ i f f' es K hg hf hf' E X0 h18 P hK
    obtain ⟨f, rfl⟩ : ∃ g, f = g + 1 := ⟨f - 1, by omega⟩
    obtain ⟨f', rfl⟩ : ∃ g, f' = g + 2 := ⟨f' - 2, by omega⟩
    have h167 := Pb.n167
    have hit := P.it
    have t1280 := P.t1280
    have hcx := cX_le C
    obtain ⟨g1, g2⟩ := P.px.in1
    have X1 := X0
    obtain ⟨⟨y1, ⟨y2, y2'⟩, y3, y4, y5⟩, y6, y7, ⟨y8, y9, y10, y11, y12, y13⟩, y14⟩ := X0
    have hKm : Km σ := ⟨K, hK.1, hK.2.1, by omega⟩
    have hE481 : E0 + es.length < 481 := by omega
    have fr0 : Frm cc σ σ := ⟨hKm, Mz.rf _, Ez.rf _, fun _ _ => rfl⟩
    rw [KL_X2_newModel_58, L_readClass_125, t_isBad0 P.g0, ob_some, ifT (rfl : (0 : Int32) = 0)]
    rcases y_key P.px (j := 14) (x := 14) (c := 7309752731624370030) rfl (by decide) (by decide) with ⟨q1, q2, q3, q4, q5⟩ | ⟨q1, q2, -⟩
    · -- equation
      have h16 : tL σ 16 = kco 14 := by
        unfold F_isWord at q2
        rw [ifT q4] at q2
        by_cases z : lg_cmp (tL σ 16) 7309752731624370030 = 0
        · rw [lg_eq.mp z]; decide
        · rw [ifF z] at q2; injection q2 with q2; injection q2 with q2 _; exact absurd q2 (by decide)
      have he : F_isWord 6647396 σ = some (0, σ) := t_isWord0 _ (fun z => by rw [h16] at z; exact absurd z.2 (by decide))
      rw [q1, ob_some, ifF (show ¬ (1 : Int32) = 0 from by decide), he, ob_some, ifT (rfl : (0 : Int32) = 0)]
      rcases hx with rfl | rfl
      · rw [ifT (rfl : (0 : Int32) = 0), q2, ob_some, ifF (show ¬ (1 : Int32) = 0 from by decide)]
        exact Or.inl ⟨M, σ, i, es, K, rfl, rfl, P, Nat.le_refl _, E, X1, hK, fr0, Fz.rf, Or.inl rfl, Or.inr ⟨rfl, q1, q2, q3⟩⟩
      · rw [ifF (show ¬ (1 : Int32) = 0 from by decide)]
        have k91 : ¬ mA M 91 i = 3 := by
          unfold K_X2_isKey at q1
          rw [ifT g1, g2] at q1
          intro z
          rw [z, ifF (show ¬ (3 : Int32) = 1 from by decide)] at q1
          injection q1 with q1; injection q1 with q1 _; exact absurd q1 (by decide)
        have fin : ∀ σ1, F_element (nI cc) σ = some ((), σ1) → tI σ1 0 = 2 → tI σ1 1 = tI σ 12 → Tz σb σ1 ∧ Ft sF_txt σb σ1 → Bd C σ1 → ElO C Mb σb M σ i dep c s n cur ce cc E0 1 (some (.inl (), M)) (ob (F_element (nI cc) σ) fun _ s43 => L_readClass_125 (f' + 1) 1 (nI cc) s43) := fun σ1 e0 e1 e2 e3 e4 => by
          rw [e0, ob_some, L_readClass_125, t_isBad1 (show tI σ1 0 ≠ 0 from by rw [e1]; decide), ob_some, ifF (show ¬ (1 : Int32) = 0 from by decide)]
          refine Or.inr (Or.inl ⟨M, σ1, tI σ 12, rfl, rfl, rfl, q1, k_stop P (by omega) k91, FB.at P (by omega) (by omega) (by decide) E h167 e3 e4 e1 e2, fr_element y8 y11 hE481 hKm e0⟩)
        by_cases h20 : es.length = 20
        · have e0 : F_element (nI cc) σ = some ((), tsI (tsI σ 0 2) 1 (tI σ 12)) := by
            unfold F_element
            rw [ifT (inb_nI' y8 (by decide)), ix_nI (by omega), y10, ifT (show nI es.length = 20 from by rw [h20]; rfl), ifF (show ¬ tI σ 11 = 0 from by rw [q4]; decide), ifF (show ¬ tI σ 11 = 4 from by rw [q4]; decide), q2, ob_some, ifF (show ¬ (1 : Int32) = 0 from by decide), t_cs P.g0, ob_some, ifF (show ¬ tI σ 11 = 4 from by rw [q4]; decide)]
          have fb := (P.fb (by omega) (by omega) (r := 2) (q := tI σ 12) (by decide)).tr E
          exact fin _ e0 rfl rfl ⟨fb.2.1.2.2.2.1, fb.2.1.2.2.2.2⟩ fb.2.2.2
        · obtain ⟨σ1, e0, e1, e2⟩ := t_el_stop P q4 h16 y8 y11 hE481 (by rw [y10, show (20 : Int32) = nI 20 from rfl, bI_eq (by omega) (by decide)]; exact h20)
          rcases z_element Pb hcl E X1 (by omega) P hc hs hn hK with ⟨M', σ', i', x, a1, a2, a3, _⟩ | ⟨w, M', y, σ', a1, a2, fb⟩
          · rw [e0] at a2
            injection a2 with a2; injection a2 with _ a2
            have := a3.g0
            rw [← a2, e1] at this
            exact absurd this (by decide)
          · rw [e0] at a2
            injection a2 with a2; injection a2 with _ a2
            subst a2
            exact fin _ e0 e1 e2 ⟨fb.2.1.2.2.2.1, fb.2.1.2.2.2.2⟩ fb.2.2.2
    rw [q1, ob_some, ifT (rfl : (0 : Int32) = 0)]
    rcases y_key P.px (j := 3) (x := 3) (c := 6647396) rfl (by decide) (by decide) with ⟨r1, r2, r3, r4, r5⟩ | ⟨r1, r2, -⟩
    · rw [r1, ob_some, ifF (show ¬ (1 : Int32) = 0 from by decide), r2, ob_some, ifF (show ¬ (1 : Int32) = 0 from by decide)]
      exact Or.inl ⟨M, σ, i, es, K, rfl, rfl, P, Nat.le_refl _, E, X1, hK, fr0, Fz.rf, Or.inl rfl, Or.inl ⟨q1, q2⟩⟩
    -- an element
    have hT : (if x1 = 0 then ob (F_isWord 7309752731624370030 σ) fun r48 s47 => if r48 = 0 then ob (F_element (nI cc) s47) fun _ s51 => L_readClass_125 (f' + 1) x1 (nI cc) s51 else some ((), s47) else ob (F_element (nI cc) σ) fun _ s43 => L_readClass_125 (f' + 1) x1 (nI cc) s43) = ob (F_element (nI cc) σ) fun _ s43 => L_readClass_125 (f' + 1) x1 (nI cc) s43 := by
      by_cases h0 : x1 = 0
      · rw [ifT h0, q2, ob_some, ifT (rfl : (0 : Int32) = 0)]
      · rw [ifF h0]
    rw [r1, ob_some, ifT (rfl : (0 : Int32) = 0), r2, ob_some, ifT (rfl : (0 : Int32) = 0), hT, y1, ifT y3, y4, ifT y7.1.1, ls_size y7.1, ob_some]
    have ko : ∀ (w : Nat) (M' : CM) (σ1 : TS), F_element (nI cc) σ = some ((), σ1) → FB C Mb σb M' w σ1 → ElO C Mb σb M σ i dep c s n cur ce cc E0 x1 (some (.inr (.inr w), M')) (ob (F_element (nI cc) σ) fun _ s43 => L_readClass_125 (f' + 1) x1 (nI cc) s43) := fun w M' σ1 e0 fb => by
      rw [e0, ob_some, L_readClass_125, t_isBad1 fb.2.2.2.1, ob_some, ifF (show ¬ (1 : Int32) = 0 from by decide)]
      exact Or.inr (Or.inr ⟨w, M', σ1, rfl, rfl, fb, fr_element y8 y11 hE481 hKm e0⟩)
    by_cases h20 : es.length = 20
    · -- one too many
      rw [ifT (show nI es.length = 20 from by rw [h20]; rfl)]
      obtain ⟨kd, sp, ⟨b1, b2, b3, b4, b5, b6⟩, b7⟩ := P.px.2.2.2.2.1
      have cap := P.cap (k := 8) (by omega)
      have hne : mn M ≠ 0 := by have := P.n167; omega
      have kw : ∀ r, K_X0_wrong r (mA M 94 i) M = some (mn M, wM M r (mA M 94 i)) := fun r => k_wrong cap hne r _
      have fin : ∀ r : Int32, r ≠ 0 → F_element (nI cc) σ = some ((), tsI (tsI σ 0 r) 1 (tI σ 12)) → K_X2_tooMany M = some (mn M, wM M r (mA M 94 i)) → ElO C Mb σb M σ i dep c s n cur ce cc E0 x1 (ob (K_X2_tooMany M) fun r48 M47 => if mk M47 r48 = 7 then some (.inr (.inr r48), M47) else none) (ob (F_element (nI cc) σ) fun _ s43 => L_readClass_125 (f' + 1) x1 (nI cc) s43) := fun r hr e0 e1 => by
        rw [e1, ob_some, ifT (wM_k _ _ _)]
        refine ko _ _ _ e0 ?_
        have fb := (P.fb (by omega) (by omega) (r := r) (q := tI σ 12) hr).tr E
        rw [P.at12] at fb ⊢
        exact fb
      have T : ∀ a b d : Option (Unit × TS), (if tI σ 11 = 0 then a else if tI σ 11 = 4 then b else d) = if kd = 0 then a else if kd = 4 then b else d := fun a b d => by
        rw [b4]
        have e0 : nI kd = 0 ↔ kd = 0 := by rw [show (0 : Int32) = nI 0 from rfl, bI_eq (by omega) (by decide)]
        have e4 : nI kd = 4 ↔ kd = 4 := by rw [show (4 : Int32) = nI 4 from rfl, bI_eq (by omega) (by decide)]
        by_cases h0 : kd = 0
        · rw [ifT (e0.mpr h0), ifT h0]
        · rw [ifF (fun z => h0 (e0.mp z)), ifF h0]
          by_cases h4 : kd = 4
          · rw [ifT (e4.mpr h4), ifT h4]
          · rw [ifF (fun z => h4 (e4.mp z)), ifF h4]
      have hF : F_element (nI cc) σ = if kd = 0 then some ((), tsI (tsI σ 0 2) 1 (tI σ 12)) else if kd = 4 then some ((), tsI (tsI σ 0 1) 1 (tI σ 12)) else some ((), tsI (tsI σ 0 7) 1 (tI σ 12)) := by
        unfold F_element
        rw [ifT (inb_nI' y8 (by decide)), ix_nI (by omega), y10, ifT (show nI es.length = 20 from by rw [h20]; rfl), T, q2, ob_some, ifT (rfl : (0 : Int32) = 0), t_bad P.g0, ob_some, t_cs P.g0, ob_some]
        by_cases h0 : kd = 0
        · rw [ifT h0, ifT h0, ifF (show ¬ tI σ 11 = 4 from by rw [b4, h0]; decide)]
        · rw [ifF h0, ifF h0]
          by_cases h4 : kd = 4
          · rw [ifT h4, ifT h4, ifT (show tI σ 11 = 4 from by rw [b4, h4]; rfl)]
          · rw [ifF h4, ifF h4]
      have hk7 : ¬ mA M 91 i = 3 → ¬ mA M 91 i = 4 → K_X2_tooMany M = some (mn M, wM M 7 (mA M 94 i)) := fun h h' => by
        unfold K_X2_tooMany
        rw [ifT g1, g2, ifF h, ifT g1, ifF h', ifT g1, kw, ob_some]
      rcases b7 with ⟨q, p2⟩ | ⟨q, p2, _⟩ | ⟨q, p2, _⟩ | ⟨q, p2, p3⟩ | ⟨q, p2⟩
      · refine fin 2 (by decide) (by rw [hF, ifT q]) ?_
        unfold K_X2_tooMany K_X2_stop
        rw [ifT g1, g2, ifF (show ¬ mA M 91 i = 3 from by rw [p2]; decide), ifT g1, ifT p2, ifT g1, ifF (show ¬ mA M 91 i = 3 from by rw [p2]; decide), ifT g1, kw, ob_some, ob_some]
      · exact fin 7 (by decide) (by rw [hF, ifF (by omega), ifF (by omega)]) (hk7 (by rw [p2]; decide) (by rw [p2]; decide))
      · exact fin 7 (by decide) (by rw [hF, ifF (by omega), ifF (by omega)]) (hk7 (by rw [p2]; decide) (by rw [p2]; decide))
      · have n34 : ∀ v : Int32, v = 3 ∨ v = 4 → ¬ mA M 91 i = v := fun v hv z => by
          rw [p2] at z
          rw [z] at p3
          rcases hv with rfl | rfl
          · rcases p3 with h | h | h | h | h
            · rcases h with h | h | h | h | h | h | h | h | h | h | h | h | h | h | h <;> exact absurd h (by decide)
            all_goals exact absurd h (by decide)
          · rcases p3 with h | h | h | h | h
            · rcases h with h | h | h | h | h | h | h | h | h | h | h | h | h | h | h <;> exact absurd h (by decide)
            all_goals exact absurd h (by decide)
        exact fin 7 (by decide) (by rw [hF, ifF (by omega), ifF (by omega)]) (hk7 (n34 3 (Or.inl rfl)) (n34 4 (Or.inr rfl)))
      · refine fin 1 (by decide) (by rw [hF, ifF (by omega), ifT q]) ?_
        unfold K_X2_tooMany K_X2_stop
        rw [ifT g1, g2, ifT p2, ifT g1, ifT p2, ifT g1, kw, ob_some, ob_some]
    · rw [ifF (show ¬ nI es.length = 20 from by rw [show (20 : Int32) = nI 20 from rfl, bI_eq (by omega) (by decide)]; exact h20)]
      rcases z_element Pb hcl E X1 (by omega) P hc hs hn hK with ⟨M1, σ1, i1, x, a1, a2, P1, hi1, E1, XX, F1, harr, K1, k1, k2, k3⟩ | ⟨w, M1, y, σ1, a1, a2, fb⟩
      · have fr1 : Frm cc σ σ1 := fr_element y8 y11 hE481 hKm a2
        have P1 : Pe C M1 σ1 i1 dep c s n := P1.wk (by omega) (by omega) (Nat.le_refl _)
        have hcc : So M M1 cur := F1.so y2' (fun z => by
          rcases z with z | z | z
          · omega
          · exact y5 z
          · rcases y7.1.2.2.2.2 with ⟨q, _⟩ | ⟨_, q, _⟩
            · rw [q] at z; have := P.c6; omega
            · rw [← z, y3] at q; exact absurd q (by decide))
        rw [a1, obS_inl, a2, ob_some]
        rcases ih M1 σ1 i1 f (f' + 1) (es ++ [x]) K1 (by have := P1.it; omega) (by omega) (by omega) E1 XX (by rw [hcc.i]; exact h18) P1 ⟨k1, k2, k3⟩ with ⟨M2, σ2, i2, es2, K2, b1, b2, b3, b4, b5, b6, b7, b8, b9, b10, b11⟩ | ⟨M2, σ2, p2, b1, b2, b3, b4, b5, b6, b7⟩ | ⟨w, M2, σ2, b1, b2, b3, b4⟩
        · refine Or.inl ⟨M2, σ2, i2, es2, K2, b1, b2, b3, by omega, b5, b6, b7, fr1.tr b8, F1.tr2 b9 (fun o ho z => ?_), ?_, b11⟩
          · rcases z with z | z | z
            · exact Or.inl z
            · exact Or.inr (Or.inl z)
            · rcases harr with q | q
              · rw [q] at z; exact Or.inr (Or.inr z)
              · omega
          · rcases b10 with q | q
            · rw [q]; exact harr
            · right; have := F1.1; omega
        · exact Or.inr (Or.inl ⟨M2, σ2, p2, b1, b2, b3, b4, b5, b6, fr1.tr b7⟩)
        · exact Or.inr (Or.inr ⟨w, M2, σ2, b1, b2, b3, fr1.tr b4⟩)
      · rw [a1, obS_inr]
        exact ko _ _ _ a2 fb
end ELLOOP
