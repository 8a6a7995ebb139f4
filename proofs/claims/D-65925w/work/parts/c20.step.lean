/-! Layer B: a step, both sides -/
set_option maxRecDepth 100000
abbrev stI : List Nat := [85, 86, 90]
def tEnd (h t : Int32) (s : TS) : Option (Unit × TS) := nm (tsI s 165 (t + h)) fun s => ob (F_isBad s) fun r s => if r = 0 then ob (F_solveBlocks s) fun _ s => some ((), s) else some ((), s)
/-- a step is made: the time behind it -/
def StQ (C : PC) (B : Nat) (P : Nat → Prop) (mss fss : List Nat) (V U S q A Wn K1 K2 N : Nat) (D : FQ) (t1 : Int32) (x : Unit ⊕ Nat) (M' : CM) (σ' : TS) : Prop := x = .inl () ∧ (RnW C B P mss fss V U S q A Wn K1 K2 N D M' σ' ∧ VaE 1 V U Wn D M' σ') ∧ mI M' 85 1 = t1
section STEP
variable {pq : Bool} {C : PC} {B : Nat} {P : Nat → Prop} {mss fss : List Nat} {V U S q A Wn K1 K2 N e r w v b n i j k m kf tf a ns : Nat} {D : FQ} {M M' M1 : CM} {σ σ' s s1 s2 : TS} {x x1 x2 x3 y z y1 y2 y3 t1 h t : Int32} {I A0 T : List Nat} {l : List (Nat × Nat)}
theorem SpS.mono (p : SpS C B P mss fss V U S q A Wn K1 K2 N D ns l M σ) {l' : List (Nat × Nat)} (h : ∀ x, x ∈ l' → x ∈ l) : SpS C B P mss fss V U S q A Wn K1 K2 N D ns l' M σ := ⟨p.1, p.2.1, p.2.2.1, fun x hx => p.2.2.2 x (h x hx)⟩
theorem tEndF (hs : tI s 0 ≠ 0) : tEnd h t s = some ((), tsI s 165 (t + h)) := by
  unfold tEnd
  rw [nm_eq, t_isBad1 (σ := tsI s 165 (t + h)) hs, ob_some, ifF (show ¬ (1 : Int32) = 0 by decide)]
theorem Ft.t165 (s : TS) (x : Int32) : Ft [165] s (tsI s 165 x) := (Ft.rf _ _).p_tsI rfl
/-- the end of a step behind the last move -/
theorem z_kend (p : SpS C B P mss fss V U S q A Wn K1 K2 N D ns l M (tsI σ 165 (t + h))) (ht : mI M 85 1 = t + h) : RsO true fbU spI spA spT 2 V D M (tsI σ 165 (t + h)) (fun x _ M' σ' => StQ C B P mss fss V U S q A Wn K1 K2 N D (t + h) x M' σ') (kEndS M) (tEnd h t σ) := by
  have := z_fin p
  rw [ht] at this
  exact this
/-- rows begin -/
theorem k_x0 (st : SaR ns U M σ) (x1 x2 : Int32) : ∃ M', KL_X0_step_12 FU x1 x2 0 M = some ((), M') ∧ KF D [] [] [158] [] M M' ∧ ∀ i, i < ns → mA M' 158 i = mA M 124 (us σ i) := by
  have fu : 1000 < FU := by unfold FU; decide
  obtain ⟨⟨h74, h198, n24, U180⟩, hs⟩ := st
  obtain ⟨M', l1, l2, l3⟩ := loopK (L := fun n i s => KL_X0_step_12 n x1 x2 i s) (X := ns) (fun i M' => KF D [] [] [158] [] M M' ∧ ∀ j, j < i → mA M' 158 j = mA M 124 (us σ j)) (fun n M' ⟨k, _⟩ => by
      have t : mI M' 74 1 ≤ nI ns := by rw [k.i rfl, h74, bI_le (by omega) (by omega)]; omega
      show KL_X0_step_12 (n + 1) x1 x2 (nI ns) M' = _
      rw [KL_X0_step_12, ifT t]) (fun n i M' hi ⟨k, hv⟩ => by
      have t : ¬ mI M' 74 1 ≤ nI i := by rw [k.i rfl, h74, bI_le (by omega) (by omega)]; omega
      have ii : inb (nI i) 180 := inb_nI' (by omega) (by decide)
      have xi : ix (nI i) = i := ix_nI (by omega)
      obtain ⟨c1, c2, -⟩ := hs i hi
      have iu : inb (nI (us σ i)) 180 := inb_nI' (by omega) (by decide)
      have xu : ix (nI (us σ i)) = us σ i := ix_nI (by omega)
      refine ⟨mwA M' 158 i (mA M 124 (us σ i)), ?_, k.wA rfl (by decide), fun j hj => ?_⟩
      · show KL_X0_step_12 (n + 1) x1 x2 (nI i) M' = _
        rw [KL_X0_step_12, ifF t, ifT ii, xi, k.ga rfl, c2, ifT iu, xu, ifT ii, k.ga rfl, nm_eq, nm_eq, p1n]
      · rw [mA_mwA]
        by_cases z : j = i
        · rw [ifT ⟨rfl, z⟩, z]
        · rw [ifF (fun y => z y.2)]; exact hv j (by omega)) ns 0 FU M (by omega) (by omega) ⟨KF.rf, fun j hj => by omega⟩
  exact ⟨M', l1, l2, l3⟩
theorem t_x0 (st : SaR ns U M s) (x1 x2 : Int32) : ∃ σ', L_step_7 FU x1 x2 0 s = some ((), σ') ∧ Ft [240] s σ' ∧ ∀ i, i < ns → tA σ' 240 i = tA s 166 (us s i) := by
  have fu : 1000 < FU := by unfold FU; decide
  obtain ⟨⟨h74, h198, n24, U180⟩, hs⟩ := st
  obtain ⟨σ', l1, l2, l3⟩ := loopT (L := fun n i s => L_step_7 n x1 x2 i s) (X := ns) (fun i σ' => Ft [240] s σ' ∧ ∀ j, j < i → tA σ' 240 j = tA s 166 (us s j)) (fun n σ' ⟨f, _⟩ => by
      have t : tI σ' 198 ≤ nI ns := by rw [(f 198 rfl).1, h198, bI_le (by omega) (by omega)]; omega
      show L_step_7 (n + 1) x1 x2 (nI ns) σ' = _
      rw [L_step_7, ifT t]) (fun n i σ' hi ⟨f, hv⟩ => by
      have t : ¬ tI σ' 198 ≤ nI i := by rw [(f 198 rfl).1, h198, bI_le (by omega) (by omega)]; omega
      have ii : inb (nI i) 200 := inb_nI' (by omega) (by decide)
      have xi : ix (nI i) = i := ix_nI (by omega)
      obtain ⟨c1, -, c2, -⟩ := hs i hi
      have iu : inb (nI (us s i)) 200 := inb_nI' (by omega) (by decide)
      have xu : ix (nI (us s i)) = us s i := ix_nI (by omega)
      refine ⟨tsA σ' 240 i (tA s 166 (us s i)), ?_, f.p_tsA rfl, fun j hj => ?_⟩
      · show L_step_7 (n + 1) x1 x2 (nI i) σ' = _
        rw [L_step_7, ifF t, ifT ii, xi, (f 207 rfl).2.2.1, c2, ifT iu, xu, ifT ii, (f 166 rfl).2.2.1, nm_eq, nm_eq, p1n]
      · rw [tA_tsA]
        by_cases z : j = i
        · rw [ifT ⟨rfl, z⟩, z]
        · rw [ifF (fun y => z y.2)]; exact hv j (by omega)) ns 0 FU s (by omega) (by omega) ⟨Ft.rf _ _, fun j hj => by omega⟩
  exact ⟨σ', l1, l2, l3⟩
/-- the loop of the third method, from a state that is about to move -/
theorem z_l3 (h t : Int32) : ∀ (m n kf tf : Nat) (M : CM) (σ : TS), n + m = 8 → m < kf → m < tf → SpS C B P mss fss V U S q A Wn K1 K2 N D ns [(159, 242), (158, 240)] M σ → mI M 85 1 = t + h → mI M 93 1 = 3 →
    RsO true fbU spI spA spT 2 V D M σ (fun x _ M' σ' => StQ C B P mss fss V U S q A Wn K1 K2 N D (t + h) x M' σ') (obS (KL_X0_step_267 kf h t (nI n) M) (fun r134 M131 => some (r134, M131)) fun _ M131 => KJ_X0_step_295 h t M131) (ob (F_move_242 h σ) fun _ s => ob (L_step_433 tf h t (nI n) s) fun _ s => tEnd h t s) := by
  have n94 : spT.contains 94 = false := rfl
  have stopF : ∀ (m n tf : Nat) (s : TS), n + m = 8 → m < tf → tI s 0 ≠ 0 → L_step_433 tf h t (nI n) s = some ((), s) := by
    intro m
    induction m with
    | zero =>
      intro n tf s e ht hs
      obtain ⟨tf, rfl⟩ : ∃ g, tf = g + 1 := ⟨tf - 1, by omega⟩
      have : n = 8 := by omega
      subst this
      rw [L_step_433, ifT (show (8 : Int32) ≤ nI 8 by decide)]
    | succ m ih =>
      intro n tf s e ht hs
      obtain ⟨tf, rfl⟩ : ∃ g, tf = g + 1 := ⟨tf - 1, by omega⟩
      have t : ¬ (8 : Int32) ≤ nI n := fun z => by rw [show (8 : Int32) = nI 8 from rfl, bI_le (by decide) (by omega)] at z; omega
      rw [L_step_433, ifF t, t_rat242F hs, ob_some, t_mv242F hs, ob_some, nm_eq, p1n]
      exact ih (n + 1) tf s (by omega) (by omega) hs
  intro m
  induction m with
  | zero =>
    intro n kf tf M σ e hk ht p h85 h93
    obtain ⟨kf, rfl⟩ : ∃ g, kf = g + 1 := ⟨kf - 1, by omega⟩
    obtain ⟨tf, rfl⟩ : ∃ g, tf = g + 1 := ⟨tf - 1, by omega⟩
    have : n = 8 := by omega
    subst this
    rw [KL_X0_step_267, ifT (show (8 : Int32) ≤ nI 8 by decide), obS_inl]
    unfold KJ_X0_step_295
    rw [nm_eq]
    refine RsO.seq n94 ((z_mv4_242 (pq := true) (t1 := t + h) p (by rw [h93]; decide) (by decide) (by decide) (by decide) (Ft.rf [165] σ) h).mono (I' := spI) (A' := spA) (T' := spT) (nb' := 2) (by decide) (by decide) (by decide) (by decide)) (fun wx M' σ' y k1 k2 fo => ?_) (fun x b M' σ' k1 k2 g ⟨g1, g2, g3, g4⟩ => ?_)
    · refine ⟨by rw [k1, obS_inr], (), tsI σ' 165 (t + h), ?_, (Ft.t165 _ _).mono (by decide), rfl, rfl, rfl, rfl⟩
      rw [k2, ob_some, stopF 0 8 (tf + 1) σ' rfl (by omega) fo.ne, ob_some, tEndF fo.ne]
    · subst g1
      have p' := g4 (tsI σ' 165 (t + h)) (Ft.t165 _ _) rfl
      have e85 : mI M' 85 1 = t + h := p'.2.1.1.2.1
      rw [k1, k2, obS_inl, ob_some, L_step_433, ifT (show (8 : Int32) ≤ nI 8 by decide), ob_some]
      exact RsO.pre ⟨KF.rf, (Ft.t165 _ _).mono (by decide), PaK.rf⟩ n94 (z_kend p' e85)
  | succ m ih =>
    intro n kf tf M σ e hk ht p h85 h93
    obtain ⟨kf, rfl⟩ : ∃ g, kf = g + 1 := ⟨kf - 1, by omega⟩
    obtain ⟨tf, rfl⟩ : ∃ g, tf = g + 1 := ⟨tf - 1, by omega⟩
    have t8 : ¬ (8 : Int32) ≤ nI n := fun z => by rw [show (8 : Int32) = nI 8 from rfl, bI_le (by decide) (by omega)] at z; omega
    have t165 : tI σ 165 = t + h := p.2.1.1.2.1.symm.trans h85
    rw [KL_X0_step_267, ifF t8, slopes_eq, nm_eq]
    refine RsO.seq n94 ((z_mv8_242 (pq := true) (t1 := t + h) p (a := 159) (by decide) (by decide) (by decide) (by decide) (Ft.rf [165] σ) h 159).mono (I' := spI) (A' := spA) (T' := spT) (nb' := 2) (by decide) (by decide) (by decide) (by decide)) (fun wx M' σ' y k1 k2 fo => ?_) (fun x b M' σ' k1 k2 g ⟨g1, g2, g3, g4⟩ => ?_)
    · refine ⟨by rw [k1, obS_inr, obS_inr, obS_inr], (), tsI σ' 165 (t + h), ?_, (Ft.t165 _ _).mono (by decide), rfl, rfl, rfl, rfl⟩
      rw [k2, ob_some, stopF (m + 1) n (tf + 1) σ' e (by omega) fo.ne, ob_some, tEndF fo.ne]
    · subst g1
      have p' := (g4 σ' (Ft.rf _ _) (g2.trans t165)).mono (l' := [(158, 240)]) (by decide)
      have e85 : mI M' 85 1 = t + h := p'.2.1.1.2.1.trans (g2.trans t165)
      rw [k1, k2, obS_inl, ob_some, L_step_433, ifF t8]
      refine RsO.seq n94 (z_rat242 p' (a := 159) (by decide) (by decide)) (fun wx M2 σ2 y k3 k4 fo => ?_) (fun x b M2 σ2 k3 k4 g5 ⟨g6, g7, g8⟩ => ?_)
      · refine ⟨by rw [k3, obS_inr, obS_inr], (), tsI σ2 165 (t + h), ?_, (Ft.t165 _ _).mono (by decide), rfl, rfl, rfl, rfl⟩
        rw [k4, ob_some, t_mv242F fo.ne, ob_some, nm_eq, p1n, stopF m (n + 1) tf σ2 (by omega) (by omega) fo.ne, ob_some, tEndF fo.ne]
      · subst g6
        have e93 : mI M2 93 1 = 3 := by rw [g5.1.i rfl, g.1.i rfl]; exact h93
        rw [k3, k4, obS_inl, ob_some, nm_eq, p1n]
        simp only [ob_assoc, nm_eq, p1n]
        exact ih (n + 1) kf tf M2 σ2 (by omega) (by omega) (by omega) g7 (g8.trans e85) e93
/-- sums, the last move and the end of the fourth method -/
theorem z_tail (p : SpS C B P mss fss V U S q A Wn K1 K2 N D ns [(162, 244), (161, 243), (160, 242), (159, 241), (158, 240)] M σ) (h93 : mI M 93 1 = 2) (h t : Int32) : RsO true fbU spI spA spT 2 V D M σ (fun x _ M' σ' => StQ C B P mss fss V U S q A Wn K1 K2 N D (t + h) x M' σ') (kTail h t M) (ob (L_step_175 FU h t 0 σ) fun _ s => tEnd h t s) := by
  have n94 : spT.contains 94 = false := rfl
  obtain ⟨hc, hn, har⟩ := spfr p
  obtain ⟨w, d, st, rw_⟩ := id p
  have e : ∀ j, j < ns → c4M h M j = c4T h σ j := fun j hj => by
    show c4V h _ _ _ _ _ = c4V h _ _ _ _ _
    rw [show mA M 158 j = _ from rw_ (158, 240) (by decide) j hj, show mA M 159 j = _ from rw_ (159, 241) (by decide) j hj, show mA M 160 j = _ from rw_ (160, 242) (by decide) j hj, show mA M 161 j = _ from rw_ (161, 243) (by decide) j hj, show mA M 162 j = _ from rw_ (162, 244) (by decide) j hj]
  rcases k_tail (D := D) st h93 har hc hn h t with ⟨a1, M', a2, a3, a4, a5⟩ | ⟨⟨j, j1, j2⟩, M2, a2, a3⟩
  · rcases t_tail st d.1.1 h t with ⟨b1, σ', b2, b3, b4⟩ | ⟨⟨j, j1, j2⟩, -⟩
    · rw [a2, b2, ob_some]
      have ff : Ft [165, 166] σ (tsI σ' 165 (t + h)) := (b3.mono (by decide)).tr ((Ft.t165 _ _).mono (by decide))
      have g3 : RsK spI spA spT V D M σ M' (tsI σ' 165 (t + h)) := ⟨a3.mono (by decide) (by decide) (by decide) (by decide), ff.mono (by decide), PaK.of a3 rfl⟩
      have hu : ∀ u, u < U → mA M' 124 u = tA (tsI σ' 165 (t + h)) 166 u := fun u hu => by
        rw [a5, show tA (tsI σ' 165 (t + h)) 166 u = tA σ' 166 u from rfl, b4]
        exact wrS_eq (d.2.1 u hu).1 ns (fun i hi => by rw [e i hi])
      obtain ⟨w', d'⟩ := sp_ve w d g3 ((ff 0 rfl).1.trans d.1.1) a4 hu ((ff 171 rfl).1.trans d.2.2.2.2.1.1) (by rw [a3.i rfl, (ff 222 rfl).1]; exact d.2.2.2.2.1.2)
      exact RsO.pre g3 n94 (z_kend (l := []) ⟨w', d', st.up a3 ff rfl ⟨rfl, rfl⟩ (by decide), fun x hx => by cases hx⟩ a4)
    · exact absurd ((e j j1).trans j2) (a1 j j1)
  · rcases t_tail st d.1.1 h t with ⟨b1, -⟩ | ⟨-, σ1, b2, b3, b4, b5⟩
    · exact absurd ((e j j1).symm.trans j2) (b1 j j1)
    · have ne : tI σ1 0 ≠ 0 := by rw [b4]; decide
      obtain ⟨n167, n98⟩ := w.lt
      have en : mn M2 = mn M := a3.n
      rw [a2, b2, ob_some, tEndF ne]
      refine Or.inl ⟨_, _, _, (), rfl, rfl, 1, 41, ⟨by decide, M2, 41, 0, a3.mono (by decide) (by decide) (by decide) (by decide), KF.rf⟩, ⟨Nat.lt_succ_self _, wM_k M2 41 0, (wM_v M2 41 0).1⟩, by decide, ⟨b4, fun _ => ((wM_v M2 41 0).2).trans b5.symm⟩, (b3.mono (by decide)).tr ((Ft.t165 _ _).mono (by decide)), ⟨(b3 171 rfl).1.trans d.2.2.2.2.1.1, ?_⟩, fun v hv z => ?_⟩
      · rw [show tI (tsI σ1 165 (t + h)) 222 = tI σ1 222 from rfl, (b3 222 rfl).1, ← d.2.2.2.2.1.2]
        exact (((wM_f M2 41 0).so (show 1 < mn M2 by omega) (fun q => q)).i 90).trans (a3.i rfl 1)
      · exact (((wM_f M2 41 0).so (by rw [en]; exact n98 v hv) (fun q => q)).i 3213).trans (a3.i rfl _)
/-- the last move, and the end -/
theorem z_end241 (p : SpS C B P mss fss V U S q A Wn K1 K2 N D ns l M σ) (h93 : ¬ mI M 93 1 = 2) (h1 : (158, 240) ∈ l) (h2 : (159, 241) ∈ l) (hl : l.all (fun p => !([124] : List Nat).contains p.1 && !([0, 1, 165, 166] : List Nat).contains p.2) = true) (h t : Int32) : RsO true fbU spI spA spT 2 V D M σ (fun x _ M' σ' => StQ C B P mss fss V U S q A Wn K1 K2 N D (t + h) x M' σ') (KJ_X0_step_295 h t M) (ob (F_move_241 h σ) fun _ s => tEnd h t s) := by
  have n94 : spT.contains 94 = false := rfl
  unfold KJ_X0_step_295
  rw [nm_eq]
  refine RsO.seq n94 ((z_mv4_241 (pq := true) (t1 := t + h) p h93 h1 h2 hl (Ft.rf [165] σ) h).mono (I' := spI) (A' := spA) (T' := spT) (nb' := 2) (by decide) (by decide) (by decide) (by decide)) (fun wx M' σ' y k1 k2 fo => ?_) (fun x b M' σ' k1 k2 g ⟨g1, g2, g3, g4⟩ => ?_)
  · refine ⟨by rw [k1, obS_inr], (), tsI σ' 165 (t + h), ?_, (Ft.t165 _ _).mono (by decide), rfl, rfl, rfl, rfl⟩
    rw [k2, ob_some, tEndF fo.ne]
  · subst g1
    have p' := g4 (tsI σ' 165 (t + h)) (Ft.t165 _ _) rfl
    rw [k1, k2, obS_inl, ob_some]
    exact RsO.pre ⟨KF.rf, (Ft.t165 _ _).mono (by decide), PaK.rf⟩ n94 (z_kend p' p'.2.1.1.2.1)
theorem z_end242 (p : SpS C B P mss fss V U S q A Wn K1 K2 N D ns l M σ) (h93 : ¬ mI M 93 1 = 2) (h1 : (158, 240) ∈ l) (h2 : (159, 242) ∈ l) (hl : l.all (fun p => !([124] : List Nat).contains p.1 && !([0, 1, 165, 166] : List Nat).contains p.2) = true) (h t : Int32) : RsO true fbU spI spA spT 2 V D M σ (fun x _ M' σ' => StQ C B P mss fss V U S q A Wn K1 K2 N D (t + h) x M' σ') (KJ_X0_step_295 h t M) (ob (F_move_242 h σ) fun _ s => tEnd h t s) := by
  have n94 : spT.contains 94 = false := rfl
  unfold KJ_X0_step_295
  rw [nm_eq]
  refine RsO.seq n94 ((z_mv4_242 (pq := true) (t1 := t + h) p h93 h1 h2 hl (Ft.rf [165] σ) h).mono (I' := spI) (A' := spA) (T' := spT) (nb' := 2) (by decide) (by decide) (by decide) (by decide)) (fun wx M' σ' y k1 k2 fo => ?_) (fun x b M' σ' k1 k2 g ⟨g1, g2, g3, g4⟩ => ?_)
  · refine ⟨by rw [k1, obS_inr], (), tsI σ' 165 (t + h), ?_, (Ft.t165 _ _).mono (by decide), rfl, rfl, rfl, rfl⟩
    rw [k2, ob_some, tEndF fo.ne]
  · subst g1
    have p' := g4 (tsI σ' 165 (t + h)) (Ft.t165 _ _) rfl
    rw [k1, k2, obS_inl, ob_some]
    exact RsO.pre ⟨KF.rf, (Ft.t165 _ _).mono (by decide), PaK.rf⟩ n94 (z_kend p' p'.2.1.1.2.1)
/-- the fourth method behind the first slopes -/
theorem z_rk (p : SpS C B P mss fss V U S q A Wn K1 K2 N D ns [(159, 241), (158, 240)] M σ) (h93 : mI M 93 1 = 2) (h t : Int32) : RsO true fbU spI spA spT 2 V D M σ (fun x _ M' σ' => StQ C B P mss fss V U S q A Wn K1 K2 N D (t + h) x M' σ')
    (obS (K_X0_slopes (t + (h / 2)) (h / 2) 159 160 M) (fun w M => some (.inr w, M)) fun _ M77 => obS (K_X0_slopes (t + (h / 2)) (h / 2) 160 161 M77) (fun w M => some (.inr w, M)) fun _ M82 => obS (K_X0_slopes (t + h) h 161 162 M82) (fun w M => some (.inr w, M)) fun _ M87 => kTail h t M87)
    (nm (tsI σ 165 (t + (h / 2))) fun s59 => ob (F_move_241 (h / 2) s59) fun _ s60 => ob (F_rates_242 s60) fun _ s64 => ob (F_move_242 (h / 2) s64) fun _ s68 => ob (F_rates_243 s68) fun _ s72 => nm (tsI s72 165 (t + h)) fun s76 => ob (F_move_243 h s76) fun _ s77 => ob (F_rates_244 s77) fun _ s81 => ob (L_step_175 FU h t 0 s81) fun _ s171 => tEnd h t s171) := by
  have n94 : spT.contains 94 = false := rfl
  obtain ⟨gF, hgF⟩ := fuEx
  -- what the twin does after a fault
  have f4 : ∀ s, tI s 0 ≠ 0 → (ob (F_rates_244 s) fun _ s81 => ob (L_step_175 FU h t 0 s81) fun _ s171 => tEnd h t s171) = some ((), tsI s 165 (t + h)) := fun s hs => by
    rw [t_rat244F hs, ob_some, hgF, t_175F hs, ob_some, tEndF hs]
  have f3 : ∀ s, tI s 0 ≠ 0 → (nm (tsI s 165 (t + h)) fun s76 => ob (F_move_243 h s76) fun _ s77 => ob (F_rates_244 s77) fun _ s81 => ob (L_step_175 FU h t 0 s81) fun _ s171 => tEnd h t s171) = some ((), tsI (tsI s 165 (t + h)) 165 (t + h)) := fun s hs => by
    rw [nm_eq, t_mv243F (s := tsI s 165 (t + h)) hs, ob_some]; exact f4 _ hs
  have f2 : ∀ s, tI s 0 ≠ 0 → (ob (F_move_242 (h / 2) s) fun _ s68 => ob (F_rates_243 s68) fun _ s72 => nm (tsI s72 165 (t + h)) fun s76 => ob (F_move_243 h s76) fun _ s77 => ob (F_rates_244 s77) fun _ s81 => ob (L_step_175 FU h t 0 s81) fun _ s171 => tEnd h t s171) = some ((), tsI (tsI s 165 (t + h)) 165 (t + h)) := fun s hs => by
    rw [t_mv242F hs, ob_some, t_rat243F hs, ob_some]; exact f3 s hs
  have fr1 : ∀ s : TS, Ft spT s (tsI (tsI s 165 (t + h)) 165 (t + h)) := fun s => ((Ft.t165 _ _).tr (Ft.t165 _ _)).mono (by decide)
  rw [slopes_eq, nm_eq, nm_eq]
  refine RsO.seq n94 ((z_mv8_241 (pq := true) (t1 := t + (h / 2)) p (a := 159) (by decide) (by decide) (by decide) (by decide) (Ft.t165 σ (t + (h / 2))) (h / 2) 160).mono (I' := spI) (A' := spA) (T' := spT) (nb' := 2) (by decide) (by decide) (by decide) (by decide)) (fun wx M' σ' y k1 k2 fo => ?_) (fun x b M' σ' k1 k2 g1 ⟨q1, q2, q3, q4⟩ => ?_)
  · refine ⟨by rw [k1, obS_inr, obS_inr], (), _, ?_, fr1 σ', rfl, rfl, rfl, rfl⟩
    rw [k2, ob_some, t_rat242F fo.ne, ob_some, f2 σ' fo.ne]
  subst q1
  have p1 := (q4 σ' (Ft.rf _ _) (q2.trans rfl))
  rw [k1, k2, obS_inl, ob_some]
  refine RsO.seq n94 (z_rat242 p1 (a := 160) (by decide) (by decide)) (fun wx M2 σ2 y k3 k4 fo => ?_) (fun x b M2 σ2 k3 k4 g2 ⟨r1, p2, r3⟩ => ?_)
  · refine ⟨by rw [k3, obS_inr], (), _, ?_, fr1 σ2, rfl, rfl, rfl, rfl⟩
    rw [k4, ob_some, f2 σ2 fo.ne]
  subst r1
  have e2 : tI σ2 165 = t + (h / 2) := p2.2.1.1.2.1.symm.trans (r3.trans (p1.2.1.1.2.1.trans q2))
  rw [k3, k4, obS_inl, ob_some, slopes_eq, nm_eq]
  refine RsO.seq n94 ((z_mv8_242 (pq := true) (t1 := t + (h / 2)) p2 (a := 160) (by decide) (by decide) (by decide) (by decide) (Ft.rf [165] σ2) (h / 2) 161).mono (I' := spI) (A' := spA) (T' := spT) (nb' := 2) (by decide) (by decide) (by decide) (by decide)) (fun wx M3 σ3 y k5 k6 fo => ?_) (fun x b M3 σ3 k5 k6 g3 ⟨q1, q2', q3, q4⟩ => ?_)
  · refine ⟨by rw [k5, obS_inr, obS_inr], (), _, ?_, fr1 σ3, rfl, rfl, rfl, rfl⟩
    rw [k6, ob_some, t_rat243F fo.ne, ob_some, f3 σ3 fo.ne]
  subst q1
  have p3 := q4 σ3 (Ft.rf _ _) (q2'.trans e2)
  rw [k5, k6, obS_inl, ob_some]
  refine RsO.seq n94 (z_rat243 p3 (a := 161) (by decide) (by decide)) (fun wx M4 σ4 y k7 k8 fo => ?_) (fun x b M4 σ4 k7 k8 g4 ⟨r1, p4, r3⟩ => ?_)
  · refine ⟨by rw [k7, obS_inr], (), _, ?_, fr1 σ4, rfl, rfl, rfl, rfl⟩
    rw [k8, ob_some, f3 σ4 fo.ne]
  subst r1
  rw [k7, k8, obS_inl, ob_some, slopes_eq, nm_eq, nm_eq]
  refine RsO.seq n94 ((z_mv8_243 (pq := true) (t1 := t + h) p4 (a := 161) (by decide) (by decide) (by decide) (by decide) (Ft.t165 σ4 (t + h)) h 162).mono (I' := spI) (A' := spA) (T' := spT) (nb' := 2) (by decide) (by decide) (by decide) (by decide)) (fun wx M5 σ5 y k9 k10 fo => ?_) (fun x b M5 σ5 k9 k10 g5 ⟨q1, q2'', q3, q4⟩ => ?_)
  · refine ⟨by rw [k9, obS_inr, obS_inr], (), tsI σ5 165 (t + h), ?_, (Ft.t165 _ _).mono (by decide), rfl, rfl, rfl, rfl⟩
    rw [k10, ob_some, f4 σ5 fo.ne]
  subst q1
  have p5 := q4 σ5 (Ft.rf _ _) (q2''.trans rfl)
  rw [k9, k10, obS_inl, ob_some]
  refine RsO.seq n94 (z_rat244 p5 (a := 162) (by decide) (by decide)) (fun wx M6 σ6 y k11 k12 fo => ?_) (fun x b M6 σ6 k11 k12 g6 ⟨r1, p6, r3⟩ => ?_)
  · refine ⟨by rw [k11, obS_inr], (), tsI σ6 165 (t + h), ?_, (Ft.t165 _ _).mono (by decide), rfl, rfl, rfl, rfl⟩
    rw [k12, ob_some, hgF, t_175F fo.ne, ob_some, tEndF fo.ne]
  subst r1
  rw [k11, k12, obS_inl, ob_some]
  have e93 : mI M6 93 1 = 2 := by rw [g6.1.i rfl, g5.1.i rfl, g4.1.i rfl, g3.1.i rfl, g2.1.i rfl, g1.1.i rfl]; exact h93
  exact z_tail p6 e93 h t
/-- the second method behind the first slopes -/
theorem z_m1 (p : SpS C B P mss fss V U S q A Wn K1 K2 N D ns [(159, 241), (158, 240)] M σ) (h93 : mI M 93 1 = 1) (h t : Int32) : RsO true fbU spI spA spT 2 V D M σ (fun x _ M' σ' => StQ C B P mss fss V U S q A Wn K1 K2 N D (t + h) x M' σ')
    (obS (K_X0_slopes (t + (h / 2)) (h / 2) 159 159 M) (fun w M => some (.inr w, M)) fun _ M66 => KJ_X0_step_295 h t M66)
    (nm (tsI σ 165 (t + (h / 2))) fun s185 => ob (F_move_241 (h / 2) s185) fun _ s186 => ob (F_rates_242 s186) fun _ s190 => ob (F_move_242 h s190) fun _ s194 => tEnd h t s194) := by
  have n94 : spT.contains 94 = false := rfl
  rw [slopes_eq, nm_eq, nm_eq]
  refine RsO.seq n94 ((z_mv8_241 (pq := true) (t1 := t + (h / 2)) p (a := 159) (by decide) (by decide) (by decide) (by decide) (Ft.t165 σ (t + (h / 2))) (h / 2) 159).mono (I' := spI) (A' := spA) (T' := spT) (nb' := 2) (by decide) (by decide) (by decide) (by decide)) (fun wx M' σ' y k1 k2 fo => ?_) (fun x b M' σ' k1 k2 g1 ⟨q1, q2, q3, q4⟩ => ?_)
  · refine ⟨by rw [k1, obS_inr, obS_inr], (), tsI σ' 165 (t + h), ?_, (Ft.t165 _ _).mono (by decide), rfl, rfl, rfl, rfl⟩
    rw [k2, ob_some, t_rat242F fo.ne, ob_some, t_mv242F fo.ne, ob_some, tEndF fo.ne]
  subst q1
  have p1 := (q4 σ' (Ft.rf _ _) (q2.trans rfl)).mono (l' := [(158, 240)]) (by decide)
  rw [k1, k2, obS_inl, ob_some]
  refine RsO.seq n94 (z_rat242 p1 (a := 159) (by decide) (by decide)) (fun wx M2 σ2 y k3 k4 fo => ?_) (fun x b M2 σ2 k3 k4 g2 ⟨r1, p2, r3⟩ => ?_)
  · refine ⟨by rw [k3, obS_inr], (), tsI σ2 165 (t + h), ?_, (Ft.t165 _ _).mono (by decide), rfl, rfl, rfl, rfl⟩
    rw [k4, ob_some, t_mv242F fo.ne, ob_some, tEndF fo.ne]
  subst r1
  have e93 : mI M2 93 1 = 1 := by rw [g2.1.i rfl, g1.1.i rfl]; exact h93
  rw [k3, k4, obS_inl, ob_some]
  exact z_end242 p2 (by rw [e93]; decide) (by decide) (by decide) (by decide) h t
theorem stop3 (h t : Int32) : ∀ (m n tf : Nat) (s : TS), n + m = 8 → m < tf → tI s 0 ≠ 0 → L_step_433 tf h t (nI n) s = some ((), s) := by
  intro m
  induction m with
  | zero =>
    intro n tf s e ht hs
    obtain ⟨tf, rfl⟩ : ∃ g, tf = g + 1 := ⟨tf - 1, by omega⟩
    have : n = 8 := by omega
    subst this
    rw [L_step_433, ifT (show (8 : Int32) ≤ nI 8 by decide)]
  | succ m ih =>
    intro n tf s e ht hs
    obtain ⟨tf, rfl⟩ : ∃ g, tf = g + 1 := ⟨tf - 1, by omega⟩
    have t : ¬ (8 : Int32) ≤ nI n := fun z => by rw [show (8 : Int32) = nI 8 from rfl, bI_le (by decide) (by omega)] at z; omega
    rw [L_step_433, ifF t, t_rat242F hs, ob_some, t_mv242F hs, ob_some, nm_eq, p1n]
    exact ih (n + 1) tf s (by omega) (by omega) hs
/-- the third method behind the first slopes -/
theorem z_m3 (p : SpS C B P mss fss V U S q A Wn K1 K2 N D ns [(159, 241), (158, 240)] M σ) (h93 : mI M 93 1 = 3) (h t : Int32) : RsO true fbU spI spA spT 2 V D M σ (fun x _ M' σ' => StQ C B P mss fss V U S q A Wn K1 K2 N D (t + h) x M' σ')
    (obS (KL_X0_step_267 FU h t 0 M) (fun r134 M131 => some (r134, M131)) fun _ M131 => KJ_X0_step_295 h t M131)
    (ob (F_move_241 h σ) fun _ s29 => nm (tsI s29 165 (t + h)) fun s33 => ob (L_step_433 FU h t 0 s33) fun _ s45 => tEnd h t s45) := by
  have n94 : spT.contains 94 = false := rfl
  have fu : 1000 < FU := by unfold FU; decide
  obtain ⟨G, hG, hG2⟩ : ∃ G, FU = G + 1 ∧ 100 < G := ⟨FU - 1, by omega, by omega⟩
  have t8 : ¬ (8 : Int32) ≤ 0 := by decide
  have stop : ∀ s, tI s 0 ≠ 0 → L_step_433 FU h t 0 s = some ((), s) := fun s hs => stop3 h t 8 0 FU s rfl (by omega) hs
  have e0 : ∀ M, KL_X0_step_267 FU h t 0 M = obS (K_X0_slopes (t + h) h 159 159 M) (fun w127 M123 => some (.inr (.inr w127), M123)) fun r124 M123 => KL_X0_step_267 G h t (nI 1) M123 := fun M => by
    rw [hG, KL_X0_step_267, ifF t8]; rfl
  have e1 : ∀ s, L_step_433 FU h t 0 s = ob (F_rates_242 s) fun r35 s34 => ob (F_move_242 h s34) fun r39 s38 => L_step_433 G h t (nI 1) s38 := fun s => by
    rw [hG, L_step_433, ifF t8]; rfl
  rw [e0, slopes_eq, nm_eq]
  refine RsO.seq n94 ((z_mv8_241 (pq := true) (t1 := t + h) p (a := 159) (by decide) (by decide) (by decide) (by decide) (Ft.rf [165] σ) h 159).mono (I' := spI) (A' := spA) (T' := spT) (nb' := 2) (by decide) (by decide) (by decide) (by decide)) (fun wx M' σ' y k1 k2 fo => ?_) (fun x b M' σ' k1 k2 g ⟨g1, g2, g3, g4⟩ => ?_)
  · refine ⟨by rw [k1, obS_inr, obS_inr, obS_inr], (), tsI (tsI σ' 165 (t + h)) 165 (t + h), ?_, ((Ft.t165 _ _).tr (Ft.t165 _ _)).mono (by decide), rfl, rfl, rfl, rfl⟩
    rw [k2, ob_some, nm_eq, stop (tsI σ' 165 (t + h)) fo.ne, ob_some, tEndF (s := tsI σ' 165 (t + h)) fo.ne]
  · subst g1
    have p' := (g4 (tsI σ' 165 (t + h)) (Ft.t165 _ _) rfl).mono (l' := [(158, 240)]) (by decide)
    have e85 : mI M' 85 1 = t + h := p'.2.1.1.2.1
    have e93 : mI M' 93 1 = 3 := by rw [g.1.i rfl]; exact h93
    rw [k1, k2, obS_inl, ob_some, nm_eq, e1]
    refine RsO.pre (M1 := M') (σ1 := tsI σ' 165 (t + h)) ⟨KF.rf, (Ft.t165 _ _).mono (by decide), PaK.rf⟩ n94 ?_
    refine RsO.seq n94 (z_rat242 p' (a := 159) (by decide) (by decide)) (fun wx M2 σ2 y k3 k4 fo => ?_) (fun x b M2 σ2 k3 k4 g5 ⟨g6, g7, g8⟩ => ?_)
    · refine ⟨by rw [k3, obS_inr, obS_inr], (), tsI σ2 165 (t + h), ?_, (Ft.t165 _ _).mono (by decide), rfl, rfl, rfl, rfl⟩
      rw [k4, ob_some, t_mv242F fo.ne, ob_some, stop3 h t 7 1 G σ2 rfl (by omega) fo.ne, ob_some, tEndF fo.ne]
    · subst g6
      have e93' : mI M2 93 1 = 3 := by rw [g5.1.i rfl]; exact e93
      rw [k3, k4, obS_inl, ob_some]
      simp only [ob_assoc]
      exact z_l3 h t 7 1 G G M2 σ2 rfl (by omega) (by omega) g7 (g8.trans e85) e93'
/-- a step -/
theorem z_mkStep (w : RnW C B P mss fss V U S q A Wn K1 K2 N D M σ) (d : VaX V U Wn D M σ) (hm : ∃ k, k ≤ 3 ∧ mI M 93 1 = nI k ∧ tI σ 223 = nI k) (h : Int32) : RsO true fbU stI spA spT 2 V D M σ (fun x _ M' σ' => StQ C B P mss fss V U S q A Wn K1 K2 N D (mI M 85 1 + h) x M' σ') (K_X0_step h M) (F_step h σ) := by
  have n94 : spT.contains 94 = false := rfl
  have fu : 1000 < FU := by unfold FU; decide
  obtain ⟨k, k3, m1, m2⟩ := hm
  obtain ⟨ns, st⟩ := w.sta
  obtain ⟨g1, w1, d1⟩ := fl86 w d 1 (Or.inr rfl)
  have k86 : KF D [86] [] [] [] M (msI M 86 1 1) := KF.rf.wI rfl TZ.one
  have st1 : SaR ns U (msI M 86 1 1) σ := st.up k86 (Ft.rf [] σ) rfl ⟨rfl, rfl⟩ rfl
  obtain ⟨t, ht⟩ : ∃ t, t = mI M 85 1 := ⟨_, rfl⟩
  have ht2 : tI σ 165 = t := by rw [ht]; exact d.2.1.1.symm
  obtain ⟨M1, a1, a2, a3⟩ := k_x0 (D := D) st1 h t
  obtain ⟨s1, b1, b2, b3⟩ := t_x0 st1 h t
  have kk : KF D [86] [] [158] [] M M1 := (k86.mono (by decide) (by decide) (by decide) (by decide)).tr (a2.mono (by decide) (by decide) (by decide) (by decide))
  have g2 : RsK stI spA spT V D M σ M1 s1 := ⟨kk.mono (by decide) (by decide) (by decide) (by decide), b2.mono (by decide), PaK.of kk rfl⟩
  have g2' : RsK spI spA spT V D (msI M 86 1 1) σ M1 s1 := ⟨a2.mono (by decide) (by decide) (by decide) (by decide), b2.mono (by decide), PaK.of a2 rfl⟩
  have hu : ∀ u, u < U → mA M1 124 u = tA s1 166 u := fun u hu => by rw [a2.ga rfl, (b2 166 rfl).2.2.1]; exact (d1.2.1 u hu).1
  obtain ⟨w2, d2⟩ := sp_ve w1 d1 g2' ((b2 0 rfl).1.trans d1.1.1) (by rw [a2.i rfl, (b2 165 rfl).1]; exact d1.1.2.1) hu ((b2 171 rfl).1.trans d1.2.2.2.2.1.1) (by rw [a2.i rfl, (b2 222 rfl).1]; exact d1.2.2.2.2.1.2)
  have st2 : SaR ns U M1 s1 := st1.up a2 b2 rfl ⟨rfl, rfl⟩ (by decide)
  have us1 : us s1 = us σ := funext fun i => by unfold us; rw [(b2 207 rfl).2.2.1]
  have p2 : SpS C B P mss fss V U S q A Wn K1 K2 N D ns [(158, 240)] M1 s1 := ⟨w2, d2, st2, fun x hx i hi => by
    rw [List.mem_singleton] at hx
    subst hx
    show mA M1 158 i = tA s1 240 i
    rw [a3 i hi, b3 i hi]
    exact (d1.2.1 _ (st1.2 i hi).1).1⟩
  have e85 : mI M1 85 1 = t := by rw [kk.i rfl, ht]
  have e93 : mI M1 93 1 = nI k := by rw [kk.i rfl]; exact m1
  have e223 : tI s1 223 = nI k := (b2 223 rfl).1.trans m2
  obtain ⟨M2, c1, c2, c3, p3⟩ := z_mv0 p2 (fun i hi => by rw [a3 i hi, a2.ga rfl, us1]) (by decide) 0 159
  rw [e85] at c1
  have e93' : mI M2 93 1 = nI k := by rw [c2.1.i rfl]; exact e93
  have sl : K_X0_slopes t 0 0 159 M1 = kRat 159 M2 := by
    rw [slopes_eq, nm_eq, c1, obS_inl]
  unfold K_X0_step F_step
  rw [nm_eq, nm_eq, nm_eq, ht2, ← ht, show KL_X0_step_12 FU h t 0 (msI M 86 1 1) = _ from a1, ob_some, show L_step_7 FU h t 0 σ = _ from b1, ob_some, sl]
  refine RsO.pre (g2.tr (c2.mono (by decide) (by decide) (by decide)) n94) n94 ?_
  refine RsO.mono (I := spI) (A := spA) (T := spT) (nb := 2) ?_ (by decide) (by decide) (by decide) (Nat.le_refl _)
  have rat := z_rat241 p3 (a := 159) (by decide) (by decide)
  have c0 : (0 : Int32) = nI 0 := rfl
  have ck : ∀ j, j ≤ 3 → j ≠ k → ¬ (nI k : Int32) = nI j := fun j hj hne z => hne (nIq z (by omega) (by omega)).symm
  have f1 : ∀ s, tI s 0 ≠ 0 → (ob (F_rates_242 s) fun _ s190 => ob (F_move_242 h s190) fun _ s194 => tEnd h t s194) = some ((), tsI s 165 (t + h)) := fun s hs => by
    rw [t_rat242F hs, ob_some, t_mv242F hs, ob_some, tEndF hs]
  rcases k with - | - | - | - | k
  · -- the first method
    rw [e93, ifT (show nI 0 = (0 : Int32) from rfl)]
    refine RsO.seq n94 rat (fun wx M3 σ3 y k1 k2 fo => ?_) (fun x b M3 σ3 k1 k2 g3 ⟨r1, p4, r3⟩ => ?_)
    · obtain ⟨n', r', -, -, -, -, f6, -⟩ := id fo
      have e : tI σ3 223 = 0 := (f6 223 rfl).1.trans e223
      refine ⟨by rw [k1, obS_inr], (), tsI σ3 165 (t + h), ?_, (Ft.t165 _ _).mono (by decide), rfl, rfl, rfl, rfl⟩
      rw [k2, ob_some, e, ifF (by decide), ifF (by decide), ifF (by decide), t_mv241F fo.ne, ob_some]
      exact tEndF fo.ne
    · subst r1
      have e : tI σ3 223 = 0 := (g3.2.1 223 rfl).1.trans e223
      rw [k1, k2, obS_inl, ob_some, e, ifF (by decide), ifF (by decide), ifF (by decide)]
      exact z_end241 p4 (by rw [g3.1.i rfl, e93']; decide) (by decide) (by decide) (by decide) h t
  · -- the second
    rw [e93, ifF (show ¬ nI 1 = (0 : Int32) by decide), ifT (show nI 1 = (1 : Int32) from rfl)]
    refine RsO.seq n94 rat (fun wx M3 σ3 y k1 k2 fo => ?_) (fun x b M3 σ3 k1 k2 g3 ⟨r1, p4, r3⟩ => ?_)
    · obtain ⟨n', r', -, -, -, -, f6, -⟩ := id fo
      have e : tI σ3 223 = 1 := (f6 223 rfl).1.trans e223
      refine ⟨by rw [k1, obS_inr], (), tsI (tsI σ3 165 (t + (h / 2))) 165 (t + h), ?_, ((Ft.t165 _ _).tr (Ft.t165 _ _)).mono (by decide), rfl, rfl, rfl, rfl⟩
      rw [k2, ob_some, e, ifT rfl, nm_eq, t_mv241F (s := tsI σ3 165 (t + (h / 2))) fo.ne, ob_some]
      exact f1 (tsI σ3 165 (t + (h / 2))) fo.ne
    · subst r1
      have e : tI σ3 223 = 1 := (g3.2.1 223 rfl).1.trans e223
      rw [k1, k2, obS_inl, ob_some, e, ifT rfl]
      exact z_m1 p4 (by rw [g3.1.i rfl, e93']; rfl) h t
  · -- the fourth
    rw [e93, ifF (show ¬ nI 2 = (0 : Int32) by decide), ifF (show ¬ nI 2 = (1 : Int32) by decide), ifT (show nI 2 = (2 : Int32) from rfl)]
    refine RsO.seq n94 rat (fun wx M3 σ3 y k1 k2 fo => ?_) (fun x b M3 σ3 k1 k2 g3 ⟨r1, p4, r3⟩ => ?_)
    · obtain ⟨n', r', -, -, -, -, f6, -⟩ := id fo
      obtain ⟨gF, hgF⟩ := fuEx
      have e : tI σ3 223 = 2 := (f6 223 rfl).1.trans e223
      have ne : tI (tsI σ3 165 (t + (h / 2))) 0 ≠ 0 := fo.ne
      have ne2 : tI (tsI (tsI σ3 165 (t + (h / 2))) 165 (t + h)) 0 ≠ 0 := fo.ne
      refine ⟨by rw [k1, obS_inr], (), tsI (tsI (tsI σ3 165 (t + (h / 2))) 165 (t + h)) 165 (t + h), ?_, (((Ft.t165 _ _).tr (Ft.t165 _ _)).tr (Ft.t165 _ _)).mono (by decide), rfl, rfl, rfl, rfl⟩
      rw [k2, ob_some, e, ifF (by decide), ifT rfl, nm_eq, t_mv241F ne, ob_some, t_rat242F ne, ob_some, t_mv242F ne, ob_some, t_rat243F ne, ob_some, nm_eq, t_mv243F ne2, ob_some, t_rat244F ne2, ob_some, hgF, t_175F ne2, ob_some]
      exact tEndF ne2
    · subst r1
      have e : tI σ3 223 = 2 := (g3.2.1 223 rfl).1.trans e223
      rw [k1, k2, obS_inl, ob_some, e, ifF (by decide), ifT rfl]
      exact z_rk p4 (by rw [g3.1.i rfl, e93']; rfl) h t
  · -- the third
    rw [e93, ifF (show ¬ nI 3 = (0 : Int32) by decide), ifF (show ¬ nI 3 = (1 : Int32) by decide), ifF (show ¬ nI 3 = (2 : Int32) by decide)]
    refine RsO.seq n94 rat (fun wx M3 σ3 y k1 k2 fo => ?_) (fun x b M3 σ3 k1 k2 g3 ⟨r1, p4, r3⟩ => ?_)
    · obtain ⟨n', r', -, -, -, -, f6, -⟩ := id fo
      have e : tI σ3 223 = 3 := (f6 223 rfl).1.trans e223
      have ne : tI (tsI σ3 165 (t + h)) 0 ≠ 0 := fo.ne
      refine ⟨by rw [k1, obS_inr], (), tsI (tsI σ3 165 (t + h)) 165 (t + h), ?_, ((Ft.t165 _ _).tr (Ft.t165 _ _)).mono (by decide), rfl, rfl, rfl, rfl⟩
      rw [k2, ob_some, e, ifF (by decide), ifF (by decide), ifT rfl, t_mv241F fo.ne, ob_some, nm_eq, show L_step_433 FU h t 0 (tsI σ3 165 (t + h)) = _ from stop3 h t 8 0 FU _ rfl (by omega) ne, ob_some]
      exact tEndF ne
    · subst r1
      have e : tI σ3 223 = 3 := (g3.2.1 223 rfl).1.trans e223
      rw [k1, k2, obS_inl, ob_some, e, ifF (by decide), ifF (by decide), ifT rfl]
      exact z_m3 p4 (by rw [g3.1.i rfl, e93']; rfl) h t
  · omega
end STEP
