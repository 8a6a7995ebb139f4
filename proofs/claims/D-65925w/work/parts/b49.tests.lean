/-! Layer B: sample whole, tests -/
set_option maxRecDepth 100000
theorem not3 {M : CM} {σ : TS} {b : Nat → Int32} {len m t i : Nat} {pos : Nat → Nat} (P : Px M σ b len m t pos i) (hi : i < t) (h91 : mA M 91 i = 1) (h92 : mA M 92 i = 25) : pos i + 3 ≤ pos (i + 1) := by
  obtain ⟨⟨-, -, h1280, -⟩, ⟨-, hT⟩, -⟩ := P
  obtain ⟨_, e, kd, ⟨s, wd, sg, nu, wh, hS, _, hk⟩, hlt, _⟩ := hT i (Nat.le_of_lt hi)
  obtain ⟨_, he, _⟩ := hlt hi
  obtain ⟨⟨f1, f2, f3⟩, hs, hS⟩ := hS
  have f1 : pos i ≤ s := f1
  rcases hk with ⟨_, q⟩ | ⟨q, _, w, q3, q4, q5⟩ | ⟨_, q, _⟩ | ⟨q, q2⟩ | ⟨_, q⟩
  · rw [h91] at q; exact absurd q (by decide)
  · have hw : w = 25 := ((bI_eq (a := 25) (b := w) (by decide) (by omega)).mp (by rw [← q3, h92]; rfl)).symm
    subst hw
    have hwd : wd = kco 25 := by rw [← q5]; unfold wc; rw [ifT (by decide)]
    rcases hS with ⟨_, z, _⟩ | ⟨hs1, hl, q', ⟨g1, g2, g3⟩, g4⟩ | ⟨_, _, z, _⟩ | ⟨_, _, _, z⟩
    · omega
    · rcases g4 with ⟨j, hj, ⟨k1, _⟩, _, k3, k4⟩ | ⟨k1, ⟨k2, _, k3, k4⟩ | ⟨_, k2⟩⟩
      · have hj25 : j = 25 := kco_inj j hj 25 (by decide) (by rw [← k4, hwd])
        subst hj25
        have : klen 25 = 3 := by decide
        omega
      · have hsq : s < q' := by
          rcases Nat.lt_or_ge s q' with g | g
          · exact g
          · have e : q' = s := by omega
            subst e
            exact absurd (show chOK (cB b len q') by rw [cB_lt hs1]; exact Or.inl hl) g3
        have hql : q' ≤ len := by have := ch_lt (g2 (q' - 1) (by omega) (by omega)); omega
        exact absurd (kco_kw (j := 25) (by decide) k2 (by omega) (fun i hi => by
          have this : chOK (cB b len (s + i)) := g2 (s + i) (by omega) (by omega)
          rw [cB_lt (by omega)] at this
          exact this) (by rw [← k4, hwd])) (k1 25 (by decide))
      · omega
    · omega
    · rcases z with ⟨_, z, _⟩ | ⟨_, _, z, _⟩ | ⟨_, z⟩ <;> omega
  · rw [h91] at q; exact absurd q (by decide)
  · exfalso
    rw [h91] at q2
    rcases hS with ⟨_, z, _⟩ | ⟨_, _, q', _, z⟩ | ⟨_, _, z, _⟩ | ⟨_, _, _, z⟩
    · omega
    · rcases z with ⟨_, _, _, z, _⟩ | ⟨_, ⟨_, z, _⟩ | ⟨_, z⟩⟩ <;> omega
    · omega
    · rcases z with ⟨z1, _, _, z2⟩ | ⟨_, z, _, _, z2⟩ | ⟨_, z⟩
      · rcases z1 with ⟨y1, y2 | y2⟩ | ⟨y1, y2⟩ | ⟨y1, y2⟩ <;> rw [y1, y2] at z2 <;> rw [z2] at q2 <;> exact absurd q2 (by decide)
      · rw [← z2, ← q2] at z
        rcases z with z | z | z | z | z | z | z | z | z | z | z | z | z | z | z <;> exact absurd z (by decide)
      · omega
  · rw [h91] at q; exact absurd q (by decide)
section TESTS
variable {C : PC} {M M' M0 Mb : CM} {σ σ' σ0 σb : TS} {i dep c s n so ib depb cb' sb' nb' i0 v : Nat} {α β γ δ : Type} {G : γ → CM → δ → TS → Prop}
theorem Ok.base (E : Es M σ M σ') (hi : i0 ≤ i) {o : Option ((Nat ⊕ Nat) × CM)} {p : Option (Int32 × TS)} (h : Ok C M σ' i dep c s n so o p) : Ok C M σ i0 dep c s n so o p := by
  rcases h with ⟨a, M1, x, σ1, i1, a1, a2, P1, hi1, E1, R⟩ | h
  · exact Or.inl ⟨a, M1, x, σ1, i1, a1, a2, P1, by omega, E.tr E1, R⟩
  · exact Or.inr (Ko.tr E h)
theorem Rj.cl {kK : Unit → CM → Option ((γ ⊕ Nat) × CM)} {kT : TS → Option (δ × TS)} (E : Es M0 σ0 M σ) (P : Pe C M σ i (dep + 1) c s n) (h1 : 1 ≤ c) (h2 : 8 ≤ s) (good : ∀ M' σ', Pe C M' σ' (i + 1) dep (c + 16) (s + 2048) (n + 4) → Es M0 σ0 M' σ' → Es M σ M' σ' → mn M' = mn M → Rj C M0 σ0 G (kK () M') (kT σ')) (bad : ∀ σ1 (_ : Unit) s, Br C σ1 s → BW C σ1 (kT s)) : Rj C M0 σ0 G (obS (K_X2_closes M) (fun w M' => some (.inr w, M')) kK) (ob (F_pass 41 σ) fun _ s => nm (tsI s 20 ((tI s 20) - 1)) kT) := by
  rcases z_closes P h1 h2 with ⟨M6, σ5, σ6, q1, q2, q3, P6, E6, hi6, hm6⟩ | ⟨w, M', σ', q1, q2, fb⟩
  · rw [q1, obS_inl, q2, ob_some, nm_eq, ← q3]
    exact good M6 σ6 P6 (E.tr E6) E6 hm6
  · rw [q1, obS_inr, q2, ob_some]
    exact Or.inr (FB.ko (fb.tr E) (BW.nm20 fb.bd fun s hs => bad _ () s hs))
/-- a parenthesis stands here: it opens -/
theorem z_opens2 (P : Pe C M σ i dep c s n) (h1 : 1 ≤ c) (h2 : 8 ≤ s) (h11 : tI σ 11 = 3) (h14 : tI σ 14 = 40) : (∃ M' s1 σ', K_X2_opens M = some (.inl (), M') ∧ F_deeper σ = some ((), s1) ∧ F_next s1 = some ((), σ') ∧ Pe C M' σ' (i + 1) (dep + 1) (c + 16) (s + 2048) (n + 4) ∧ Es M σ M' σ' ∧ dep < 16 ∧ mn M' = mn M) ∨ ∃ w M' σ', K_X2_opens M = some (.inr w, M') ∧ F_deeper σ = some ((), σ') ∧ FB C M σ M' w σ' := by
  have hs1 : F_isSign 40 σ = some (1, σ) := by unfold F_isSign; rw [ifT h11, ifT h14]
  rcases z_opens P h1 h2 with ⟨M2, σ2, o1, o2, o3, o4, P2, E2, hd, hi2, hm⟩ | ⟨w, M', σ', o1, o2, o3, fb⟩ | ⟨w, M', σ', o1, o2, o3, fb⟩
  · refine Or.inl ⟨M2, _, σ2, o1, o3, ?_, P2, E2, hd, hm⟩
    unfold F_pass at o4
    rw [t_isBad0 (show tI (tsI σ 20 (nI (dep + 1))) 0 = 0 from P.g0), ob_some, ifT (rfl : (0 : Int32) = 0)] at o4
    have hs2 : F_isSign 40 (tsI σ 20 (nI (dep + 1))) = some (1, tsI σ 20 (nI (dep + 1))) := by
      unfold F_isSign
      rw [ifT (show tI (tsI σ 20 (nI (dep + 1))) 11 = 3 from h11), ifT (show tI (tsI σ 20 (nI (dep + 1))) 14 = 40 from h14)]
    rw [hs2, ob_some, ifF (show ¬ (1 : Int32) = 0 from by decide)] at o4
    obtain ⟨r, s1, e1, e2⟩ := obE o4
    rw [e1, ← e2]
  · rw [hs1] at o2; injection o2 with o2; injection o2 with o2 _; exact absurd o2 (by decide)
  · exact Or.inr ⟨w, M', σ', o1, o3, fb⟩
/-- the Ast v, made since the base, gets kind and parts, a node is made; what was made behind v stays -/
theorem mk_nodeR (Pb : Pe C Mb σb ib depb cb' sb' nb') (E : Es Mb σb M σ) (P : Pe C M σ i dep c s (n + 1)) (hv : mn Mb ≤ v ∧ v < mn M) (hk : mk M v = 8) (k : Int32) (a b d : Nat) (kt ya yb yd : Int32) : ∃ σ', K_X8_init_2 v k a b d M = some ((), iM M v k a b d) ∧ F_node kt ya yb yd σ = some (nI (tN σ), σ') ∧ Pe C (iM M v k a b d) σ' i dep c s n ∧ Es Mb σb (iM M v k a b d) σ' ∧ (tN σ' = tN σ + 1 ∧ tQ σ' = tQ σ ∧ tN σ < 9000 ∧ Lo C (tN σ)) ∧ (tA σ' 24 (tN σ) = kt ∧ tA σ' 25 (tN σ) = ya ∧ tA σ' 26 (tN σ) = yb ∧ tA σ' 27 (tN σ) = yd) ∧ (∀ (Mv : CM) (so r y : Nat), v < mn Mv → Rs C Mv M σ so r y → Rs C Mv (iM M v k a b d) σ' so r y) ∧ (mk (iM M v k a b d) v = 8 ∧ mn (iM M v k a b d) = mn M) ∧ mI (iM M v k a b d) 1400 v = k ∧ mR (iM M v k a b d) 1402 v = a ∧ mR (iM M v k a b d) 1403 v = b ∧ mR (iM M v k a b d) 1404 v = d := by
  have h167 := Pb.n167
  obtain ⟨σ4, m1, m2, m3, m4, ⟨m5, m6, m7, m8⟩, mA, -⟩ := mk_node Pb E P hv hk k a b d kt ya yb yd
  obtain ⟨j1, j2, j3, j4, j5, j6, j7, j8⟩ := iM_ok M v k a b d
  refine ⟨σ4, m1, m2, m3, m4, ⟨m5, m6, m7, m8⟩, mA, fun Mv so r y hMv hR => ?_, ⟨by rw [j4]; exact hk, j2⟩, j5, j6, j7, j8⟩
  have fr := fS_F_node _ _ _ _ _ _ _ m2
  have hwc : ∀ w, wc (iM M v k a b d) w = wc M w := fun w => by
    have x1 : wc (iM M v k a b d) w = wc Mb w := Pb.wcs m4.1 (fun o z => by rw [z]; exact Pb.en.1) w
    have x2 : wc M w = wc Mb w := Pb.wcs E.1 (fun o z => by rw [z]; exact Pb.en.1) w
    rw [x1, x2]
  have zz : Tz σ σ4 := by
    refine ⟨⟨by omega, by omega⟩, fun k' hk' j hj => ?_, fun k' hk' j hj => (fr k' (by rcases hk' with rfl | rfl | rfl <;> rfl)).2.2.1 j, fun k' hk' j hj => (fr k' (by rcases hk' with rfl | rfl <;> rfl)).2.2.2 j⟩
    obtain ⟨N0, Q0, n1, n2, n3, n4, n5, n6, n7, n8⟩ := P.nodes
    obtain ⟨σ4', e1, e2, e3, e4, e5, e6, e7⟩ := t_node n1 (by omega) kt ya yb yd
    rw [m2] at e1
    injection e1 with e1; injection e1 with _ e1
    rw [e1]; exact e7 k' j (by omega)
  exact hR.pv P (by omega) j1 hMv hwc zz (fr.mono (by decide))
/-- the three Asts of sample -/
def smpM (M : CM) : CM := iM (msI (mnew (msI (mnew (mnew M 8 0 8) 8 0 8) 1400 (mn M + 1) 100) 8 0 8) 1400 (mn M + 2) 100) (mn M) 29 (mn M + 1) (mn M + 2) 0
theorem smpM_ok (M : CM) : Fz none_ M (smpM M) ∧ mn (smpM M) = mn M + 3 ∧ ms (smpM M) = ms M + 24 ∧ (mk (smpM M) (mn M) = 8 ∧ mk (smpM M) (mn M + 1) = 8 ∧ mk (smpM M) (mn M + 2) = 8) ∧ mI (smpM M) 1400 (mn M) = 29 ∧ mR (smpM M) 1402 (mn M) = mn M + 1 ∧ mR (smpM M) 1403 (mn M) = mn M + 2 := by
  have k : ∀ o, mk (smpM M) o = mk (mnew (mnew (mnew M 8 0 8) 8 0 8) 8 0 8) o := fun _ => rfl
  have n1 : mn (mnew M 8 0 8) = mn M + 1 := rfl
  have n2 : mn (mnew (mnew M 8 0 8) 8 0 8) = mn M + 2 := rfl
  have F : Fz none_ M (msI (mnew (msI (mnew (mnew M 8 0 8) 8 0 8) 1400 (mn M + 1) 100) 8 0 8) 1400 (mn M + 2) 100) := (((Fz.rf.mnew).mnew.msI (fun z => by omega)).mnew).msI (fun z => by omega)
  obtain ⟨j1, j2, j3, j4, j5, j6, j7, j8⟩ := iM_ok (msI (mnew (msI (mnew (mnew M 8 0 8) 8 0 8) 1400 (mn M + 1) 100) 8 0 8) 1400 (mn M + 2) 100) (mn M) 29 (mn M + 1) (mn M + 2) 0
  refine ⟨F.tr2 j1 (fun o ho z => by omega), rfl, rfl, ⟨?_, ?_, ?_⟩, j5, j6, j7⟩
  · rw [k, mk_mnew, ifF (by omega), mk_mnew, ifF (by omega), mk_mnew, ifT rfl]
  · rw [k, mk_mnew, ifF (by omega), mk_mnew, ifT (by omega)]
  · rw [k, mk_mnew, ifT (by omega)]
def kSmp (M63 : CM) : Option ((Nat ⊕ Nat) × CM) :=
  obS (K_X2_opens M63) (fun w68 M64 => some (.inr w68, M64)) fun _ M64 => if mn M64 ≤ 601024 ∧ ms M64 + 8 ≤ 7293034 then nm (mn M64) fun v70 => nm (mnew M64 8 0 8) fun M71 => if mn M71 ≤ 601024 ∧ ms M71 + 8 ≤ 7293034 then nm (mn M71) fun v73 => nm (mnew M71 8 0 8) fun M74 => if ¬ v73 = 0 then ob (K_X8_init v73 100 M74) fun _ M76 => if mn M76 ≤ 601024 ∧ ms M76 + 8 ≤ 7293034 then nm (mn M76) fun v81 => nm (mnew M76 8 0 8) fun M82 => if ¬ v81 = 0 then ob (K_X8_init v81 100 M82) fun _ M84 => if ¬ v70 = 0 then ob (K_X8_init_2 v70 29 v73 v81 0 M84) fun _ M89 => kSm2 v70 M89 else none else none else none else none else none else none
theorem smp_al (M : CM) (hc : mn M + 3 ≤ 601024 ∧ ms M + 24 ≤ 7293034) (h0 : 167 ≤ mn M) : (if mn M ≤ 601024 ∧ ms M + 8 ≤ 7293034 then nm (mn M) fun v70 => nm (mnew M 8 0 8) fun M71 => if mn M71 ≤ 601024 ∧ ms M71 + 8 ≤ 7293034 then nm (mn M71) fun v73 => nm (mnew M71 8 0 8) fun M74 => if ¬ v73 = 0 then ob (K_X8_init v73 100 M74) fun _ M76 => if mn M76 ≤ 601024 ∧ ms M76 + 8 ≤ 7293034 then nm (mn M76) fun v81 => nm (mnew M76 8 0 8) fun M82 => if ¬ v81 = 0 then ob (K_X8_init v81 100 M82) fun _ M84 => if ¬ v70 = 0 then ob (K_X8_init_2 v70 29 v73 v81 0 M84) fun _ M89 => kSm2 v70 M89 else none else none else none else none else none else none) = kSm2 (mn M) (smpM M) := by
  have n1 : mn (mnew M 8 0 8) = mn M + 1 := rfl
  have s1 : ms (mnew M 8 0 8) = ms M + 8 := rfl
  have n2 : mn (msI (mnew (mnew M 8 0 8) 8 0 8) 1400 (mn (mnew M 8 0 8)) 100) = mn M + 2 := rfl
  have s2 : ms (msI (mnew (mnew M 8 0 8) 8 0 8) 1400 (mn (mnew M 8 0 8)) 100) = ms M + 16 := rfl
  have k0 : mk (msI (mnew (msI (mnew (mnew M 8 0 8) 8 0 8) 1400 (mn (mnew M 8 0 8)) 100) 8 0 8) 1400 (mn (msI (mnew (mnew M 8 0 8) 8 0 8) 1400 (mn (mnew M 8 0 8)) 100)) 100) (mn M) = 8 := (smpM_ok M).2.2.2.1.1
  rw [ifT ⟨by omega, by omega⟩, nm_eq, nm_eq, ifT ⟨by omega, by omega⟩, nm_eq, nm_eq, ifT (by omega), k_ast (M := mnew M 8 0 8) ⟨by omega, by omega⟩ (by omega) 100, ob_some, ifT ⟨by omega, by omega⟩, nm_eq, nm_eq, ifT (by omega), k_ast (M := msI (mnew (mnew M 8 0 8) 8 0 8) 1400 (mn (mnew M 8 0 8)) 100) ⟨by omega, by omega⟩ (by omega) 100, ob_some, ifT (by omega), k_init2 (by omega) k0, ob_some]
  rfl
theorem sample_ok (P : Pe C M σ i dep c s n) (hc : 16 ≤ c) (hs : 2048 ≤ s) (hcr : car C = 0) (hi : i < ct C) : Rj C M σ (OkG C M σ i dep c s n 1) (kSmp (msI M 405 90 (nI (i + 1)))) (F_sample σ) := by
  obtain ⟨σ1, n1, P1, E1⟩ := z_step P hi
  unfold F_sample kSmp
  rw [n1, ob_some, t_isBad0 P1.g0, ob_some, ifT (rfl : (0 : Int32) = 0)]
  rcases z_opens P1 (by omega) (by omega) with ⟨M2, σ2, o1, o2, o3, o4, P2, E2, hd, hi2, hm⟩ | ⟨w, M', σ', o1, o2, o3, fb⟩ | ⟨w, M', σ', o1, o2, o3, fb⟩
  · rw [o1, obS_inl, o2, ob_some, ifF (show ¬ (1 : Int32) = 0 from by decide), o3, ob_some]
    unfold J_sample_24
    have cap := P2.2.2.2.1
    rw [o4, ob_some, smp_al M2 ⟨by omega, by omega⟩ P2.n167]
    obtain ⟨j1, j2, j3, j4, j5⟩ := smpM_ok M2
    have P3 := P2.al j1 (c' := c + 16) (s' := s + 2048) (by omega) (by omega)
    exact smp2 P hcr ((E1.tr E2).tr (Es.al j1 P2.n167)) (P3.wk (c' := c) (s' := s) (n' := n) (by omega) (by omega) (by omega)) hc hs ⟨by have : mn (msI M 405 90 (nI (i + 1))) = mn M := rfl; omega, by omega⟩ j4 j5 (by omega)
  · rw [o1, obS_inr, o2, ob_some, ifT (rfl : (0 : Int32) = 0)]
    unfold J_sample_24
    rw [o3, ob_some]
    exact Or.inr (FB.ko (fb.tr E1) (((by intro σ1 r s hb; repeat' (first | exact BW.sm hb | (refine BW.bo (bw_next hb) ?_; intro r s hb) | (refine BW.bo (bw_ref hb) ?_; intro r s hb) | (refine BW.bo (bw_passName hb) ?_; intro r s hb) | (refine BW.bo (bw_pass hb _) ?_; intro r s hb) | (refine BW.bo (bw_isSign hb _) ?_; intro r s hb) | (refine BW.bo (bw_passWhole hb _) ?_; intro r s hb) | (refine BW.bo (bw_sampleNumber hb _) ?_; intro r s hb) | (refine BW.bo (bw_expression hb _) ?_; intro r s hb) | (refine BW.bo (bw_condition hb _) ?_; intro r s hb) | (refine BW.bo (bw_sum hb _) ?_; intro r s hb) | (refine BW.bo (bw_test hb _) ?_; intro r s hb) | (refine BW.bo (bw_term hb _) ?_; intro r s hb) | (refine BW.bo (bw_ands hb _) ?_; intro r s hb) | (refine BW.bo (bw_passWord hb _) ?_; intro r s hb) | (refine BW.bo (bw_isWord hb _) ?_; intro r s hb) | (refine BW.bo (bw_factor hb _) ?_; intro r s hb) | (refine BW.bo (bw_node hb _ _ _ _) ?_; intro r s hb) | (refine BW.nm20 hb ?_; intro s hb) | refine BW.isBad hb ?_ | refine BW.ite ?_ ?_)) : ∀ σ1 (_ : Unit) s, Br C σ1 s → BW C σ1 (ob (F_sampleNumber 0 s) fun r14 s13 => ob (F_pass 44 s13) fun _ s17 => ob (F_sampleNumber 1 s17) fun r22 s21 => ob (F_pass 41 s21) fun _ s25 => nm (tsI s25 20 ((tI s25 20) - 1)) fun s29 => ob (F_node 24 r14 r22 0 s29) fun r31 s30 => some (r31, s30))) _ () _ fb.bd))
  · rw [o1, obS_inr, o2, ob_some, ifF (show ¬ (1 : Int32) = 0 from by decide), o3, ob_some]
    unfold J_sample_24
    exact Or.inr (FB.ko (fb.tr E1) (((by intro σ1 r s hb; repeat' (first | exact BW.sm hb | (refine BW.bo (bw_next hb) ?_; intro r s hb) | (refine BW.bo (bw_ref hb) ?_; intro r s hb) | (refine BW.bo (bw_passName hb) ?_; intro r s hb) | (refine BW.bo (bw_pass hb _) ?_; intro r s hb) | (refine BW.bo (bw_isSign hb _) ?_; intro r s hb) | (refine BW.bo (bw_passWhole hb _) ?_; intro r s hb) | (refine BW.bo (bw_sampleNumber hb _) ?_; intro r s hb) | (refine BW.bo (bw_expression hb _) ?_; intro r s hb) | (refine BW.bo (bw_condition hb _) ?_; intro r s hb) | (refine BW.bo (bw_sum hb _) ?_; intro r s hb) | (refine BW.bo (bw_test hb _) ?_; intro r s hb) | (refine BW.bo (bw_term hb _) ?_; intro r s hb) | (refine BW.bo (bw_ands hb _) ?_; intro r s hb) | (refine BW.bo (bw_passWord hb _) ?_; intro r s hb) | (refine BW.bo (bw_isWord hb _) ?_; intro r s hb) | (refine BW.bo (bw_factor hb _) ?_; intro r s hb) | (refine BW.bo (bw_node hb _ _ _ _) ?_; intro r s hb) | (refine BW.nm20 hb ?_; intro s hb) | refine BW.isBad hb ?_ | refine BW.ite ?_ ?_)) : ∀ σ1 (_ : Unit) s, Br C σ1 s → BW C σ1 (ob (F_pass 40 s) fun _ s9 => ob (F_sampleNumber 0 s9) fun r14 s13 => ob (F_pass 44 s13) fun _ s17 => ob (F_sampleNumber 1 s17) fun r22 s21 => ob (F_pass 41 s21) fun _ s25 => nm (tsI s25 20 ((tI s25 20) - 1)) fun s29 => ob (F_node 24 r14 r22 0 s29) fun r31 s30 => some (r31, s30))) _ () _ fb.bd))
/-- a relation -/
theorem test_tail {cfA cfB cfS : CM → Option ((Nat ⊕ Nat) × CM)} {tA' tB' cfT : TS → Option (Int32 × TS)} (hbS : ∀ σ1 s, Br C σ1 s → BW C σ1 (cfT s)) (hsum : ∀ (M : CM) (σ : TS) (i' c s n : Nat), i ≤ i' → 64 ≤ c → 4096 ≤ s → 16 ≤ n → Pe C M σ i' dep c s n → Ok C M σ i' dep c s n 0 (cfS M) (cfT σ)) (P : Pe C M σ i dep c s n) (hc : 64 ≤ c) (hs : 4096 ≤ s) (hn : 16 ≤ n) : Ok C M σ i dep c s n 1 (KJ_X2_test_156 cfA cfB cfS M) (J_test_98 tA' tB' cfT σ) := by
  unfold KJ_X2_test_156 J_test_98
  refine Ok.of (Rj.ok (Es.rf M σ) (hsum M σ i c s n (Nat.le_refl _) hc hs hn P) (fun a M1 x σ1 i1 P1 hi1 E1 _ R1 => ?_) ?_)
  · rw [t_isBad0 P1.g0, ob_some, ifT (rfl : (0 : Int32) = 0)]
    rcases y_rel P1.px with ⟨k, r1, r2, r3, r4, r5⟩ | ⟨r1, r2⟩
    · obtain ⟨σ2, n1, P2, E2⟩ := z_step P1 r5
      have cap := P2.cap (k := 8) (by omega)
      have F5 : Fz none_ (msI M1 405 90 (nI (i1 + 1))) (mnew (msI M1 405 90 (nI (i1 + 1))) 8 0 8) := Fz.rf.mnew
      have P3 := P2.al F5 (c' := c) (s' := s) (by rw [mn_mnew]; omega) (by rw [ms_mnew]; omega)
      have E3 := Es.al (σ := σ2) F5 P2.n167
      rw [r1, ob_some, ifT r3, nm_eq, r2, ob_some, ifF (show ¬ (1 : Int32) = 0 from by decide), nm_eq, nm_eq, nm_eq, n1, ob_some, P1.i5, nI_addL, ifT cap]
      refine Rj.ok ((E1.tr E2).tr E3) (hsum _ σ2 (i1 + 1) c s (n + 4) (by omega) hc hs (by omega) P3) (fun b M4 y σ4 i4 P4 hi4 E4 E34 R4 => ?_) ?_
      · have n34 := E34.1.1
        have e1 : mn (mnew (msI M1 405 90 (nI (i1 + 1))) 8 0 8) = mn M1 + 1 := rfl
        have e2 : mn (msI M1 405 90 (nI (i1 + 1))) = mn M1 := rfl
        have hk4 : mk M4 (mn M1) = 8 := by rw [E34.1.k (by omega)]; show mk (mnew (msI M1 405 90 (nI (i1 + 1))) 8 0 8) (mn M1) = 8; rw [mk_mnew, ifT (by omega)]
        obtain ⟨σ5, m1, m2, P5, E5, ⟨m5, m6, m7, m8⟩, ⟨m9, m10, m11, m12⟩, mR, ⟨j4, j2⟩, j5, j6, j7, j8⟩ := mk_nodeR P2 (E3.tr E34) (P4.wk (c' := c) (s' := s) (n' := n + 1) (by omega) (by omega) (by omega)) (v := mn M1) ⟨Nat.le_refl _, by omega⟩ hk4 k a b 0 20 (tI σ1 14) (nI x) (nI y)
        rw [ifT (show ¬ mn (msI M1 405 90 (nI (i1 + 1))) = 0 from by have := P1.n167; omega)]
        rw [show K_X8_init_2 (mn (msI M1 405 90 (nI (i1 + 1)))) k a b 0 M4 = some ((), iM M4 (mn M1) k a b 0) from m1, ob_some, m2, ob_some]
        have h167 := P.n167
        refine Or.inl ⟨mn M1, _, _, σ5, rfl, rfl, tN σ4, i4, rfl, P5, by omega, (E1.tr E2).tr E5, Rs.nr P5 ⟨⟨E1.1.1, by omega⟩, j4, m8, by omega⟩ (by rw [j5, m10]; exact r4) m9 j8 m11 ?_ m12 ?_⟩
        · rw [j6]; exact R1.mv P1 h167 (E2.tr E5)
        · rw [j7]; exact (mR _ _ _ _ (by omega) R4).dn P5 (by have := E1.1.1; omega)
      · intro σ6 r s6 hb; exact BW.bo (bw_node hb _ _ _ _) fun r s hs => BW.sm hs
    · obtain ⟨r, p, hr, s1, s2⟩ := y_stop P1.px (P1.cap (by omega))
      rw [r1, ob_some, ifF (show ¬ (0 : Int32) ≤ -1 from by decide), s1, ob_some, ifT (wM_k M1 r p), r2, ob_some, ifT (rfl : (0 : Int32) = 0), s2, ob_some]
      exact Or.inr (FB.ko0 ((P1.fb (by omega) (by omega) (by rcases hr with rfl | rfl <;> decide)).tr E1))
  · intro σ6 r s6 hb; exact BW.isBad hb (BW.sm hb)
theorem test_ok (dK dT : Nat) (hcr : car C = 0)
    (hcond : ∀ (M : CM) (σ : TS) (i' c s n : Nat), i < i' → 64 ≤ c → 4096 ≤ s → 16 ≤ n → Pe C M σ i' (dep + 1) c s n → Ok C M σ i' (dep + 1) c s n 1 ((KG_X2_both dK).2.1 M) ((G_ands (dT + 3)).2.2.1 σ))
    (htest : ∀ (M : CM) (σ : TS) (i' c s n : Nat), i < i' → cp C i + 3 ≤ cp C i' → 64 ≤ c → 4096 ≤ s → 16 ≤ n → Pe C M σ i' dep c s n → Ok C M σ i' dep c s n 1 ((KG_X2_both dK).2.2.2.2.2.2.2 M) ((G_ands (dT + 3)).2.2.2.2.2.2.2.2 σ))
    (hsum : ∀ (M : CM) (σ : TS) (i' c s n : Nat), i ≤ i' → 64 ≤ c → 4096 ≤ s → 16 ≤ n → Pe C M σ i' dep c s n → Ok C M σ i' dep c s n 0 ((KG_X2_both dK).2.2.2.2.2.1 M) ((G_ands (dT + 3)).2.2.2.2.2.2.1 σ))
    (P : Pe C M σ i dep c s n) (hc : 64 ≤ c) (hs : 4096 ≤ s) (hn : 16 ≤ n) : Ok C M σ i dep c s n 1 ((KG_X2_both (dK + 1)).2.2.2.2.2.2.2 M) ((G_ands (dT + 4)).2.2.2.2.2.2.2.2 σ) := by
  show Ok C M σ i dep c s n 1 (KB_X2_test (KG_X2_both dK).2.2.2.2.2.2.2 (KG_X2_both dK).2.1 (KG_X2_both dK).2.2.2.2.2.1 M) (B_test (G_ands (dT + 3)).2.2.2.2.2.2.2.2 (G_ands (dT + 3)).2.2.1 (G_ands (dT + 3)).2.2.2.2.2.2.1 σ)
  have hbS : ∀ σ1 s, Br C σ1 s → BW C σ1 ((G_ands (dT + 3)).2.2.2.2.2.2.1 s) := fun σ1 s hb => bw_sum hb _
  have h167 := P.n167
  obtain ⟨m1, m2, m3⟩ : car C = 0 ∧ mR M 408 90 = 0 ∧ tI σ 39 = 0 := by
    rcases P.en.2.2.2.2 with q | ⟨q, _⟩
    · exact q
    · omega
  unfold KB_X2_test B_test
  rw [t_isBad0 P.g0, ob_some, ifT (rfl : (0 : Int32) = 0)]
  rcases y_key P.px (j := 25) (x := 25) (c := 7237492) rfl (by decide) (by decide) with ⟨q1, q2, q3, q4, q5⟩ | ⟨q1, q2, q3⟩
  · -- not
    have h91 : mA M 91 i = 1 := by
      obtain ⟨g1, g2⟩ := P.px.in1
      unfold K_X2_isKey at q1
      rw [ifT g1, g2] at q1
      by_cases z : mA M 91 i = 1
      · exact z
      · rw [ifF z] at q1; injection q1 with q1; injection q1 with q1 _; exact absurd q1 (by decide)
    have hp3 := not3 P.px q3 h91 q5
    obtain ⟨σ1, n1, P1, E1⟩ := z_step P q3
    have hk : K_X2_takeKey 25 M = some (1, msI M 405 90 (nI (i + 1))) := by
      unfold K_X2_takeKey
      rw [q1, ob_some, ifF (show ¬ (1 : Int32) = 0 from by decide), nm_eq, P.i5, nI_addL]
    have cap := P1.cap (k := 8) (by omega)
    have F5 : Fz none_ (msI M 405 90 (nI (i + 1))) (mnew (msI M 405 90 (nI (i + 1))) 8 0 8) := Fz.rf.mnew
    have P3 := P1.al F5 (c' := c) (s' := s) (by rw [mn_mnew]; omega) (by rw [ms_mnew]; omega)
    have E3 := Es.al (σ := σ1) F5 P1.n167
    rw [hk, ob_some, ifF (show ¬ (1 : Int32) = 0 from by decide), q2, ob_some, ifF (show ¬ (1 : Int32) = 0 from by decide), n1, ob_some, ifT cap, nm_eq, nm_eq]
    refine Ok.of (Rj.ok (E1.tr E3) (htest _ σ1 (i + 1) c s (n + 4) (by omega) hp3 hc hs (by omega) P3) (fun b M4 y σ4 i4 P4 hi4 E4 E34 R4 => ?_) ?_)
    · have n34 := E34.1.1
      have e1 : mn (mnew (msI M 405 90 (nI (i + 1))) 8 0 8) = mn M + 1 := rfl
      have e2 : mn (msI M 405 90 (nI (i + 1))) = mn M := rfl
      have hk4 : mk M4 (mn M) = 8 := by rw [E34.1.k (by omega)]; show mk (mnew (msI M 405 90 (nI (i + 1))) 8 0 8) (mn M) = 8; rw [mk_mnew, ifT (by omega)]
      obtain ⟨σ5, m1, m2, P5, E5, ⟨m5, m6, m7, m8⟩, ⟨m9, m10, m11, m12⟩, mR, ⟨j4, j2⟩, j5, j6, j7, j8⟩ := mk_nodeR P1 (E3.tr E34) (P4.wk (c' := c) (s' := s) (n' := n + 1) (by omega) (by omega) (by omega)) (v := mn M) ⟨Nat.le_refl _, by omega⟩ hk4 25 b 0 0 23 (nI y) 0 0
      rw [ifT (show ¬ mn (msI M 405 90 (nI (i + 1))) = 0 from by omega)]
      rw [show K_X8_init_2 (mn (msI M 405 90 (nI (i + 1)))) 25 b 0 0 M4 = some ((), iM M4 (mn M) 25 b 0 0) from m1, ob_some, m2, ob_some]
      refine Or.inl ⟨mn M, _, _, σ5, rfl, rfl, tN σ4, i4, rfl, P5, by omega, E1.tr E5, Rs.n1 P5 ⟨⟨Nat.le_refl _, by omega⟩, j4, m8, by omega⟩ (Or.inr ⟨rfl, j5, m9⟩) j7 j8 m10 ?_⟩
      rw [j6]; exact (mR _ _ _ _ (by omega) R4).dn P5 (by omega)
    · intro σ6 r s6 hb; exact BW.bo (bw_node hb _ _ _ _) fun r s hs => BW.sm hs
  have hk : K_X2_takeKey 25 M = some (0, M) := by
    unfold K_X2_takeKey
    rw [q1, ob_some, ifT (rfl : (0 : Int32) = 0)]
  rw [hk, ob_some, ifT (rfl : (0 : Int32) = 0), q2, ob_some, ifT (rfl : (0 : Int32) = 0)]
  rcases y_key P.px (j := 29) (x := 29) (c := 126862285106277) rfl (by decide) (by decide) with ⟨q1, q2, q3, q4, q5⟩ | ⟨q1, q2, q3⟩
  · rw [q1, ob_some, ifF (show ¬ (1 : Int32) = 0 from by decide), q2, ob_some, ifF (show ¬ (1 : Int32) = 0 from by decide), ifT m2, nm_eq, P.i5, nI_addL]
    have hS := sample_ok P (by omega) (by omega) hcr q3
    have e2 : ∀ p : Option (Int32 × TS), (ob p fun r72 s71 => some (r72, s71)) = p := fun p => by
      rcases p with _ | ⟨r, s⟩ <;> rfl
    rw [e2]
    exact Ok.of hS
  rw [q1, ob_some, ifT (rfl : (0 : Int32) = 0), q2, ob_some, ifT (rfl : (0 : Int32) = 0)]
  rcases y_sign P.px (c := 40) (by decide) with ⟨s1, s2, s3, s4, s5⟩ | ⟨s1, s2, s3⟩
  · have h91 : mA M 91 i = 40 := by
      obtain ⟨g1, g2⟩ := P.px.in1
      unfold K_X2_isSign at s1
      rw [ifT g1, g2] at s1
      by_cases z : mA M 91 i = 40
      · exact z
      · rw [ifF z] at s1; injection s1 with s1; injection s1 with s1 _; exact absurd s1 (by decide)
    obtain ⟨bb, σ1, hbb, g1, g2, P1, E1⟩ := z_group P s4 s5 h91 s3
    rw [s1, ob_some, ifF (show ¬ (1 : Int32) = 0 from by decide), g1, ob_some, s2, ob_some, ifF (show ¬ (1 : Int32) = 0 from by decide), g2, ob_some]
    rcases hbb with rfl | rfl
    · rw [ifT (rfl : (0 : Int32) = 0), ifT (rfl : (0 : Int32) = 0)]
      exact Ok.base E1 (Nat.le_refl _) (test_tail hbS hsum P1 hc hs hn)
    · rw [ifF (show ¬ (1 : Int32) = 0 from by decide), ifF (show ¬ (1 : Int32) = 0 from by decide)]
      have h1 : tI σ1 11 = 3 ∧ tI σ1 14 = 40 := by
        rcases y_sgn P1.px (x := 40) (by decide) with ⟨_, _, _, z1, z2⟩ | ⟨z, _⟩
        · exact ⟨z1, z2⟩
        · exact absurd h91 z
      rcases z_opens2 P1 (by omega) (by omega) h1.1 h1.2 with ⟨M2, t1, σ2, o1, o2, o3, P2, E2, hd, hm⟩ | ⟨w, M2, σ2, o1, o2, fb⟩
      · rw [o1, obS_inl, o2, ob_some, o3, ob_some]
        refine Ok.of (Rj.ok (E1.tr E2) (hcond M2 σ2 (i + 1) _ _ _ (by omega) (by omega) (by omega) (by omega) P2) (fun a M3 x σ3 i3 P3 hi3 E3 E23 R3 => ?_) (by intro σ1 r s hb; repeat' (first | exact BW.sm hb | (refine BW.bo (bw_next hb) ?_; intro r s hb) | (refine BW.bo (bw_ref hb) ?_; intro r s hb) | (refine BW.bo (bw_passName hb) ?_; intro r s hb) | (refine BW.bo (bw_pass hb _) ?_; intro r s hb) | (refine BW.bo (bw_isSign hb _) ?_; intro r s hb) | (refine BW.bo (bw_passWhole hb _) ?_; intro r s hb) | (refine BW.bo (bw_sampleNumber hb _) ?_; intro r s hb) | (refine BW.bo (bw_expression hb _) ?_; intro r s hb) | (refine BW.bo (bw_condition hb _) ?_; intro r s hb) | (refine BW.bo (bw_sum hb _) ?_; intro r s hb) | (refine BW.bo (bw_test hb _) ?_; intro r s hb) | (refine BW.bo (bw_term hb _) ?_; intro r s hb) | (refine BW.bo (bw_ands hb _) ?_; intro r s hb) | (refine BW.bo (bw_passWord hb _) ?_; intro r s hb) | (refine BW.bo (bw_isWord hb _) ?_; intro r s hb) | (refine BW.bo (bw_factor hb _) ?_; intro r s hb) | (refine BW.bo (bw_node hb _ _ _ _) ?_; intro r s hb) | (refine BW.nm20 hb ?_; intro s hb) | refine BW.isBad hb ?_ | refine BW.ite ?_ ?_)))
        refine Rj.cl E3 P3 (by omega) (by omega) (fun M4 σ4 P4 E4 E34 hm4 => ?_) (fun σ1 _ s hb => BW.sm hb)
        exact Or.inl ⟨a, M4, _, σ4, rfl, rfl, x, _, rfl, P4.wk (by omega) (by omega) (by omega), by omega, E4, (R3.dn P3 (M0 := M) (by omega)).mv P3 h167 E34⟩
      · rw [o1, obS_inr, o2, ob_some]
        exact Or.inr (FB.ko (fb.tr E1) (BW.bo (bw_next fb.bd) fun r s hb => BW.bo (bw_condition hb _) fun r s hb => BW.bo (bw_pass hb _) fun r s hb => BW.nm20 hb fun s hb => BW.sm hb))
  · rw [s1, ob_some, ifT (rfl : (0 : Int32) = 0), s2, ob_some, ifT (rfl : (0 : Int32) = 0)]
    exact test_tail hbS hsum P hc hs hn
end TESTS
