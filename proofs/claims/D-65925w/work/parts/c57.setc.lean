/-! Layer B: the call set, both sides -/
set_option maxRecDepth 100000
section SETC
variable {C C' : PC} {B : Nat} {P : Nat → Prop} {mss fss : List Nat} {D : FQ} {V K N v k w v30 I Bm E A Wn q qs : Nat} {z7 : Nat → Nat} {M M' M0 M1 M2 : CM} {σ σ' σ0 s s1 : TS} {x x1 x2 x3 y r p t : Int32} {I0 A0 : List Nat}
/-- nothing is known of any variable -/
theorem k_flagsK (W : FW C B P mss fss D M σ) (hV : V ≤ (pl D 98).length ∧ V ≤ 96) (h15 : mI M 15 1 = nI V) : ∃ M', KL_X0_workParameters_7 FU 0 M = some ((), M') ∧ KF D [3215, 3216] [] [] [] M M' ∧ ∀ v, v < V → mI M' 3215 ((pl D 98).getD v 0) = 0 ∧ mI M' 3216 ((pl D 98).getD v 0) = 0 := by
  have fu := FUb
  have main : ∀ (m j kf : Nat) M1, j + m = V → m < kf → KF D [3215, 3216] [] [] [] M M1 → (∀ v, v < j → mI M1 3215 ((pl D 98).getD v 0) = 0 ∧ mI M1 3216 ((pl D 98).getD v 0) = 0) → ∃ M', KL_X0_workParameters_7 kf (nI j) M1 = some ((), M') ∧ KF D [3215, 3216] [] [] [] M M' ∧ ∀ v, v < V → mI M' 3215 ((pl D 98).getD v 0) = 0 ∧ mI M' 3216 ((pl D 98).getD v 0) = 0 := by
    intro m
    induction m with
    | zero =>
      intro j kf M1 hj hk k hh
      obtain ⟨kf, rfl⟩ : ∃ g, kf = g + 1 := ⟨kf - 1, by omega⟩
      exact ⟨M1, by rw [KL_X0_workParameters_7, k.i rfl, h15, ifT ((bI_le (by omega) (by omega)).mpr (by omega))], k, fun v hv => hh v (by omega)⟩
    | succ m ih =>
      intro j kf M1 hj hk k hh
      obtain ⟨kf, rfl⟩ : ∃ g, kf = g + 1 := ⟨kf - 1, by omega⟩
      have tz := TZ.vr W.2.1 (v := j) (by omega)
      have k17 : ∀ M', KF D [3215, 3216] [] [] [] M M' → mk M' ((pl D 98).getD j 0) = 17 := fun M' k => by rw [k.k]; exact (W.2.1.2.1 98 (by decide) j (by omega)).1
      have gt : ∀ M', KF D [3215, 3216] [] [] [] M M' → K_J2_get 98 (nI j) M' = some ((pl D 98).getD j 0, M') := fun M' k => k.get W.2.1 (by decide) (by omega) rfl rfl rfl
      have inj : ∀ u, u < V → (pl D 98).getD u 0 = (pl D 98).getD j 0 → u = j := fun u hu e => (W.2.1.inj (by decide) (by decide) (by omega) (by omega) e).2
      have k2 : KF D [3215, 3216] [] [] [] M (msI M1 3215 ((pl D 98).getD j 0) 0) := k.wI rfl tz
      have k3 : KF D [3215, 3216] [] [] [] M (msI (msI M1 3215 ((pl D 98).getD j 0) 0) 3216 ((pl D 98).getD j 0) 0) := k2.wI rfl tz
      obtain ⟨M', e1, e2⟩ := ih (j + 1) kf _ (by omega) (by omega) k3 (fun i hi => by
        rw [mI_msI, mI_msI, mI_msI, mI_msI]
        by_cases q : i = j
        · rw [q, ifF (by omega), ifT ⟨rfl, rfl⟩, ifT ⟨rfl, rfl⟩]; exact ⟨rfl, rfl⟩
        · have ne : (pl D 98).getD i 0 ≠ (pl D 98).getD j 0 := fun e => q (inj i (by omega) e)
          rw [ifF (fun z => ne z.2), ifF (fun z => ne z.2), ifF (fun z => ne z.2), ifF (fun z => ne z.2)]; exact hh i (by omega))
      refine ⟨M', ?_, e2⟩
      rw [KL_X0_workParameters_7, k.i rfl, h15, ifF (fun z => by have := (bI_le (by omega) (by omega)).mp z; omega), gt M1 k, ob_some, ifT (Or.inr (k17 M1 k)), ifT (k17 M1 k), nm_eq, gt _ k2, ob_some, ifT (Or.inr (k17 _ k2)), ifT (k17 _ k2), nm_eq, nm_eq, nI_addL]
      exact e1
  exact main V 0 FU M (by omega) (by omega) KF.rf (fun v hv => absurd hv (Nat.not_lt_zero _))
/-- behind a fault: all is put back, and the fault is told -/
theorem se_tail (b : SeB C B P mss fss D V K N M0 σ0) (f : SeF D M0 σ0 M' σ' w) (hv : v < V) (hcc : cN C + 2 ≤ 601024 ∧ cS C + 16 ≤ 7293034) (t : Int32) (v30 : Nat) : ∃ M2 σ2, KJ_X0_set_143 ((pl D 98).getD v 0) v30 w M' = some (-5, M2) ∧ J_set_191 (nI v) t σ' = some (-5, σ2) ∧ (FW (C.rm (cN C + 2) (cS C + 16)) B P mss fss D M2 σ2 ∧ Wz C (C.rm (cN C + 2) (cS C + 16)) P M0 M2 σ0 σ2 ∧ Fq D TZ M0 M2 ∧ SeD M0 M2 ∧ Ft [0, 1, 2, 3, 104, 105, 158, 160, 161, 170, 171] σ0 σ2 ∧ tI σ2 0 = 0 ∧ tI σ2 171 = nI 0) ∧ (∀ u, u < V → mI M2 3213 ((pl D 98).getD u 0) = mA M0 163 u ∧ mI M2 3212 ((pl D 98).getD u 0) = mA M0 164 u ∧ mR M2 3210 ((pl D 98).getD u 0) = if u = v then v30 else mR M0 3210 ((pl D 98).getD u 0)) ∧ (∀ u, u < V → tA σ2 104 u = tA σ0 248 u ∧ tA σ2 105 u = tA σ0 249 u ∧ tA σ2 160 u = 2 ∧ tA σ2 158 u = if u = v then t else tA σ0 158 u) ∧ (mI M2 4 1 = tI σ2 2 ∧ mI M2 5 1 = tI σ2 3) ∧ mI M2 91 1 = mI M0 91 1 := by
  obtain ⟨W, hV, hl, hx, h15, h107⟩ := b
  obtain ⟨M1, r, r0, k1, rfl, rfl, e0, e1, e171, ft⟩ := f
  have fu := FUb
  have n167 := W.n167
  obtain ⟨W1, z1⟩ := W.kf k1 rfl rfl rfl (Ft.rf [] σ0) rfl
  have n1 : mn M1 = mn M0 := k1.n
  obtain ⟨W2, z2, F2⟩ := W1.wm r 0 ⟨by omega, by omega⟩
  have f2 : Fq D TZ M1 (wM M1 r 0) := F2.mono (fun o ho z => absurd z (fun q => q))
  have so1 : ∀ o, o < mn M0 → So M1 (wM M1 r 0) o := fun o ho => (wM_f M1 r 0).so (by omega) (fun q => q)
  obtain ⟨q17, qb, -⟩ := W.2.1.2.1 98 (by decide) v (by omega)
  obtain ⟨ro, hro⟩ : ∃ ro, ro = (pl D 98).getD v 0 := ⟨_, rfl⟩
  have inj : ∀ u, u < V → (pl D 98).getD u 0 = (pl D 98).getD v 0 → u = v := fun u hu e => (W.2.1.inj (by decide) (by decide) (by omega) (by omega) e).2
  have vb : ∀ u, u < V → 167 ≤ (pl D 98).getD u 0 ∧ (pl D 98).getD u 0 < mn M0 := fun u hu => (W.2.1.2.1 98 (by decide) u (by omega)).2.1
  obtain ⟨M41, h41⟩ : ∃ q, q = msR (wM M1 r 0) 3210 ((pl D 98).getD v 0) v30 := ⟨_, rfl⟩
  have k41 : KF D [] [3210] [] [] (wM M1 r 0) M41 := by rw [h41]; exact KF.rf.wR rfl (TZ.vr W2.2.1 (by omega))
  obtain ⟨W3, z3⟩ := W2.kf k41 rfl rfl rfl ft (by decide)
  have h15' : mI M41 15 1 = nI V := by rw [k41.i rfl, (so1 1 (by omega)).i, k1.i rfl]; exact h15
  obtain ⟨M61, g1, k61, g2⟩ := k_154 W3 hV h15' (r3 := mn M1) V 0 FU M41 (by omega) (by omega) KF.rf (fun i hi => absurd hi (Nat.not_lt_zero _))
  obtain ⟨s66, h66⟩ : ∃ q, q = tsA σ' 158 v t := ⟨_, rfl⟩
  have f66 : Ft [158] σ' s66 := by rw [h66]; exact (Ft.rf _ σ').p_tsA rfl
  obtain ⟨s78, j1, j2, -, j4⟩ := t_208 hV.2 V 0 FU s66 (by omega) (by omega) ((f66 107 rfl).1.trans ((ft 107 rfl).1.trans h107))
  obtain ⟨W4, z4⟩ := W3.kf k61 rfl rfl rfl ((f66.mono (S' := [104, 105, 158, 160]) (by decide)).tr (j2.mono (by decide))) (by decide)
  have rm4 := W4.rm
  have n4 := W4.n167
  have wv : mI M61 1200 (mn M1) = r := by rw [k61.i rfl, k41.i rfl]; exact (wM_v M1 r 0).1
  have wk : mk M61 (mn M1) = 7 := by rw [k61.k, k41.k]; exact wM_k M1 r 0
  obtain ⟨W5, z5, F5⟩ := W4.wm r 0 ⟨show cN C + 1 + 1 ≤ 601024 by omega, show cS C + 8 + 8 ≤ 7293034 by omega⟩
  have f5 : Fq D TZ M61 (wM M61 r 0) := F5.mono (fun o ho z => absurd z (fun q => q))
  have k6 : KF D [4, 5] [] [] [] (wM M61 r 0) (flM M61 r 0) := flM_kf
  obtain ⟨W6, z6⟩ := W5.kf k6 rfl rfl rfl (flT_f (s := s78)) (by decide)
  have ii : ∀ q, 4 ≠ q → 5 ≠ q → ([4, 5] : List Nat).contains q = false := fun q a b => by
    cases e : ([4, 5] : List Nat).contains q with
    | false => rfl
    | true =>
      have : q ∈ ([4, 5] : List Nat) := by simpa using e
      simp only [List.mem_cons, List.not_mem_nil, or_false] at this
      omega
  have so5 : ∀ o, o < mn M0 → So M61 (wM M61 r 0) o := fun o ho => (wM_f M61 r 0).so (by rw [k61.n, k41.n]; have := (wM_f M1 r 0).1; omega) (fun q => q)
  have ftt : Ft [0, 1, 2, 3, 104, 105, 158, 160, 161, 170, 171] σ0 (flT s78) := (((ft.mono (by decide)).tr (f66.mono (by decide))).tr (j2.mono (by decide))).tr (flT_f.mono (by decide))
  have s0 : tI s78 0 = r := by rw [(j2 0 rfl).1, (f66 0 rfl).1]; exact e0
  have s1 : tI s78 1 = 0 := by rw [(j2 1 rfl).1, (f66 1 rfl).1]; exact e1
  refine ⟨flM M61 r 0, flT s78, ?_, ?_, ⟨W6, ?_, ?_, ?_, ftt, rfl, ?_⟩, fun u hu => ?_, fun u hu => ?_, ⟨?_, ?_⟩, ?_⟩
  · unfold KJ_X0_set_143
    have k17 : mk (wM M1 r 0) ((pl D 98).getD v 0) = 17 := (W2.2.1.2.1 98 (by decide) v (by omega)).1
    rw [ifT k17, nm_eq, ← h41, show (0 : Int32) = nI 0 from rfl, g1, ob_some, ifT wk, wv, show (nI 0 : Int32) = 0 from rfl, k_wrong ⟨by omega, by omega⟩ (by omega), ob_some, k_fails, ob_some]
  · unfold J_set_191
    rw [t_isBad1 (by rw [e0]; exact r0), ob_some, ifF (by decide), ifT (inb_nI' (by omega) (by decide)), ix_nI (by omega), nm_eq, ← h66, show (0 : Int32) = nI 0 from rfl, j1, ob_some, t_faulted, ob_some]
  · exact ((((z1.tr z2 (fun _ z => z)).tr (Wz.rm W1.c12) (fun _ z => z)).tr z3 (fun _ z => z)).tr z4 (fun _ z => z)).tr ((z5.tr (Wz.rm W4.c12) (fun _ z => z)).tr z6 (fun _ z => z)) (fun _ z => z)
  · exact ((((k1.1.tr f2 (Dx.rf D M0)).tr k41.1 (Dx.rf D M0)).tr k61.1 (Dx.rf D M0)).tr f5 (Dx.rf D M0)).tr k6.1 (Dx.rf D M0)
  · exact ((((SeD.rf.kf (k1.mono (by decide) rfl rfl rfl) (by decide) (A0 := []) (by decide)).wm1 r 0).kf k41 (by decide) (by decide)).kf (k61.mono (by decide) rfl rfl rfl) (I0 := [3212, 3213]) (A0 := []) (by decide) (by decide)).wm1 r 0 |>.kf (k6.mono (by decide) rfl rfl rfl) (I0 := [4, 5]) (A0 := []) (by decide) (by decide)
  · show tI s78 171 = _
    rw [(j2 171 rfl).1, (f66 171 rfl).1]; exact e171
  · obtain ⟨a1, a2⟩ := g2 u hu
    obtain ⟨b1, b2⟩ := vb u hu
    refine ⟨?_, ?_, ?_⟩
    · rw [k6.i rfl, (so5 _ b2).i, a1, k41.ga rfl, (so1 163 (by omega)).a, k1.ga rfl]
    · rw [k6.i rfl, (so5 _ b2).i, a2, k41.ga rfl, (so1 164 (by omega)).a, k1.ga rfl]
    · rw [k6.r rfl, (so5 _ b2).r, k61.r rfl, h41, mR_msR]
      by_cases e : u = v
      · rw [ifT ⟨rfl, by rw [e]⟩, ifT e]
      · rw [ifF (fun z => e (inj u hu z.2)), ifF e, (so1 _ b2).r, k1.r rfl]
  · obtain ⟨a1, a2, a3⟩ := j4 u (Nat.zero_le _) hu
    have fl := fun k hk => (flT_f (s := s78) k hk).2.2.1
    rw [fl 104 rfl, fl 105 rfl, fl 160 rfl, fl 158 rfl, a1, a2, a3, (f66 248 rfl).2.2.1, (f66 249 rfl).2.2.1, (ft 248 rfl).2.2.1, (ft 249 rfl).2.2.1, (j2 158 rfl).2.2.1, h66, tA_tsA]
    refine ⟨rfl, rfl, rfl, ?_⟩
    by_cases e : u = v
    · rw [ifT ⟨rfl, e⟩, ifT e]
    · rw [ifF (fun z => e z.2), ifF e, (ft 158 rfl).2.2.1]
  · rw [(flM_v (M := M61) (r := r) (p := 0)).1]; show r = tI s78 0; exact s0.symm
  · rw [(flM_v (M := M61) (r := r) (p := 0)).2.1]; show 0 = tI s78 1; exact s1.symm
  · rw [k6.i rfl, (so5 1 (by omega)).i, k61.i rfl, k41.i rfl, (so1 1 (by omega)).i, k1.i rfl]
end SETC
