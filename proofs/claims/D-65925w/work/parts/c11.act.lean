/-! Layer B: running: actions, both sides -/
set_option maxRecDepth 100000
abbrev acT : List Nat := [0, 1, 166, 168, 170, 171]
section ACTS
variable {pq : Bool} {C : PC} {B : Nat} {P : Nat → Prop} {mss fss : List Nat} {V U S q A Wn K1 K2 N e r w v u b n i j k a m kf tf h : Nat} {D : FQ} {M M' M1 : CM} {σ σ' s : TS} {x x1 x2 x3 y z y1 y2 y3 : Int32} {I A0 T : List Nat}
/-- an action, as it was flat -/
theorem RnW.ak (w : RnW C B P mss fss V U S q A Wn K1 K2 N D M σ) (hi : i < A) : (A ≤ 200 ∧ mk M ((pl D 112).getD i 0) = 21 ∧ K_J2_get 112 (nI i) M = some ((pl D 112).getD i 0, M)) ∧ ∃ v, v < V ∧ mI M 4001 ((pl D 112).getD i 0) = nI v ∧ tA σ 150 i = nI v ∧ ((mI M 4000 ((pl D 112).getD i 0) = 0 ∧ tA σ 149 i = 6 ∧ tA σ 94 v = 2) ∨ (mI M 4000 ((pl D 112).getD i 0) = 1 ∧ tA σ 149 i = 7 ∧ ∃ h u, h < V ∧ (mI M 3217 ((pl D 98).getD v 0) = nI h ∧ tA σ 177 v = nI h) ∧ (u < U ∧ mI M 3219 ((pl D 98).getD h 0) = nI u ∧ tA σ 179 h = nI u) ∧ mI M 3218 ((pl D 98).getD v 0) = tA σ 178 v)) := by
  obtain ⟨W, ⟨z7, I, Bm, K, Nf, E, qs, hd, sg, c, fp, sv⟩, kn⟩ := w
  obtain ⟨-, -, -, -, ⟨⟨-, A200, Al⟩, ac⟩, -⟩ := fp
  obtain ⟨-, -, ⟨al, am, uv, -⟩, -⟩ := sv
  obtain ⟨a1, -⟩ := W.2.1.2.1 112 (by decide) i (by omega)
  obtain ⟨⟨v, hv, c1, c2, c3, c4⟩, kd, -⟩ := ac i hi
  refine ⟨⟨A200, a1, ls_get (W.2.1.1 112 (by decide)).1 (by omega)⟩, v, hv, c1, c2, ?_⟩
  rcases kd with ⟨d1, d2⟩ | ⟨d1, d2⟩
  · exact Or.inl ⟨d1, d2, c3 d2⟩
  · have k0 := c4 d2
    obtain ⟨h1, h2, h3, -⟩ := al v hv
    have hV : hd v < V := by omega
    obtain ⟨⟨m1, m2⟩, m3, m4⟩ := am v hv
    have kh : tA σ 94 (hd v) = 0 := by
      by_cases z : hd v = v
      · rw [z]; exact k0
      · exact (h3 z).2
    rcases uv (hd v) hV with ⟨-, u, u1, u2, u3⟩ | ⟨n1, -⟩
    · exact Or.inr ⟨d1, d2, hd v, u, hV, ⟨m1, m2⟩, ⟨u1, u2, u3⟩, m3.trans m4.symm⟩
    · exact absurd ⟨kh, h2⟩ n1
/-- a when's actions -/
theorem RnW.wx (w : RnW C B P mss fss V U S q A Wn K1 K2 N D M σ) (hk : k < Wn) : ∃ f m, mI M 3802 ((pl D 113).getD k 0) = nI f ∧ tA σ 146 k = nI f ∧ mI M 3803 ((pl D 113).getD k 0) = nI (f + m) ∧ tA σ 147 k = nI m ∧ f + m ≤ A ∧ A ≤ 200 := by
  obtain ⟨W, ⟨z7, I, Bm, K, Nf, E, qs, hd, sg, c, fp, sv⟩, kn⟩ := w
  obtain ⟨-, -, -, -, ⟨⟨-, A200, Al⟩, -⟩, ⟨-, wh, -⟩, -⟩ := fp
  obtain ⟨-, f, m, h1, h2, h3, h4, h5⟩ := wh k hk
  exact ⟨f, m, h1, h2, h3, h4, h5, A200⟩
theorem val_eq : K_X0_val = isV 300 := rfl
/-- an action's value -/
theorem z_acv (w : RnW C B P mss fss V U S q A Wn K1 K2 N D M σ) (d : VaE 1 V U Wn D M σ) (hi : i < A) : ∃ n, tA σ 151 i = nI n ∧ ((mI M 4000 ((pl D 112).getD i 0) = 0 ∧ NvE M σ (K_X0_val (mR M 4003 ((pl D 112).getD i 0)) M) (F_worth (nI n) 1 σ)) ∨ (mI M 4000 ((pl D 112).getD i 0) = 1 ∧ ∃ v h, (v < V ∧ mI M 4001 ((pl D 112).getD i 0) = nI v) ∧ (h < V ∧ mI M 3217 ((pl D 98).getD v 0) = nI h) ∧ mI M 4004 ((pl D 112).getD i 0) = mI M 3219 ((pl D 98).getD h 0) ∧ NvO M σ (fun a b => a = if 0 ≤ mI M 3218 ((pl D 98).getD v 0) then b else -b) (K_X0_val (mR M 4003 ((pl D 112).getD i 0)) M) (F_worth (nI n) 1 σ))) := by
  obtain ⟨n, c, n1, sx, alt⟩ := w.ac hi
  obtain ⟨E, h171⟩ := w.ev d
  refine ⟨n, n1, ?_⟩
  rcases alt with ⟨a1, -, a3⟩ | ⟨a1, v, h, a2, a3, a4, a5⟩
  · rw [a3]; exact Or.inl ⟨a1, z_val E h171 (by decide) sx⟩
  · refine Or.inr ⟨a1, v, h, a2, a3, a4, ?_⟩
    rcases a5 with ⟨s0, e⟩ | ⟨s0, j, hj, e, o1, o2, -⟩
    · rw [e]
      rcases z_val E h171 (by decide) sx with x | ⟨v, w, s, x0, x⟩
      · exact Or.inl x
      · exact Or.inr ⟨v, w, s, by show v = (if 0 ≤ _ then w else -w); rw [ifT s0]; exact x0, x⟩
    · have kj := E.2.2.2.2.2.1.2 j hj
      rw [e, val_eq, (is_keq 299 _ M kj).2.2.1 (by rw [o1]; decide)]
      unfold eOne
      rw [o2, o1]
      have e := (rv_all E 100).1 299 1900 0 (fun _ => 0) M σ c n (by unfold kn; omega) (by omega) sx ⟨rfl, Ft.rf _ σ, h171, fun j hj => absurd hj (Nat.not_lt_zero _)⟩ (by omega)
      rcases e with ⟨M', σ', w, y, e1, e2, r, b1, b2, b3, b4, b5, b6, b7⟩ | ⟨v, M', σ', e1, e2, b1, b2, b3, -⟩
      · subst b2; subst b3
        exact Or.inl ⟨r, y, σ', b1, by rw [e1, obS_inr], e2, ⟨b4, b5, b6⟩, b7⟩
      · subst b1
        refine Or.inr ⟨-v, v, σ', by show -v = (if 0 ≤ _ then v else -v); rw [ifF s0], ?_, e2, b3, b2⟩
        rw [e1, obS_inl]
        unfold K_X0_one
        rw [ifT rfl, obS_inl]
theorem VaE.w168 (d : VaE x2 V U Wn D M σ) (hv : v < V) (hl : V ≤ (pl D 98).length) (W : PoW D M) (x : Int32) : VaE x2 V U Wn D (msI M 3213 ((pl D 98).getD v 0) x) (tsA σ 168 v x) := by
  obtain ⟨⟨d0, d1, d1'⟩, d2, d3, d4, d5, d6⟩ := d
  refine ⟨⟨d0, by rw [mI_msI, ifF (fun z => by omega)]; exact d1, by rw [mI_msI, ifF (fun z => by omega)]; exact d1'⟩, fun u hu => ?_, fun j hj z => ?_, fun j hj z => ?_, ⟨d5.1, by rw [mI_msI, ifF (fun z => by omega)]; exact d5.2⟩, fun w hw => ?_⟩
  · rw [tA_tsA, tA_tsA, ifF (fun z => by omega), ifF (fun z => by omega)]; exact d2 u hu
  · rw [tA_tsA, ifF (fun z => by omega)] at z
    obtain ⟨e1, e2⟩ := d3 j hj z
    rw [mI_msI, mI_msI, tA_tsA, tA_tsA, ifF (a := x) (show ¬ (3214 = 3213 ∧ _) from fun z => by omega), ifF (a := x) (show ¬ (169 = 168 ∧ _) from fun z => by omega)]
    refine ⟨?_, e2⟩
    by_cases y : j = v
    · rw [y, ifT ⟨rfl, rfl⟩, ifT ⟨rfl, rfl⟩]
    · have ne : (pl D 98).getD j 0 ≠ (pl D 98).getD v 0 := fun z => y (W.inj (l := 98) (l' := 98) (by decide) (by decide) (by omega) (by omega) z).2
      rw [ifF (fun z => ne z.2), ifF (fun z => y z.2)]; exact e1
  · rw [tA_tsA, ifF (fun z => by omega)]; exact d4 j hj z
  · rw [mI_msI, tA_tsA, ifF (fun z => by omega), ifF (fun z => by omega)]; exact d6 w hw
/-- a when's actions, in order -/
theorem ac_loop (hk : k < Wn) (he : e ≤ A) (x1 x2 x3 : Int32) : ∀ (m i kf tf : Nat) (M : CM) (σ : TS), i + m = e → m < kf → m < tf → RnW C B P mss fss V U S q A Wn K1 K2 N D M σ → VaE 1 V U Wn D M σ → mI M 3803 ((pl D 113).getD k 0) = nI e → tA σ 146 k + tA σ 147 k = nI e →
    RsO pq fbW [3213] [124] acT 1 V D M σ (fun a b M' σ' => (a = .inl () ∧ b = .inl ()) ∧ RnW C B P mss fss V U S q A Wn K1 K2 N D M' σ' ∧ VaE 1 V U Wn D M' σ') (KL_X0_fire_112 kf x1 x2 x3 ((pl D 113).getD k 0) (nI i) M) (L_act_7 tf (nI k) (nI i) σ) := by
  intro m
  induction m with
  | zero =>
    intro i kf tf M σ ee hkf htf w d h1 h2
    obtain ⟨kf, rfl⟩ : ∃ g, kf = g + 1 := ⟨kf - 1, by omega⟩
    obtain ⟨tf, rfl⟩ : ∃ g, tf = g + 1 := ⟨tf - 1, by omega⟩
    obtain ⟨-, -, -, -, ⟨-, W12, Wl⟩, -⟩ := w.st
    obtain ⟨f, m0, -, -, -, -, -, A200⟩ := w.wx hk
    obtain ⟨ko, -⟩ := w.wn hk
    have ik : inb (nI k) 12 := inb_nI' (by omega) (by decide)
    have t : nI e ≤ nI i := by rw [bI_le (by omega) (by omega)]; omega
    exact Or.inr ⟨.inl (), .inl (), M, σ, by rw [KL_X0_fire_112, ifT ko, h1, ifT t], by rw [L_act_7, ifT ik, ifT ik, ix_nI (by omega), h2, ifT t], RsK.rf, ⟨rfl, rfl⟩, w, d⟩
  | succ m ih =>
    intro i kf tf M σ ee hkf htf w d h1 h2
    obtain ⟨kf, rfl⟩ : ∃ g, kf = g + 1 := ⟨kf - 1, by omega⟩
    obtain ⟨tf, rfl⟩ : ∃ g, tf = g + 1 := ⟨tf - 1, by omega⟩
    obtain ⟨⟨V96, V98, U180, -, -, -⟩, -, -, -, ⟨-, W12, Wl⟩, -, -, -, ro, -⟩ := w.st
    obtain ⟨f, m0, -, -, -, -, -, A200⟩ := w.wx hk
    obtain ⟨ko, -⟩ := w.wn hk
    have ik : inb (nI k) 12 := inb_nI' (by omega) (by decide)
    have ii : inb (nI i) 200 := inb_nI' (by omega) (by decide)
    have xi : ix (nI i) = i := ix_nI (by omega)
    have t : ¬ nI e ≤ nI i := by rw [bI_le (by omega) (by omega)]; omega
    have n94 : acT.contains 94 = false := rfl
    have h0 := d.1.1
    obtain ⟨⟨-, ka, geta⟩, v, hv, v1, v2, kd⟩ := w.ak (show i < A by omega)
    obtain ⟨n, n1, va⟩ := z_acv w d (show i < A by omega)
    have iv : inb (nI v) 96 := inb_nI' (by omega) (by decide)
    have xv : ix (nI v) = v := ix_nI (by omega)
    rw [KL_X0_fire_112, ifT ko, h1, ifF t, geta, ob_some, ifT (Or.inr ka), L_act_7, ifT ik, ifT ik, ix_nI (n := k) (by omega), h2, ifF t, t_isBad0 h0, ob_some, ifT (rfl : (0 : Int32) = 0), ifT ii, xi, n1]
    unfold K_X0_act
    rw [ifT ka]
    rcases va with ⟨a1, va⟩ | ⟨a1, v', hh, ⟨hv', v1'⟩, ⟨hh', w1'⟩, a4, va⟩
    · rcases kd with ⟨-, k1, k2⟩ | ⟨z, -⟩
      · obtain ⟨kv, getv, -, -, tz, -⟩ := w.vr hv
        refine RsO.seq n94 (va.fo (pq := pq) (I := [3213]) (A := [124]) (T := acT) (by decide) d.2.2.2.2.1.2 w.lt.1 w.lt.2) (fun wx M' σ' y k3 k4 fo => ?_) (fun a b M' σ' k3 k4 g ⟨g1, g2, g3, r, g4, g5⟩ => ?_)
        · refine ⟨by rw [k3, obS_inr, obS_inr], .inr (), σ', ?_, Ft.rf _ _, rfl, rfl, rfl, rfl⟩
          rw [k4, ob_some, t_isBad1 fo.ne, ob_some, ifF (show ¬ (1 : Int32) = 0 by decide)]
        · have g5 : r = b := g5
          subst g1; subst g4; subst g5
          have d1 := d.ev g2 g3
          have w1 := w.vk (RsK.vv g2) d1.1.1
          have kk : KF D [3213] [] [124] [] M' (msI M' 3213 ((pl D 98).getD v 0) r) := KF.rf.wI rfl tz
          have f1 : Ft acT σ' (tsA σ' 168 v r) := (Ft.rf _ σ').p_tsA rfl
          have pk : PaK V D σ' M' (msI M' 3213 ((pl D 98).getD v 0) r) := fun j hj z => by
            by_cases y : j = v
            · rw [y, (g2 94 rfl).2.2.1, k2] at z; exact absurd z (by decide)
            · have ne : (pl D 98).getD j 0 ≠ (pl D 98).getD v 0 := fun z => y (w.1.2.1.inj (l := 98) (l' := 98) (by decide) (by decide) (by omega) (by omega) z).2
              rw [mI_msI, ifF (fun z => ne z.2)]
          have g2' : RsK [3213] [124] acT V D M' σ' (msI M' 3213 ((pl D 98).getD v 0) r) (tsA σ' 168 v r) := ⟨kk, f1, pk⟩
          have d2 := d1.w168 hv V98 w1.1.2.1 r
          rw [k3, k4, obS_inl, ob_some, t_isBad0 d1.1.1, ob_some, ifT (rfl : (0 : Int32) = 0), ifT ka, ifT a1, ifT ka, v1, getv, ob_some, ifT (Or.inr kv), ifT kv, nm_eq, obS_inl, nm_eq, p1n]
          rw [ifT ii, nm_eq, ifT ii, (g2 149 rfl).2.2.1, k1, ifT (rfl : (6 : Int32) = 6), (g2 150 rfl).2.2.1, v2, ifT iv, xv, nm_eq, nm_eq]
          exact RsO.pre g2' n94 (ih (i + 1) kf tf _ _ (by omega) (by omega) (by omega) (w1.vk (g2'.mono (by decide) (by decide) (by decide)) d2.1.1) d2 (by rw [mI_msI, ifF (fun z => by omega)]; exact h1) (by rw [tA_tsA, tA_tsA, ifF (fun z => by omega), ifF (fun z => by omega), (g2 146 rfl).2.2.1, (g2 147 rfl).2.2.1]; exact h2))
      · exact absurd (a1.symm.trans z) (by decide)
    · rcases kd with ⟨z, -⟩ | ⟨-, k1, hd, u, hd1, ⟨m1, m2⟩, ⟨u1, u2, u3⟩, sgn⟩
      · exact absurd (a1.symm.trans z) (by decide)
      · have ev' : v' = v := nIq (v1'.symm.trans v1) (by omega) (by omega)
        subst ev'
        have eh : hh = hd := nIq (w1'.symm.trans m1) (by omega) (by omega)
        subst eh
        have e4 : mI M 4004 ((pl D 112).getD i 0) = nI u := a4.trans u2
        have iu : inb (nI u) 180 := inb_nI' (by omega) (by decide)
        have iu2 : inb (nI u) 200 := inb_nI' (by omega) (by decide)
        have ih96 : inb (nI hh) 96 := inb_nI' (by omega) (by decide)
        obtain ⟨rk, -, ro1, ro2, -⟩ := ro u u1
        refine RsO.seq n94 (va.fo (pq := pq) (I := [3213]) (A := [124]) (T := acT) (by decide) d.2.2.2.2.1.2 w.lt.1 w.lt.2) (fun wx M' σ' y k3 k4 fo => ?_) (fun a b M' σ' k3 k4 g ⟨g1, g2, g3, r, g4, g5⟩ => ?_)
        · refine ⟨by rw [k3, obS_inr, obS_inr], .inr (), σ', ?_, Ft.rf _ _, rfl, rfl, rfl, rfl⟩
          rw [k4, ob_some, t_isBad1 fo.ne, ob_some, ifF (show ¬ (1 : Int32) = 0 by decide)]
        · have g5 : r = if 0 ≤ mI M 3218 ((pl D 98).getD v' 0) then b else -b := g5
          subst g1; subst g4
          have d1 := d.ev g2 g3
          have w1 := w.vk (RsK.vv g2) d1.1.1
          have a10 : ¬ mI M' 4000 ((pl D 112).getD i 0) = 0 := by rw [a1]; decide
          have k10 : ¬ tA σ' 149 i = 6 := by rw [(g2 149 rfl).2.2.1, k1]; decide
          have h2' : tA σ' 146 k + tA σ' 147 k = nI e := by rw [(g2 146 rfl).2.2.1, (g2 147 rfl).2.2.1]; exact h2
          rw [k3, k4, obS_inl, ob_some, t_isBad0 d1.1.1, ob_some, ifT (rfl : (0 : Int32) = 0), ifT ka, ifF a10, ifT ka, e4, ifT iu, ix_nI (n := u) (by omega), ro1]
          rw [ifT ii, nm_eq, nm_eq, ifT ii, ifF k10, (g2 150 rfl).2.2.1, v2, ifT iv, xv, (g2 177 rfl).2.2.1, m2, ifT ih96, ix_nI (n := hh) (by omega), (g2 179 rfl).2.2.1, u3, nm_eq, ifF (n_neg (v := u) (by omega)), ifT iu2, ix_nI (n := u) (by omega), (g2 192 rfl).2.2.1, ro2]
          by_cases z2 : nI rk = 2
          · rw [ifT z2, ifT z2, ifT ka, ifT iu, obS_inl, nm_eq, p1n, ifT iv, (g2 178 rfl).2.2.1, ← sgn]
            have go : RsO pq fbW [3213] [124] acT 1 V D M' σ' (fun a b M' σ' => (a = .inl () ∧ b = .inl ()) ∧ RnW C B P mss fss V U S q A Wn K1 K2 N D M' σ' ∧ VaE 1 V U Wn D M' σ') (KL_X0_fire_112 kf x1 x2 x3 ((pl D 113).getD k 0) (nI (i + 1)) (mwA M' 124 u r)) (L_act_7 tf (nI k) (nI (i + 1)) (tsA σ' 166 u r)) := by
              have kk : KF D [3213] [] [124] [] M' (mwA M' 124 u r) := KF.rf.wA rfl ⟨by decide, by decide⟩
              have g2' : RsK [3213] [124] acT V D M' σ' (mwA M' 124 u r) (tsA σ' 166 u r) := ⟨kk, (Ft.rf _ σ').p_tsA rfl, fun _ _ _ => rfl⟩
              have d2 := d1.w2 u r
              exact RsO.pre g2' n94 (ih (i + 1) kf tf _ _ (by omega) (by omega) (by omega) (w1.vk (g2'.mono (by decide) (by decide) (by decide)) d2.1.1) d2 h1 (by rw [tA_tsA, tA_tsA, ifF (fun z => by omega), ifF (fun z => by omega)]; exact h2'))
            by_cases z3 : 0 ≤ mI M' 3218 ((pl D 98).getD v' 0)
            · rw [ifT z3] at g5
              rw [ifT z3, ifT iu2, nm_eq, nm_eq, ← g5]; exact go
            · rw [ifF z3] at g5
              rw [ifF z3, ifT iu2, nm_eq, nm_eq, ← g5]; exact go
          · rw [ifF z2, ifF z2, obS_inl, nm_eq, p1n, nm_eq]
            exact ih (i + 1) kf tf _ _ (by omega) (by omega) (by omega) w1 d1 h1 h2'
end ACTS
