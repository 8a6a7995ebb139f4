/-! Layer B: running: whens fire, both sides -/
set_option maxRecDepth 100000
abbrev fiI : List Nat := [97, 3213]
abbrev fiT : List Nat := [0, 1, 166, 168, 170, 171, 239]
section FIRE
variable {pq : Bool} {C : PC} {B : Nat} {P : Nat → Prop} {mss fss : List Nat} {V U S q A Wn K1 K2 N e r w v u b n i j k a m kf tf h : Nat} {D : FQ} {M M' M1 : CM} {σ σ' s : TS} {x x1 x2 x3 y z y1 y2 y3 : Int32} {I A0 T : List Nat}
theorem PdR.up (p : PdR k D M σ) (kk : KF D I [] A0 [] M M') (f : Ft T σ σ') (hI : I.contains 3805 = false) (hT : T.contains 236 = false) : PdR k D M' σ' := fun j hj => by
  rw [kk.i hI, (f 236 hT).2.2.1]; exact p j hj
theorem t_247F (hs : tI s 0 ≠ 0) {f : Nat} : L_event_247 (f + 1) x1 x2 x3 y s = some (x3, s) := by
  rw [L_event_247]
  by_cases z : tI s 148 ≤ y
  · rw [ifT z]
  · rw [ifF z, t_isBad1 hs, ob_some, ifF (show ¬ (1 : Int32) = 0 by decide)]
theorem or01 {r : Int32} (hr : r = 0 ∨ r = 1) : r ||| 1 = 1 := by rcases hr with rfl | rfl <;> decide
theorem fi_loop (hr : x = 0 ∨ x = 1) (x1 y2 : Int32) : ∀ (m k kf tf : Nat) (z : Int32) (M : CM) (σ : TS), k + m = Wn → m < kf → m + 1 < tf → (z = 0 ∨ z = 1) → RnW C B P mss fss V U S q A Wn K1 K2 N D M σ → VaE 1 V U Wn D M σ → PdR Wn D M σ → mI M 97 1 = tI σ 239 →
    RsO pq fbI fiI [124] fiT 1 V D M σ (fun a b M' σ' => (∃ a', (a = .inl a' ∧ b = x ||| a') ∧ (a' = 0 ∨ a' = 1)) ∧ RnW C B P mss fss V U S q A Wn K1 K2 N D M' σ' ∧ VaE 1 V U Wn D M' σ' ∧ PdR Wn D M' σ' ∧ mI M' 97 1 = tI σ' 239) (KL_X0_fire_52 kf x1 z (nI k) M) (L_event_247 tf x1 y2 (x ||| z) (nI k) σ) := by
  intro m
  induction m with
  | zero =>
    intro k kf tf z M σ e hk ht hz w d p c
    obtain ⟨kf, rfl⟩ : ∃ g, kf = g + 1 := ⟨kf - 1, by omega⟩
    obtain ⟨tf, rfl⟩ : ∃ g, tf = g + 1 := ⟨tf - 1, by omega⟩
    obtain ⟨-, -, -, -, ⟨⟨h39, h148⟩, W12, Wl⟩, -⟩ := w.st
    have t1 : mI M 39 1 ≤ nI k := by rw [h39, bI_le (by omega) (by omega)]; omega
    have t2 : tI σ 148 ≤ nI k := by rw [h148, bI_le (by omega) (by omega)]; omega
    exact Or.inr ⟨.inl z, _, M, σ, by rw [KL_X0_fire_52, ifT t1], by rw [L_event_247, ifT t2], RsK.rf, ⟨z, ⟨rfl, rfl⟩, hz⟩, w, d, p, c⟩
  | succ m ih =>
    intro k kf tf z M σ e hk ht hz w d p c
    obtain ⟨kf, rfl⟩ : ∃ g, kf = g + 1 := ⟨kf - 1, by omega⟩
    obtain ⟨tf, rfl⟩ : ∃ g, tf = g + 2 := ⟨tf - 2, by omega⟩
    obtain ⟨-, -, -, -, ⟨⟨h39, h148⟩, W12, Wl⟩, -⟩ := w.st
    have fu : 1000 < FU := by unfold FU; decide
    have t1 : ¬ mI M 39 1 ≤ nI k := by rw [h39, bI_le (by omega) (by omega)]; omega
    have t2 : ¬ tI σ 148 ≤ nI k := by rw [h148, bI_le (by omega) (by omega)]; omega
    have ik : inb (nI k) 12 := inb_nI' (by omega) (by decide)
    have xk : ix (nI k) = k := ix_nI (by omega)
    have n94 : fiT.contains 94 = false := rfl
    have h0 := d.1.1
    obtain ⟨ko, get, tz, -⟩ := w.wn (show k < Wn by omega)
    obtain ⟨f, m0, q1, q2, q3, q4, q5, A200⟩ := w.wx (show k < Wn by omega)
    obtain ⟨pk, -⟩ := p k (by omega)
    obtain ⟨pn, -⟩ := d.2.2.2.2.2 k (by omega)
    have skip := ih (k + 1) kf (tf + 1) z M σ (by omega) (by omega) (by omega) hz w d p c
    rw [KL_X0_fire_52, ifF t1, get, ob_some, ifT (Or.inr ko), ifT ko, pk, pn, L_event_247, ifF t2, t_isBad0 h0, ob_some, ifT (rfl : (0 : Int32) = 0), xk]
    by_cases hx : x1 = 0
    · rw [ifT hx, ifT hx, ifT ik]
      by_cases z1 : tA σ 236 k = 0
      · rw [ifT z1, ifT z1, nm_eq, nm_eq, p1n]; exact skip
      · rw [ifF z1, ifF z1, ifT ik, ifT ko]
        by_cases z2 : tA σ 235 k = 0
        · rw [ifT z2, ifT z2, nm_eq, nm_eq]
          have kk : KF D fiI [] [124] [] M (msI M 97 1 (mI M 97 1 + 1)) := KF.rf.wI rfl TZ.one
          have f1 : Ft fiT σ (tsI σ 239 (tI σ 239 + 1)) := (Ft.rf _ σ).p_tsI rfl
          have g1 : RsK fiI [124] fiT V D M σ (msI M 97 1 (mI M 97 1 + 1)) (tsI σ 239 (tI σ 239 + 1)) := ⟨kk, f1, fun v _ _ => by rw [mI_msI, ifF (fun z => by omega)]⟩
          have kk' : KF D [97] [] [] [] M (msI M 97 1 (mI M 97 1 + 1)) := KF.rf.wI rfl TZ.one
          have f1' : Ft [239] σ (tsI σ 239 (tI σ 239 + 1)) := (Ft.rf _ σ).p_tsI rfl
          have d1 := d.up kk' f1' (by decide) (by decide) (by decide)
          have w1 := w.vk (g1.mono (by decide) (by decide) (by decide)) d1.1.1
          have p1 := p.up kk' f1' rfl rfl
          have c1 : mI (msI M 97 1 (mI M 97 1 + 1)) 97 1 = tI (tsI σ 239 (tI σ 239 + 1)) 239 := by
            rw [mI_msI, ifT ⟨rfl, rfl⟩, tI_tsI, ifT rfl, c]
          have ko1 : mk (msI M 97 1 (mI M 97 1 + 1)) ((pl D 113).getD k 0) = 20 := ko
          have q1' : mI (msI M 97 1 (mI M 97 1 + 1)) 3802 ((pl D 113).getD k 0) = nI f := by rw [kk'.i rfl]; exact q1
          have q3' : mI (msI M 97 1 (mI M 97 1 + 1)) 3803 ((pl D 113).getD k 0) = nI (f + m0) := by rw [kk'.i rfl]; exact q3
          have q2' : tA (tsI σ 239 (tI σ 239 + 1)) 146 k = nI f := (f1' 146 rfl).2.2.1 k ▸ q2
          have q4' : tA (tsI σ 239 (tI σ 239 + 1)) 147 k = nI m0 := (f1' 147 rfl).2.2.1 k ▸ q4
          refine RsO.pre g1 n94 ?_
          obtain ⟨M5, hM5⟩ : ∃ X, X = msI M 97 1 (mI M 97 1 + 1) := ⟨_, rfl⟩
          obtain ⟨s5, hs5⟩ : ∃ X, X = tsI σ 239 (tI σ 239 + 1) := ⟨_, rfl⟩
          rw [← hM5] at d1 w1 p1 c1 ko1 q1' q3' ⊢
          rw [← hs5] at d1 w1 p1 c1 q2' q4' ⊢
          rw [ifT ko1, nm_eq, q1']
          unfold F_act
          rw [ifT ik, nm_eq, xk, q2']
          refine RsO.seq n94 (((ac_loop (pq := pq) (show k < Wn by omega) q5 x1 1 (nI k) m0 f FU FU M5 s5 (by omega) (by omega) (by omega) w1 d1 q3' (by rw [q2', q4', bI_add])).im (Q2 := fun a b M' σ' => (a = .inl () ∧ b = .inl ()) ∧ RnW C B P mss fss V U S q A Wn K1 K2 N D M' σ' ∧ VaE 1 V U Wn D M' σ' ∧ mI M' 97 1 = tI σ' 239) (fun a b M' σ' g ⟨z1, z2, z3⟩ => ⟨z1, z2, z3, by rw [g.1.i rfl, (g.2.1 239 rfl).1]; exact c1⟩)).mono (I' := fiI) (A' := [124]) (T' := fiT) (nb' := 1) (by decide) (by decide) (by decide) (Nat.le_refl _)) (fun wx M' σ' y k3 k4 fo => ?_) (fun a b M' σ' k3 k4 g ⟨⟨g1, g2⟩, w2, d2, c2⟩ => ?_)
          · refine ⟨by rw [k3, obS_inr], 1, σ', ?_, Ft.rf _ _, rfl, rfl, rfl, rfl⟩
            rw [k4]
            cases y with
            | inl y => rw [obS_inl, ob_some, nm_eq, t_247F fo.ne]
            | inr y => rw [obS_inr, ob_some, nm_eq, t_247F fo.ne]
          · subst g1; subst g2
            rw [k3, k4, obS_inl, obS_inl, ob_some, nm_eq, nm_eq, p1n]
            have := ih (k + 1) kf (tf + 1) 1 M' σ' (by omega) (by omega) (by omega) (Or.inr rfl) w2 d2 (p1.up g.1 g.2.1 rfl rfl) c2
            rw [or01 hr] at this
            exact this
        · rw [ifF z2, ifF z2, nm_eq, nm_eq, p1n]; exact skip
    · rw [ifF hx, ifF hx]
      have stay : ∀ (m k kf : Nat) , k + m = Wn → m < kf → KL_X0_fire_52 kf x1 z (nI k) M = some (.inl z, M) := by
        intro m
        induction m with
        | zero =>
          intro k kf e hk
          obtain ⟨kf, rfl⟩ : ∃ g, kf = g + 1 := ⟨kf - 1, by omega⟩
          have t1 : mI M 39 1 ≤ nI k := by rw [h39, bI_le (by omega) (by omega)]; omega
          rw [KL_X0_fire_52, ifT t1]
        | succ m ih =>
          intro k kf e hk
          obtain ⟨kf, rfl⟩ : ∃ g, kf = g + 1 := ⟨kf - 1, by omega⟩
          have t1 : ¬ mI M 39 1 ≤ nI k := by rw [h39, bI_le (by omega) (by omega)]; omega
          obtain ⟨ko, get, tz, -⟩ := w.wn (show k < Wn by omega)
          have go := ih (k + 1) kf (by omega) (by omega)
          rw [KL_X0_fire_52, ifF t1, get, ob_some, ifT (Or.inr ko), ifT ko]
          by_cases z1 : mI M 3805 ((pl D 113).getD k 0) = 0
          · rw [ifT z1, nm_eq, p1n]; exact go
          · rw [ifF z1, ifT ko]
            by_cases z2 : mI M 3804 ((pl D 113).getD k 0) = 0
            · rw [ifT z2, ifF hx, nm_eq, p1n]; exact go
            · rw [ifF z2, nm_eq, p1n]; exact go
      have go := stay m (k + 1) kf (by omega) (by omega)
      refine Or.inr ⟨.inl z, x ||| z, M, σ, ?_, rfl, RsK.rf, ⟨z, ⟨rfl, rfl⟩, hz⟩, w, d, p, c⟩
      by_cases z1 : tA σ 236 k = 0
      · rw [ifT z1, nm_eq, p1n]; exact go
      · rw [ifF z1, ifT ko]
        by_cases z2 : tA σ 235 k = 0
        · rw [ifT z2, nm_eq, p1n]; exact go
        · rw [ifF z2, nm_eq, p1n]; exact go
end FIRE
