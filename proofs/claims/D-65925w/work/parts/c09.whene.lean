/-! Layer B: running: whens at an event's end, both sides -/
set_option maxRecDepth 100000
section WHENS3
variable {α : Type} {pq : Bool} {C : PC} {B : Nat} {P : Nat → Prop} {mss fss : List Nat} {V U S q A Wn K1 K2 N e r w v u b n i j k a m kf tf h : Nat} {D : FQ} {M M' M1 : CM} {σ σ' s : TS} {x x1 x2 x3 y z y1 y2 y3 : Int32} {I A0 T : List Nat}
theorem t_466F (hW : Wn ≤ 12) (hs : tI s 0 ≠ 0) (h : tI s 148 = nI Wn) (k : Nat) (hk : k ≤ Wn) (ht : Wn < tf) : ∃ s', L_event_466 tf (nI k) s = some ((), s') ∧ Ft [235] s s' := by
  refine loopT (L := fun n i s => L_event_466 n i s) (X := Wn) (fun i s' => Ft [235] s s') (fun n s' f => ?_) (fun n i s' hi f => ?_) (Wn - k) k tf s (by omega) (by omega) (Ft.rf _ s)
  · have t : tI s' 148 ≤ nI Wn := by rw [(f 148 rfl).1, h, bI_le (by omega) (by omega)]; omega
    show L_event_466 (n + 1) (nI Wn) s' = _
    rw [L_event_466, ifT t]
  · have t : ¬ tI s' 148 ≤ nI i := by rw [(f 148 rfl).1, h, bI_le (by omega) (by omega)]; omega
    have i1 : inb (nI i) 12 := inb_nI' (by omega) (by decide)
    have b : tI s' 0 ≠ 0 := by rw [(f 0 rfl).1]; exact hs
    exact ⟨_, by show L_event_466 (n + 1) (nI i) s' = _; rw [L_event_466, ifF t, ifT i1, t_holdsF b, ob_some, ifT i1, nm_eq, nm_eq, p1n], f.p_tsA rfl⟩
theorem we_loop : ∀ (m k kf tf : Nat) (M : CM) (σ : TS), k + m = Wn → m < kf → Wn + m < tf → RnW C B P mss fss V U S q A Wn K1 K2 N D M σ → VaE 1 V U Wn D M σ →
    RsO pq fb2 [3804] [] [0, 1, 170, 171, 235] 1 V D M σ (fun a _ M' σ' => a = .inl () ∧ RnW C B P mss fss V U S q A Wn K1 K2 N D M' σ' ∧ VaE 1 V U Wn D M' σ') (KL_X0_event_187 kf (nI k) M) (L_event_466 tf (nI k) σ) := by
  intro m
  induction m with
  | zero =>
    intro k kf tf M σ e hk ht w d
    obtain ⟨kf, rfl⟩ : ∃ g, kf = g + 1 := ⟨kf - 1, by omega⟩
    obtain ⟨tf, rfl⟩ : ∃ g, tf = g + 1 := ⟨tf - 1, by omega⟩
    obtain ⟨-, -, -, -, ⟨⟨h39, h148⟩, W12, Wl⟩, -⟩ := w.st
    have t1 : mI M 39 1 ≤ nI k := by rw [h39, bI_le (by omega) (by omega)]; omega
    have t2 : tI σ 148 ≤ nI k := by rw [h148, bI_le (by omega) (by omega)]; omega
    have : k = Wn := by omega
    subst this
    exact Or.inr ⟨.inl (), (), M, σ, by rw [KL_X0_event_187, ifT t1], by rw [L_event_466, ifT t2], RsK.rf, rfl, w, d⟩
  | succ m ih =>
    intro k kf tf M σ e hk ht w d
    obtain ⟨kf, rfl⟩ : ∃ g, kf = g + 1 := ⟨kf - 1, by omega⟩
    obtain ⟨tf, rfl⟩ : ∃ g, tf = g + 1 := ⟨tf - 1, by omega⟩
    obtain ⟨-, -, -, -, ⟨⟨h39, h148⟩, W12, Wl⟩, -⟩ := w.st
    have t1 : ¬ mI M 39 1 ≤ nI k := by rw [h39, bI_le (by omega) (by omega)]; omega
    have t2 : ¬ tI σ 148 ≤ nI k := by rw [h148, bI_le (by omega) (by omega)]; omega
    have ik : inb (nI k) 12 := inb_nI' (by omega) (by decide)
    have xk : ix (nI k) = k := ix_nI (by omega)
    have n94 : ([0, 1, 170, 171, 235] : List Nat).contains 94 = false := rfl
    obtain ⟨ko, get, tz, -⟩ := w.wn (show k < Wn by omega)
    obtain ⟨n, n1, sx⟩ := w.wh (show k < Wn by omega)
    obtain ⟨E, h171⟩ := w.ev d
    have inj : ∀ j, j < Wn → j ≠ k → (pl D 113).getD j 0 ≠ (pl D 113).getD k 0 := fun j hj ne z => ne (w.1.2.1.inj (l := 113) (l' := 113) (by decide) (by decide) (by omega) (by omega) z).2
    rw [KL_X0_event_187, ifF t1, get, ob_some, ifT (Or.inr ko), get, ob_some, ifT (Or.inr ko), ifT ko, L_event_466, ifF t2, ifT ik, xk, n1]
    refine RsO.seq n94 ((z_is E h171 (by decide) sx).fo (pq := pq) (I := [3804]) (A := []) (T := [0, 1, 170, 171, 235]) (by decide) d.2.2.2.2.1.2 w.lt.1 w.lt.2) (fun wx M' σ' y k3 k4 fo => ?_) (fun a b M' σ' k3 k4 g ⟨g1, g2, g3, v, g4, g5⟩ => ?_)
    · have ne : tI (tsA σ' 235 k (nZ y)) 0 ≠ 0 := fo.ne
      obtain ⟨n', r', -, -, -, -, f6, -⟩ := id fo
      obtain ⟨s', e1, e2⟩ := t_466F (tf := tf) W12 ne (show tI (tsA σ' 235 k (nZ y)) 148 = nI Wn from (f6 148 rfl).1.trans h148) (k + 1) (by omega) (by omega)
      have f3 : Ft [235] σ' s' := ((Ft.rf [235] σ').p_tsA rfl).tr e2
      refine ⟨by rw [k3, obS_inr], (), s', ?_, f3.mono (by decide), (f3 0 rfl).1, (f3 1 rfl).1, (f3 171 rfl).1, (f3 222 rfl).1⟩
      rw [k4, ob_some, ifT ik, nm_eq, nm_eq, p1n]; exact e1
    · have g5 : v = b := g5
      subst g1; subst g4; subst g5
      have vb : v = 0 ∨ v = 1 := b_is (h := 99) w d sx k3
      have d1 := d.ev g2 g3
      have w1 := w.vk (RsK.vv g2) d1.1.1
      rw [k3, k4, obS_inl, ob_some, ifT ko, ifT ik, nm_eq, nm_eq, nm_eq, nm_eq, p1n, nZ_b vb]
      have kk : KF D [3804] [] [] [] M' (msI M' 3804 ((pl D 113).getD k 0) v) := KF.rf.wI rfl tz
      have f1 : Ft [235] σ' (tsA σ' 235 k v) := (Ft.rf _ σ').p_tsA rfl
      have g2' : RsK [3804] [] [0, 1, 170, 171, 235] V D M' σ' (msI M' 3804 ((pl D 113).getD k 0) v) (tsA σ' 235 k v) := ⟨kk, f1.mono (by decide), PaK.of kk rfl⟩
      have d2 : VaE 1 V U Wn D (msI M' 3804 ((pl D 113).getD k 0) v) (tsA σ' 235 k v) := by
        obtain ⟨c1, c2, c3, c4, c5, c6⟩ := d1
        refine ⟨⟨c1.1, by rw [kk.i rfl]; exact c1.2.1, by rw [kk.i rfl]; exact c1.2.2⟩, fun u hu => ?_, fun j hj z => ?_, fun j hj z => ?_, ⟨c5.1, by rw [kk.i rfl]; exact c5.2⟩, fun j hj => ?_⟩
        · rw [kk.ga rfl, kk.ga rfl, (f1 166 rfl).2.2.1, (f1 167 rfl).2.2.1]; exact c2 u hu
        · rw [(f1 94 rfl).2.2.1] at z
          rw [kk.i rfl, kk.i rfl, (f1 168 rfl).2.2.1, (f1 169 rfl).2.2.1]; exact c3 j hj z
        · rw [kk.ga rfl, (f1 163 rfl).2.2.1]; exact c4 j hj z
        · rw [mI_msI, tA_tsA]
          by_cases z : j = k
          · rw [z, ifT ⟨rfl, rfl⟩, ifT ⟨rfl, rfl⟩]; exact ⟨rfl, vb⟩
          · rw [ifF (fun y => inj j (by omega) z y.2), ifF (fun y => z y.2)]
            exact c6 j hj
      exact RsO.pre g2' n94 (ih (k + 1) kf tf _ _ (by omega) (by omega) (by omega) (w1.kf kk (by decide) (by decide) f1 (by decide) d2.1.1 g2'.2.2) d2)
end WHENS3
