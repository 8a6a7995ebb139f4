/-! Layer B: steady states: the matrix, both sides -/
set_option maxRecDepth 100000
abbrev skI : List Nat := [90]
abbrev skA : List Nat := [124, 149, 150, 165, 166]
abbrev skT : List Nat := [0, 1, 163, 165, 166, 167, 168, 169, 170, 171, 222, 225, 226, 228, 229, 230, 231, 232, 233, 234, 235, 245]
/-- rates, as they are at M -/
def rtK (M : CM) (i : Nat) : Int32 := mA M 124 (ix (mA M 121 (ix (mA M 140 i))))
/-- slopes so far -/
def MqS (i j ns : Nat) (M : CM) (σ : TS) : Prop := ∀ i' j', ((i' < i ∧ j' < ns) ∨ (i' = i ∧ j' < j)) → mA M 166 (25 * i' + j') = tA σ 245 (180 * i' + j') ∧ -2147483647 ≤ (mA M 166 (25 * i' + j')).toInt
def RhS (i ns : Nat) (Mb M : CM) : Prop := ∀ i', i' < i → mA M 166 (25 * i' + ns) = -(rtK Mb i')
section MATRIX
variable {pq : Bool} {C C' : PC} {B : Nat} {P : Nat → Prop} {mss fss : List Nat} {V U S q A Wn K1 K2 N e r w v b n i j k a m kf tf h wo nb t0 X ns : Nat} {D : FQ} {M M' M1 Mb M2 : CM} {σ σ' s σ1 s1 s2 : TS} {x x1 x2 x3 y z y1 y2 y3 : Int32} {I A0 T : List Nat}
theorem m180 (i j : Nat) : nI i * (180 : Int32) + nI j = nI (180 * i + j) := by rw [show (180 : Int32) = nI 180 from rfl, nI_mul, bI_add, Nat.mul_comm]
theorem in180 (hi : i < 24) (hj : j ≤ 24) : inb (nI (180 * i + j)) 32400 := inb_nI' (by omega) (by decide)
theorem x180 (hi : i < 24) (hj : j ≤ 24) : ix (nI (180 * i + j)) = 180 * i + j := ix_nI (by omega)
/-- the twin notes the rates -/
theorem t_st58 (st : SaR ns U M s) (h0 : tI s 0 = 0) (x1 x2 : Int32) : ∃ s', L_steady_58 FU x1 x2 0 s = some ((), s') ∧ Ft [225] s s' ∧ ∀ i, i < ns → tA s' 225 (181 * i + ns) = -(tA s 166 (ix (tA s 189 (us s i)))) := by
  have fu : 1000 < FU := by unfold FU; decide
  obtain ⟨⟨h74, h198, n24, U180⟩, hs⟩ := st
  obtain ⟨s', l1, l2, l3⟩ := loopT (L := fun n i s => L_steady_58 n x1 x2 i s) (X := ns) (fun i s' => Ft [225] s s' ∧ ∀ j, j < i → tA s' 225 (181 * j + ns) = -(tA s 166 (ix (tA s 189 (us s j))))) (fun n s' ⟨f, _⟩ => by
      have t : tI s' 198 ≤ nI ns := by rw [(f 198 rfl).1, h198, bI_le (by omega) (by omega)]; omega
      show L_steady_58 (n + 1) x1 x2 (nI ns) s' = _
      rw [L_steady_58, ifT t]) (fun n i s' hi ⟨f, hv⟩ => by
      have t : ¬ tI s' 198 ≤ nI i := by rw [(f 198 rfl).1, h198, bI_le (by omega) (by omega)]; omega
      have h0' : tI s' 0 = 0 := (f 0 rfl).1.trans h0
      have ii : inb (nI i) 200 := inb_nI' (by omega) (by decide)
      have xi : ix (nI i) = i := ix_nI (by omega)
      obtain ⟨c1, -, c2, w, w1, -, w3⟩ := hs i hi
      have iu : inb (nI (us s i)) 200 := inb_nI' (by omega) (by decide)
      have xu : ix (nI (us s i)) = us s i := ix_nI (by omega)
      have iw : inb (nI w) 200 := inb_nI' (by omega) (by decide)
      have xw : ix (nI w) = w := ix_nI (by omega)
      have i24 : i < 24 := by omega
      refine ⟨tsA s' 225 (181 * i + ns) (-(tA s 166 w)), ?_, f.p_tsA rfl, fun j hj => ?_⟩
      · show L_steady_58 (n + 1) x1 x2 (nI i) s' = _
        rw [L_steady_58, ifF t, t_isBad0 h0', ob_some, ifT (rfl : (0 : Int32) = 0), ifT ii, xi, (f 207 rfl).2.2.1, c2, ifT iu, xu, (f 189 rfl).2.2.1, w3, ifT iw, xw, (f 198 rfl).1, h198, m181, ifT (in181 i24 n24), x181 i24 n24, (f 166 rfl).2.2.1, nm_eq, nm_eq, p1n]
      · rw [tA_tsA]
        by_cases z : j = i
        · rw [ifT ⟨rfl, by rw [z]⟩, z, w3, xw]
        · rw [ifF (fun y => by omega)]; exact hv j (by omega)) ns 0 FU s (by omega) (by omega) ⟨Ft.rf _ _, fun j hj => by omega⟩
  exact ⟨s', l1, l2, l3⟩
theorem t_st113 (st : SaR ns U M s) (h0 : tI s 0 = 0) (x1 x2 : Int32) : ∃ s', L_steady_113 FU x1 x2 0 s = some ((), s') ∧ Ft [227] s s' ∧ ∀ i, i < ns → tA s' 227 i = tA s 225 (181 * i + ns) := by
  have fu : 1000 < FU := by unfold FU; decide
  obtain ⟨⟨h74, h198, n24, U180⟩, -⟩ := st
  obtain ⟨s', l1, l2, l3⟩ := loopT (L := fun n i s => L_steady_113 n x1 x2 i s) (X := ns) (fun i s' => Ft [227] s s' ∧ ∀ j, j < i → tA s' 227 j = tA s 225 (181 * j + ns)) (fun n s' ⟨f, _⟩ => by
      have t : tI s' 198 ≤ nI ns := by rw [(f 198 rfl).1, h198, bI_le (by omega) (by omega)]; omega
      show L_steady_113 (n + 1) x1 x2 (nI ns) s' = _
      rw [L_steady_113, ifT t]) (fun n i s' hi ⟨f, hv⟩ => by
      have t : ¬ tI s' 198 ≤ nI i := by rw [(f 198 rfl).1, h198, bI_le (by omega) (by omega)]; omega
      have h0' : tI s' 0 = 0 := (f 0 rfl).1.trans h0
      have ii : inb (nI i) 180 := inb_nI' (by omega) (by decide)
      have xi : ix (nI i) = i := ix_nI (by omega)
      have i24 : i < 24 := by omega
      refine ⟨tsA s' 227 i (tA s 225 (181 * i + ns)), ?_, f.p_tsA rfl, fun j hj => ?_⟩
      · show L_steady_113 (n + 1) x1 x2 (nI i) s' = _
        rw [L_steady_113, ifF t, t_isBad0 h0', ob_some, ifT (rfl : (0 : Int32) = 0), (f 198 rfl).1, h198, m181, ifT (in181 i24 n24), ifT ii, xi, x181 i24 n24, (f 225 rfl).2.2.1, nm_eq, nm_eq, p1n]
      · rw [tA_tsA]
        by_cases z : j = i
        · rw [ifT ⟨rfl, z⟩, z]
        · rw [ifF (fun y => z y.2)]; exact hv j (by omega)) ns 0 FU s (by omega) (by omega) ⟨Ft.rf _ _, fun j hj => by omega⟩
  exact ⟨s', l1, l2, l3⟩
/-- the twin's slopes come to its matrix -/
theorem t_sl76 (h198 : tI s 198 = nI ns) (n24 : ns ≤ 24) (hi : i < ns) : ∃ s', L_slopes_76 FU (nI i) 0 s = some ((), s') ∧ Ft [225] s s' ∧ (∀ j, j < ns → tA s' 225 (181 * i + j) = tA s 245 (180 * i + j)) ∧ ∀ k, (∀ j, j < ns → k ≠ 181 * i + j) → tA s' 225 k = tA s 225 k := by
  have fu : 1000 < FU := by unfold FU; decide
  obtain ⟨s', l1, l2, l3, l4⟩ := loopT (L := fun n j s => L_slopes_76 n (nI i) j s) (X := ns) (fun c s' => Ft [225] s s' ∧ (∀ j, j < c → tA s' 225 (181 * i + j) = tA s 245 (180 * i + j)) ∧ ∀ k, (∀ j, j < ns → k ≠ 181 * i + j) → tA s' 225 k = tA s 225 k) (fun n s' ⟨f, _⟩ => by
      have t : tI s' 198 ≤ nI ns := by rw [(f 198 rfl).1, h198, bI_le (by omega) (by omega)]; omega
      show L_slopes_76 (n + 1) (nI i) (nI ns) s' = _
      rw [L_slopes_76, ifT t]) (fun n c s' hc ⟨f, hv, hw⟩ => by
      have t : ¬ tI s' 198 ≤ nI c := by rw [(f 198 rfl).1, h198, bI_le (by omega) (by omega)]; omega
      have i24 : i < 24 := by omega
      have c24 : c ≤ 24 := by omega
      refine ⟨tsA s' 225 (181 * i + c) (tA s 245 (180 * i + c)), ?_, f.p_tsA rfl, fun j hj => ?_, fun k hk => ?_⟩
      · show L_slopes_76 (n + 1) (nI i) (nI c) s' = _
        rw [L_slopes_76, ifF t, m180, m181, ifT (in180 i24 c24), ifT (in181 i24 c24), x180 i24 c24, x181 i24 c24, (f 245 rfl).2.2.1, nm_eq, nm_eq, p1n]
      · rw [tA_tsA]
        by_cases z : j = c
        · rw [ifT ⟨rfl, by rw [z]⟩, z]
        · rw [ifF (fun y => by omega)]; exact hv j (by omega)
      · rw [tA_tsA, ifF (fun y => hk c hc y.2)]; exact hw k hk) ns 0 FU s (by omega) (by omega) ⟨Ft.rf _ _, fun j hj => by omega, fun _ _ => rfl⟩
  exact ⟨s', l1, l2, l3, l4⟩
theorem t_sl66 (h198 : tI s 198 = nI ns) (n24 : ns ≤ 24) : ∃ s', J_slopes_64 s = some ((), s') ∧ Ft [225] s s' ∧ ∀ i j, i < ns → j < ns → tA s' 225 (181 * i + j) = tA s 245 (180 * i + j) := by
  have fu : 1000 < FU := by unfold FU; decide
  obtain ⟨s', l1, l2, l3⟩ := loopT (L := fun n i s => L_slopes_66 n i s) (X := ns) (fun c s' => Ft [225] s s' ∧ ∀ i j, i < c → j < ns → tA s' 225 (181 * i + j) = tA s 245 (180 * i + j)) (fun n s' ⟨f, _⟩ => by
      have t : tI s' 198 ≤ nI ns := by rw [(f 198 rfl).1, h198, bI_le (by omega) (by omega)]; omega
      show L_slopes_66 (n + 1) (nI ns) s' = _
      rw [L_slopes_66, ifT t]) (fun n c s' hc ⟨f, hv⟩ => by
      have t : ¬ tI s' 198 ≤ nI c := by rw [(f 198 rfl).1, h198, bI_le (by omega) (by omega)]; omega
      obtain ⟨s2, a1, a2, a3, a4⟩ := t_sl76 (s := s') ((f 198 rfl).1.trans h198) n24 hc
      refine ⟨s2, ?_, f.tr a2, fun i j hi hj => ?_⟩
      · show L_slopes_66 (n + 1) (nI c) s' = _
        rw [L_slopes_66, ifF t, a1, ob_some, nm_eq, p1n]
      · by_cases z : i = c
        · rw [z, a3 j hj, (f 245 rfl).2.2.1]
        · rw [a4 _ (fun j' hj' y => by omega)]; exact hv i j (by omega) hj) ns 0 FU s (by omega) (by omega) ⟨Ft.rf _ _, fun i j hi => by omega⟩
  refine ⟨s', ?_, l2, l3⟩
  unfold J_slopes_64
  rw [show L_slopes_66 FU 0 s = _ from l1, ob_some]
theorem t_st161 (h198 : tI s 198 = nI ns) (n24 : ns ≤ 24) (x1 x2 : Int32) : ∃ s', L_steady_161 FU x1 x2 0 s = some ((), s') ∧ Ft [225] s s' ∧ (∀ i, i < ns → tA s' 225 (181 * i + ns) = tA s 227 i) ∧ ∀ i j, j < ns → tA s' 225 (181 * i + j) = tA s 225 (181 * i + j) := by
  have fu : 1000 < FU := by unfold FU; decide
  obtain ⟨s', l1, l2, l3, l4⟩ := loopT (L := fun n i s => L_steady_161 n x1 x2 i s) (X := ns) (fun c s' => Ft [225] s s' ∧ (∀ i, i < c → tA s' 225 (181 * i + ns) = tA s 227 i) ∧ ∀ i j, j < ns → tA s' 225 (181 * i + j) = tA s 225 (181 * i + j)) (fun n s' ⟨f, _⟩ => by
      have t : tI s' 198 ≤ nI ns := by rw [(f 198 rfl).1, h198, bI_le (by omega) (by omega)]; omega
      show L_steady_161 (n + 1) x1 x2 (nI ns) s' = _
      rw [L_steady_161, ifT t]) (fun n c s' hc ⟨f, hv, hw⟩ => by
      have t : ¬ tI s' 198 ≤ nI c := by rw [(f 198 rfl).1, h198, bI_le (by omega) (by omega)]; omega
      have c24 : c < 24 := by omega
      have ic : inb (nI c) 180 := inb_nI' (by omega) (by decide)
      refine ⟨tsA s' 225 (181 * c + ns) (tA s 227 c), ?_, f.p_tsA rfl, fun i hi => ?_, fun i j hj => ?_⟩
      · show L_steady_161 (n + 1) x1 x2 (nI c) s' = _
        rw [L_steady_161, ifF t, ifT ic, (f 198 rfl).1, h198, m181, ifT (in181 c24 n24), x181 c24 n24, ix_nI (n := c) (by omega), (f 227 rfl).2.2.1, nm_eq, nm_eq, p1n]
      · rw [tA_tsA]
        by_cases z : i = c
        · rw [ifT ⟨rfl, by rw [z]⟩, z]
        · rw [ifF (fun y => by omega)]; exact hv i (by omega)
      · rw [tA_tsA, ifF (fun y => by omega)]; exact hw i j hj) ns 0 FU s (by omega) (by omega) ⟨Ft.rf _ _, fun i hi => by omega, fun _ _ _ => rfl⟩
  exact ⟨s', l1, l2, l3, l4⟩
theorem t_19F (hs : tI s 0 ≠ 0) {f : Nat} : L_slopes_19 (f + 1) x y s = some ((), s) := by
  rw [L_slopes_19]
  by_cases z : tI s 198 ≤ y
  · rw [ifT z]
  · rw [ifF z, t_isBad1 hs, ob_some, ifF (show ¬ (1 : Int32) = 0 by decide)]
theorem t_2F (hs : tI s 0 ≠ 0) {f : Nat} : L_slopes_2 (f + 1) y s = some ((), s) := by
  rw [L_slopes_2]
  by_cases z : tI s 198 ≤ y
  · rw [ifT z]
  · rw [ifF z, t_isBad1 hs, ob_some, ifF (show ¬ (1 : Int32) = 0 by decide)]
/-- while slopes are taken -/
def SkS (C : PC) (B : Nat) (P : Nat → Prop) (mss fss : List Nat) (V U S q A Wn K1 K2 N : Nat) (D : FQ) (ns : Nat) (Mb M : CM) (σ : TS) : Prop := RnW C B P mss fss V U S q A Wn K1 K2 N D M σ ∧ VaE 1 V U Wn D M σ ∧ SaR ns U M σ ∧ ∀ u, u < 180 → mA M 124 u = mA Mb 124 u
/-- a row of slopes -/
theorem sk_row (hi : i < ns) (n24 : ns ≤ 24) (x1 : Int32) : ∀ (m j kf tf : Nat) (M : CM) (σ : TS), j + m = ns → m < kf → m + 1 < tf → SkS C B P mss fss V U S q A Wn K1 K2 N D ns Mb M σ → MqS i j ns M σ → RhS i ns Mb M →
    RsO true fbW skI skA skT 2 V D M σ (fun a _ M' σ' => a = .inl () ∧ SkS C B P mss fss V U S q A Wn K1 K2 N D ns Mb M' σ' ∧ MqS i ns ns M' σ' ∧ RhS i ns Mb M') (KL_X0_seek_32 kf x1 (nI i) (nI j) M) (L_slopes_19 tf (nI i) (nI j) σ) := by
  intro m
  induction m with
  | zero =>
    intro j kf tf M σ e hk ht p mq rh
    obtain ⟨kf, rfl⟩ : ∃ g, kf = g + 1 := ⟨kf - 1, by omega⟩
    obtain ⟨tf, rfl⟩ : ∃ g, tf = g + 1 := ⟨tf - 1, by omega⟩
    obtain ⟨⟨h74, h198, -, -⟩, -⟩ := p.2.2.1
    have ej : j = ns := by omega
    subst ej
    have t1 : mI M 74 1 ≤ nI j := by rw [h74, bI_le (by omega) (by omega)]; omega
    have t2 : tI σ 198 ≤ nI j := by rw [h198, bI_le (by omega) (by omega)]; omega
    exact Or.inr ⟨.inl (), (), M, σ, by rw [KL_X0_seek_32, ifT t1], by rw [L_slopes_19, ifT t2], RsK.rf, rfl, p, mq, rh⟩
  | succ m ih =>
    intro j kf tf M σ e hk ht p mq rh
    obtain ⟨kf, rfl⟩ : ∃ g, kf = g + 1 := ⟨kf - 1, by omega⟩
    obtain ⟨tf, rfl⟩ : ∃ g, tf = g + 2 := ⟨tf - 2, by omega⟩
    obtain ⟨w, d, st, e124⟩ := id p
    obtain ⟨⟨h74, h198, -, -⟩, -⟩ := id st
    have t1 : ¬ mI M 74 1 ≤ nI j := by rw [h74, bI_le (by omega) (by omega)]; omega
    have t2 : ¬ tI σ 198 ≤ nI j := by rw [h198, bI_le (by omega) (by omega)]; omega
    have i24 : i < 24 := by omega
    have j24 : j ≤ 24 := by omega
    have n94 : skT.contains 94 = false := rfl
    rw [KL_X0_seek_32, ifF t1, show tf + 2 = tf + 1 + 1 from rfl, L_slopes_19, ifF t2, t_isBad0 d.1.1, ob_some, ifT (rfl : (0 : Int32) = 0), m25, m180]
    rcases z_slope w d st hi (show j < ns by omega) with ⟨M', σ', wo, y, ⟨k1, k2⟩, fo, -⟩ | ⟨v, M', σ', ⟨k1, k2⟩, g, sm, ⟨w1, d1⟩, e1, ge⟩
    · have ne : tI (tsA σ' 245 (180 * i + j) y) 0 ≠ 0 := fo.ne
      rw [k1, obS_inr, k2, ob_some, ifT (in180 i24 j24), x180 i24 j24, nm_eq, nm_eq, t_19F ne]
      exact Or.inl ⟨_, _, _, (), rfl, rfl, (fo.mono (I' := skI) (A' := skA) (T' := skT) (nb' := 2) (by decide) (by decide) (by decide) (Nat.le_refl _)).tb ((Ft.rf _ σ').p_tsA rfl) ⟨rfl, rfl, rfl, rfl⟩⟩
    · rw [k1, obS_inl, ifT (in25 i24 j24), x25 i24 j24, k2, ob_some, ifT (in180 i24 j24), x180 i24 j24, nm_eq, nm_eq, nm_eq, nm_eq, p1n]
      obtain ⟨M2, hM2⟩ : ∃ Y, Y = mwA M' 166 (25 * i + j) v := ⟨_, rfl⟩
      obtain ⟨s2, hs2⟩ : ∃ Y, Y = tsA σ' 245 (180 * i + j) v := ⟨_, rfl⟩
      have k3 : KF D [] [] [166] [] M' M2 := by rw [hM2]; exact KF.rf.wA rfl (by decide)
      have f3 : Ft [245] σ' s2 := by rw [hs2]; exact (Ft.rf _ σ').p_tsA rfl
      have g3 : RsK skI skA skT V D M σ M2 s2 := (g.mono (by decide) (by decide) (by decide)).tr ⟨k3.mono (by decide) (by decide) (by decide) (by decide), f3.mono (by decide), PaK.of k3 rfl⟩ n94
      have d2 : VaE 1 V U Wn D M2 s2 := d1.up k3 f3 (by decide) (by decide) (by decide)
      have w2 := w1.kf k3 (by decide) (by decide) f3 (by decide) d2.1.1 (PaK.of k3 rfl)
      have st2 : SaR ns U M2 s2 := (st.up g.1 g.2.1 rfl ⟨rfl, rfl⟩ (by decide)).up k3 f3 rfl ⟨rfl, rfl⟩ (by decide)
      have k02 : KF D [90] [] [124, 149, 150, 165] [] M M' := g.1
      rw [← hM2, ← hs2]
      refine RsO.pre g3 n94 (ih (j + 1) kf (tf + 1) M2 s2 (by omega) (by omega) (by omega) ⟨w2, d2, st2, fun u hu => by rw [k3.ga rfl, e1 u hu, e124 u hu]⟩ (fun i' j' z => ?_) (fun i' hi' => ?_))
      · rw [hM2, hs2, mA_mwA, tA_tsA]
        by_cases y : i' = i ∧ j' = j
        · rw [ifT ⟨rfl, by rw [y.1, y.2]⟩, ifT ⟨rfl, by rw [y.1, y.2]⟩]; exact ⟨rfl, ge⟩
        · rw [ifF (fun q => by omega), ifF (fun q => by omega), k02.ga rfl, (g.2.1 245 rfl).2.2.1]
          exact mq i' j' (by omega)
      · rw [hM2, mA_mwA, ifF (fun q => by omega), k02.ga rfl]; exact rh i' hi'
/-- all rows of slopes -/
theorem sk_rows (n24 : ns ≤ 24) (x1 : Int32) (hb : ∀ i, i < ns → ∃ u w, u < 180 ∧ w < 180 ∧ mA Mb 140 i = nI u ∧ mA Mb 121 u = nI w) : ∀ (m i kf tf : Nat) (M : CM) (σ : TS), i + m = ns → m < kf → m + 1 < tf → SkS C B P mss fss V U S q A Wn K1 K2 N D ns Mb M σ → (∀ j, mA M 140 j = mA Mb 140 j ∧ mA M 121 j = mA Mb 121 j) → MqS i 0 ns M σ → RhS i ns Mb M →
    RsO true fbW skI skA skT 2 V D M σ (fun a _ M' σ' => a = .inl () ∧ SkS C B P mss fss V U S q A Wn K1 K2 N D ns Mb M' σ' ∧ MqS ns 0 ns M' σ' ∧ RhS ns ns Mb M') (KL_X0_seek_22 kf x1 (nI i) M) (L_slopes_2 tf (nI i) σ) := by
  have fu : 1000 < FU := by unfold FU; decide
  intro m
  induction m with
  | zero =>
    intro i kf tf M σ e hk ht p ar mq rh
    obtain ⟨kf, rfl⟩ : ∃ g, kf = g + 1 := ⟨kf - 1, by omega⟩
    obtain ⟨tf, rfl⟩ : ∃ g, tf = g + 1 := ⟨tf - 1, by omega⟩
    obtain ⟨⟨h74, h198, -, -⟩, -⟩ := p.2.2.1
    have ej : i = ns := by omega
    subst ej
    have t1 : mI M 74 1 ≤ nI i := by rw [h74, bI_le (by omega) (by omega)]; omega
    have t2 : tI σ 198 ≤ nI i := by rw [h198, bI_le (by omega) (by omega)]; omega
    exact Or.inr ⟨.inl (), (), M, σ, by rw [KL_X0_seek_22, ifT t1], by rw [L_slopes_2, ifT t2], RsK.rf, rfl, p, mq, rh⟩
  | succ m ih =>
    intro i kf tf M σ e hk ht p ar mq rh
    obtain ⟨kf, rfl⟩ : ∃ g, kf = g + 1 := ⟨kf - 1, by omega⟩
    obtain ⟨tf, rfl⟩ : ∃ g, tf = g + 2 := ⟨tf - 2, by omega⟩
    obtain ⟨⟨h74, h198, -, -⟩, -⟩ := p.2.2.1
    have t1 : ¬ mI M 74 1 ≤ nI i := by rw [h74, bI_le (by omega) (by omega)]; omega
    have t2 : ¬ tI σ 198 ≤ nI i := by rw [h198, bI_le (by omega) (by omega)]; omega
    have i24 : i < 24 := by omega
    have n94 : skT.contains 94 = false := rfl
    rw [KL_X0_seek_22, ifF t1, show tf + 2 = tf + 1 + 1 from rfl, L_slopes_2, ifF t2, t_isBad0 p.2.1.1.1, ob_some, ifT (rfl : (0 : Int32) = 0)]
    refine RsO.seq n94 ((sk_row (C := C) (B := B) (P := P) (mss := mss) (fss := fss) (U := U) (S := S) (q := q) (A := A) (Wn := Wn) (K1 := K1) (K2 := K2) (N := N) (i := i) (Mb := Mb) (show i < ns by omega) n24 x1 ns 0 FU FU M σ (by omega) (by omega) (by omega) p (fun i' j' z => mq i' j' (by omega)) rh).im (Q2 := fun a _ M' σ' => (a = .inl () ∧ SkS C B P mss fss V U S q A Wn K1 K2 N D ns Mb M' σ' ∧ MqS i ns ns M' σ' ∧ RhS i ns Mb M') ∧ (∀ j, mA M' 140 j = mA Mb 140 j ∧ mA M' 121 j = mA Mb 121 j) ∧ mI M' 74 1 = nI ns) (fun a b M' σ' g z => ⟨z, fun j => ⟨(g.1.ga rfl j).trans (ar j).1, (g.1.ga rfl j).trans (ar j).2⟩, (g.1.i rfl 1).trans h74⟩)) (fun wx M' σ' y k1 k2 fo => ?_) (fun a b M' σ' k1 k2 g ⟨⟨g1, p1, mq1, rh1⟩, ar1, h74'⟩ => ?_)
    · change KL_X0_seek_32 FU x1 (nI i) 0 M = _ at k1
      change L_slopes_19 FU (nI i) 0 σ = _ at k2
      refine ⟨by rw [k1, obS_inr], (), σ', ?_, Ft.rf _ _, rfl, rfl, rfl, rfl⟩
      rw [k2, ob_some, nm_eq, t_2F fo.ne]
    · subst g1
      change KL_X0_seek_32 FU x1 (nI i) 0 M = _ at k1
      change L_slopes_19 FU (nI i) 0 σ = _ at k2
      obtain ⟨u, w, u1, w1, u2, w2⟩ := hb i (by omega)
      have ii : inb (nI i) 180 := inb_nI' (by omega) (by decide)
      have iu : inb (nI u) 180 := inb_nI' (by omega) (by decide)
      have iw : inb (nI w) 180 := inb_nI' (by omega) (by decide)
      have xi : ix (nI i) = i := ix_nI (by omega)
      have xu : ix (nI u) = u := ix_nI (by omega)
      have xw : ix (nI w) = w := ix_nI (by omega)
      obtain ⟨v, hv⟩ : ∃ Y, Y = -(mA M' 124 w) := ⟨_, rfl⟩
      rw [k1, k2, obS_inl, ob_some, nm_eq, ifT ii, xi, (ar1 i).1, u2, ifT iu, xu, (ar1 u).2, w2, ifT iw, xw, h74', m25, ifT (in25 i24 n24), x25 i24 n24, nm_eq, nm_eq, p1n, ← hv]
      obtain ⟨M2, hM2⟩ : ∃ Y, Y = mwA M' 166 (25 * i + ns) v := ⟨_, rfl⟩
      have k3 : KF D [] [] [166] [] M' M2 := by rw [hM2]; exact KF.rf.wA rfl (by decide)
      have g3 : RsK skI skA skT V D M' σ' M2 σ' := ⟨k3.mono (by decide) (by decide) (by decide) (by decide), Ft.rf _ _, PaK.of k3 rfl⟩
      obtain ⟨w', d', st', e'⟩ := p1
      have d2 : VaE 1 V U Wn D M2 σ' := d'.up k3 (Ft.rf [] σ') (by decide) (by decide) (by decide)
      rw [← hM2]
      refine RsO.pre g3 n94 (ih (i + 1) kf (tf + 1) M2 σ' (by omega) (by omega) (by omega) ⟨w'.kf k3 (by decide) (by decide) (Ft.rf [] σ') (by decide) d2.1.1 (PaK.of k3 rfl), d2, st'.up k3 (Ft.rf [] σ') rfl ⟨rfl, rfl⟩ rfl, fun u hu => by rw [k3.ga rfl]; exact e' u hu⟩ (fun j => ⟨(k3.ga rfl j).trans (ar1 j).1, (k3.ga rfl j).trans (ar1 j).2⟩) (fun i' j' z => ?_) (fun i' hi' => ?_))
      · rw [hM2, mA_mwA, ifF (fun q => by omega)]
        exact mq1 i' j' (by omega)
      · rw [hM2, mA_mwA]
        by_cases y : i' = i
        · rw [ifT ⟨rfl, by rw [y]⟩, hv, y]
          unfold rtK
          rw [u2, xu, w2, xw, e' w (by omega)]
        · rw [ifF (fun q => by omega)]; exact rh1 i' (by omega)
end MATRIX
