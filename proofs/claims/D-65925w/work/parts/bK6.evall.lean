/-! Layer B: values of nodes: both sides alike, all nodes -/
set_option maxRecDepth 100000
section EVALL
variable {Inv : IvT} {Bad : BdT} {R : Nat → Nat → Nat → Nat → Prop} {KV KC : Nat → KVT} {k0 t0 L h kf tf d s a n x z q : Nat} {x2 op tok : Int32} {M0 M : CM} {σ0 σ : TS} {t : Nat → Int32} {Lf : Nat → Nat → Nat → Prop}
/-- the part that is not a chain -/
theorem ev_un (hS : Sk Inv Bad M0 σ0 R) (hE : KEq KV KC) (ht0 : 1 ≤ t0) (ev : EvN Inv Bad R KV k0 t0 L x2 h) (r0 : R (h + 1) 0 a n) (hop : (mI M0 3400 a, tA σ0 121 n) ∈ unF) (hx : tA σ0 122 n = nI x) (rx : R h 0 (mR M0 3405 a) x) (hk : k0 + (h + 1) ≤ kf) (ht : t0 + 2 * (h + 1) ≤ tf) (I : Inv s t M σ) (hs : s + (h + 1) ≤ L) : VO Inv Bad s t (KV kf a M) (gW tf (nI n) x2 σ) := by
  obtain ⟨kf, rfl⟩ : ∃ g, kf = g + 1 := ⟨kf - 1, by omega⟩
  obtain ⟨tf, rfl⟩ : ∃ g, tf = g + 1 := ⟨tf - 1, by omega⟩
  obtain ⟨hS1, push, pop, bad, bpop, mkb⟩ := hS
  obtain ⟨⟨i1, i2, i3⟩, ⟨i4, i5⟩, i6⟩ := hS1 s t M σ I
  obtain ⟨⟨n1, n2⟩, ⟨n3, n4, n5, n6, n7⟩, n8, n9, n10, n11⟩ := i6 _ _ _ _ r0
  have ops : mI M0 3400 a ∈ ([7, 8, 9, 12, 13] : List Int32) ∧ (tA σ0 121 n = 7 ∨ tA σ0 121 n = 10 ∨ tA σ0 121 n = 11 ∨ tA σ0 121 n = 12 ∨ tA σ0 121 n = 13) := by
    have hop := hop
    simp only [List.mem_cons, List.not_mem_nil, or_false, Prod.mk.injEq] at hop
    rcases hop with ⟨q1, q2⟩ | ⟨q1, q2⟩ | ⟨q1, q2⟩ | ⟨q1, q2⟩ | ⟨q1, q2⟩ <;> rw [q1, q2] <;> decide
  rw [(hE kf a M n1).2.2.1 (by rw [n3]; exact ops.1), t_wUn i1 n2 n8 ops.2, n9, hx]
  unfold eOne
  simp only [obS_id]
  rw [n5, n3]
  rcases ev kf tf s t M σ _ x (by omega) (by omega) rx I (by omega) with ⟨M', σ', w, y, d1, d2, d3⟩ | ⟨v, M', σ', d1, d2, d3⟩
  · obtain ⟨c1, c2⟩ := bad _ _ _ _ _ d3
    rw [d1, obS_inr, d2, ob_some]
    -- the twin goes on with y
    have : ∃ y2, tOne (tA σ0 121 n) y σ' = some (y2, σ') := by
      rcases ops.2 with q | q | q | q | q <;> rw [q]
      · exact ⟨_, tOne7⟩
      · rw [tOne10]
        by_cases z : 0 ≤ y
        · exact ⟨_, ifT z⟩
        · exact ⟨_, ifF z⟩
      · rw [tOne11]
        unfold F_root
        by_cases z : 0 ≤ y
        · have fu : 16777217 ≤ FU := by unfold FU; decide
          have h1 := Int32.le_iff_toInt_le.mp z
          have h2 : (0 : Int32).toInt = 0 := rfl
          have hlt := Int32.toInt_lt y
          obtain ⟨A, hA, hA2⟩ : ∃ A, y = nI A ∧ A < 2147483648 := ⟨y.toInt.toNat, by
            apply Int32.toInt_inj.mp
            rw [bI_toInt (by omega)]; omega, by omega⟩
          obtain ⟨r', e1, e2, e3, e4⟩ := t_rootL (σ := σ') (A * 65536) (by omega) 16777216 0 16777216 FU (by decide) (by omega) (by decide) (by decide) (by omega) (by omega)
          rw [ifT z, hA, nI_i64 hA2, n64_shl (by omega), nm_eq, show (0 : Int64) = n64 0 from rfl, show (16777216 : Int64) = n64 16777216 from rfl, e1, ob_some]
          unfold F_fit
          rw [t_bad2 c1]
          by_cases z2 : 0 < lg_cmp (n64 r') 2147483647
          · rw [ifT z2, ob_some, ob_some]; exact ⟨_, rfl⟩
          · rw [ifF z2]
            by_cases z3 : 0 ≤ lg_cmp (n64 r') (-2147483647)
            · rw [ifT z3, ob_some]; exact ⟨_, rfl⟩
            · rw [ifF z3, ob_some, ob_some]; exact ⟨_, rfl⟩
        · rw [ifF z, t_bad2 c1, ob_some]; exact ⟨_, rfl⟩
      · rw [tOne12]
        by_cases z : 0 ≤ y
        · by_cases z2 : y ≤ 0
          · rw [ifT z, ifT z2]; exact ⟨_, rfl⟩
          · rw [ifT z, ifF z2]; exact ⟨_, rfl⟩
        · rw [ifF z]; exact ⟨_, rfl⟩
      · rw [tOne13]
        unfold F_fit
        rw [t_bad2 c1]
        by_cases z2 : 0 < lg_cmp (y.toInt64 &&& (-65536)) 2147483647
        · rw [ifT z2, ob_some]; exact ⟨_, rfl⟩
        · rw [ifF z2]
          by_cases z3 : 0 ≤ lg_cmp (y.toInt64 &&& (-65536)) (-2147483647)
          · rw [ifT z3]; exact ⟨_, rfl⟩
          · rw [ifF z3, ob_some]; exact ⟨_, rfl⟩
    obtain ⟨y2, e2⟩ := this
    exact Or.inl ⟨M', σ', w, y2, rfl, e2, d3⟩
  · obtain ⟨⟨u1, u2, u3⟩, ⟨u4, u5⟩, u6⟩ := hS1 s t M' σ' d3
    rw [d1, obS_inl, d2, ob_some]
    rcases n_one (a := v) u4 u5 u1 hop with ⟨r, r1, r2, r3⟩ | ⟨v3, r2, r3⟩
    · exact Or.inl ⟨_, _, _, 0, r2, r3, mkb s t M' σ' r d3 r1⟩
    · exact Or.inr ⟨v3, M', σ', r2, r3, d3⟩
theorem ev_mm (hS : Sk Inv Bad M0 σ0 R) (hE : KEq KV KC) (ht0 : 1 ≤ t0) (ev : EvN Inv Bad R KV k0 t0 L x2 h) (r0 : R (h + 1) 0 a n) (hop : (mI M0 3400 a = 10 ∧ tA σ0 121 n = 14) ∨ (mI M0 3400 a = 11 ∧ tA σ0 121 n = 15)) (hx : tA σ0 122 n = nI x) (rx : R h 0 (mR M0 3405 a) x) (hz : tA σ0 123 n = nI z) (rz : R h 0 (mR M0 3406 a) z) (hk : k0 + (h + 1) ≤ kf) (ht : t0 + 2 * (h + 1) ≤ tf) (I : Inv s t M σ) (hs : s + (h + 1) ≤ L) : VO Inv Bad s t (KV kf a M) (gW tf (nI n) x2 σ) := by
  obtain ⟨kf, rfl⟩ : ∃ g, kf = g + 1 := ⟨kf - 1, by omega⟩
  obtain ⟨tf, rfl⟩ : ∃ g, tf = g + 2 := ⟨tf - 2, by omega⟩
  obtain ⟨hS1, push, pop, bad, bpop, mkb⟩ := hS
  obtain ⟨⟨i1, i2, i3⟩, ⟨i4, i5⟩, i6⟩ := hS1 s t M σ I
  obtain ⟨⟨n1, n2⟩, ⟨n3, n4, n5, n6, n7⟩, n8, n9, n10, n11⟩ := i6 _ _ _ _ r0
  have i7 : inb (nI n) 70000 := inb_nI' n2 (by decide)
  have oo : mI M0 3400 a ∈ ([3, 4, 5, 6, 10, 11] : List Int32) := by rcases hop with ⟨q, -⟩ | ⟨q, -⟩ <;> rw [q] <;> decide
  have tw : ∃ mf : Int32 → Int32 → Int32, (∀ u v M, K_X0_two (mI M0 3400 a) u v M = some (.inl (mf u v), M)) ∧ gW (tf + 1 + 1) (nI n) x2 σ = ob (gW (tf + 1) (nI x) x2 σ) fun r s => ob (gW (tf + 1) (tA s 123 n) x2 s) fun r2 s => some (mf r r2, s) := by
    rcases hop with ⟨q, q2⟩ | ⟨q, q2⟩
    · refine ⟨mmin, fun u v M => by rw [q]; exact n_min, ?_⟩
      rw [t_wMin i1 n2 (n8.trans q2), n9, hx]
      congr 1
      funext r s
      rw [ifT i7]
    · refine ⟨mmax, fun u v M => by rw [q]; exact n_max, ?_⟩
      rw [t_wMax i1 n2 (n8.trans q2), n9, hx]
      congr 1
      funext r s
      rw [ifT i7]
  obtain ⟨mf, m1, m2⟩ := tw
  rw [(hE kf a M n1).2.1 (by rw [n3]; exact oo), show tf + 2 = tf + 1 + 1 from rfl, m2]
  unfold eTwo
  simp only [obS_id]
  rw [n5]
  rcases ev kf (tf + 1) s t M σ _ x (by omega) (by omega) rx I (by omega) with ⟨M', σ', w, y, d1, d2, d3⟩ | ⟨v, M', σ', d1, d2, d3⟩
  · obtain ⟨c1, c2⟩ := bad _ _ _ _ _ d3
    rw [d1, obS_inr, d2, ob_some, t_wF c1, ob_some]
    exact Or.inl ⟨M', σ', w, _, rfl, rfl, d3⟩
  · obtain ⟨-, -, u6⟩ := hS1 s t M' σ' d3
    obtain ⟨⟨p1, p2⟩, ⟨p3, p4, p5, p6, p7⟩, p8, p9, p10, p11⟩ := u6 _ _ _ _ r0
    rw [d1, obS_inl, ifT p1, ifT p1, p6, p3, d2, ob_some, p10, hz]
    rcases ev kf (tf + 1) s t M' σ' _ z (by omega) (by omega) rz d3 (by omega) with ⟨M3, σ3, w, y, g1, g2, g3⟩ | ⟨v2, M3, σ3, g1, g2, g3⟩
    · rw [g1, obS_inr, g2, ob_some]
      exact Or.inl ⟨M3, σ3, w, _, rfl, rfl, g3⟩
    · rw [g1, obS_inl, g2, ob_some, m1]
      exact Or.inr ⟨_, M3, σ3, rfl, rfl, g3⟩
theorem ev_if (hS : Sk Inv Bad M0 σ0 R) (hE : KEq KV KC) (ht0 : 1 ≤ t0) (ev : EvN Inv Bad R KV k0 t0 L x2 h) (ec : EvC Inv Bad R KC k0 t0 L x2 h) (r0 : R (h + 1) 0 a n) (hop : mI M0 3400 a = 14) (hop' : tA σ0 121 n = 16) (hx : tA σ0 122 n = nI x) (rx : R h 1 (mR M0 3405 a) x) (hz : tA σ0 123 n = nI z) (rz : R h 0 (mR M0 3406 a) z) (hq : tA σ0 124 n = nI q) (rq : R h 0 (mR M0 3407 a) q) (hk : k0 + (h + 1) ≤ kf) (ht : t0 + 2 * (h + 1) ≤ tf) (I : Inv s t M σ) (hs : s + (h + 1) ≤ L) : VO Inv Bad s t (KV kf a M) (gW tf (nI n) x2 σ) := by
  obtain ⟨kf, rfl⟩ : ∃ g, kf = g + 1 := ⟨kf - 1, by omega⟩
  obtain ⟨tf, rfl⟩ : ∃ g, tf = g + 2 := ⟨tf - 2, by omega⟩
  obtain ⟨hS1, push, pop, bad, bpop, mkb⟩ := hS
  obtain ⟨⟨i1, i2, i3⟩, ⟨i4, i5⟩, i6⟩ := hS1 s t M σ I
  obtain ⟨⟨n1, n2⟩, ⟨n3, n4, n5, n6, n7⟩, n8, n9, n10, n11⟩ := i6 _ _ _ _ r0
  have i7 : inb (nI n) 70000 := inb_nI' n2 (by decide)
  rw [(hE kf a M n1).2.2.2.1 (by rw [n3]; exact hop), show tf + 2 = tf + 1 + 1 from rfl, t_wIf i1 n2 (n8.trans hop'), n9, hx]
  unfold eIf
  rw [n5]
  rcases ec kf (tf + 1) s t M σ _ x (by omega) (by omega) rx I (by omega) with ⟨M', σ', w, y, d1, d2, d3⟩ | ⟨v, M', σ', d1, d2, d3⟩
  · obtain ⟨c1, c2⟩ := bad _ _ _ _ _ d3
    rw [d1, obS_inr, d2, ob_some, ifT i7, ifT i7, t_wF c1, t_wF c1]
    by_cases y0 : y = 0
    · rw [ifT y0]; exact Or.inl ⟨M', σ', w, _, rfl, rfl, d3⟩
    · rw [ifF y0]; exact Or.inl ⟨M', σ', w, _, rfl, rfl, d3⟩
  · obtain ⟨-, -, u6⟩ := hS1 s t M' σ' d3
    obtain ⟨⟨p1, p2⟩, ⟨p3, p4, p5, p6, p7⟩, p8, p9, p10, p11⟩ := u6 _ _ _ _ r0
    rw [d1, obS_inl, d2, ob_some, ifT i7, ifT i7, ifT p1, ifT p1, p6, p7, p10, p11, hz, hq]
    by_cases v0 : v = 0
    · rw [ifT v0, ifT v0]
      exact ev kf (tf + 1) s t M' σ' _ q (by omega) (by omega) rq d3 (by omega)
    · rw [ifF v0, ifF v0]
      exact ev kf (tf + 1) s t M' σ' _ z (by omega) (by omega) rz d3 (by omega)
theorem ev_co (hS : Sk Inv Bad M0 σ0 R) (hE : KEq KV KC) (ht0 : 1 ≤ t0) (ec : EvC Inv Bad R KC k0 t0 L x2 h) (r0 : R (h + 1) 1 a n) (hop : (mI M0 3400 a, tA σ0 121 n) ∈ coF) (hx : tA σ0 122 n = nI x) (rx : R h 1 (mR M0 3405 a) x) (hz : tA σ0 123 n = nI z) (rz : R h 1 (mR M0 3406 a) z) (hk : k0 + (h + 1) ≤ kf) (ht : t0 + 2 * (h + 1) ≤ tf) (I : Inv s t M σ) (hs : s + (h + 1) ≤ L) : VO Inv Bad s t (KC kf a M) (gH tf (nI n) x2 σ) := by
  obtain ⟨kf, rfl⟩ : ∃ g, kf = g + 1 := ⟨kf - 1, by omega⟩
  obtain ⟨tf, rfl⟩ : ∃ g, tf = g + 2 := ⟨tf - 2, by omega⟩
  obtain ⟨hS1, push, pop, bad, bpop, mkb⟩ := hS
  obtain ⟨⟨i1, i2, i3⟩, ⟨i4, i5⟩, i6⟩ := hS1 s t M σ I
  obtain ⟨⟨n1, n2⟩, ⟨n3, n4, n5, n6, n7⟩, n8, n9, n10, n11⟩ := i6 _ _ _ _ r0
  have i7 : inb (nI n) 70000 := inb_nI' n2 (by decide)
  -- both are alike in the two cases: z2 says how the results are put together
  have tw : ∃ mf : Int32 → Int32 → Int32, KC (kf + 1) a M = (obS (KC kf (mR M0 3405 a) M) (fun w M => some (.inr w, M)) fun r M1 => if mk M1 a = 18 then obS (KC kf (mR M1 3406 a) M1) (fun w M => some (.inr w, M)) fun r2 M2 => some (.inl (mf r r2), M2) else none) ∧ gH (tf + 1 + 1) (nI n) x2 σ = ob (gH (tf + 1) (nI x) x2 σ) fun r s => ob (gH (tf + 1) (tA s 123 n) x2 s) fun r2 s => some (mf r r2, s) := by
    simp only [List.mem_cons, List.not_mem_nil, or_false, Prod.mk.injEq] at hop
    rcases hop with ⟨q, q2⟩ | ⟨q, q2⟩
    · refine ⟨fun r r2 => if r2 = 0 then 0 else if r = 0 then 0 else 1, ?_, ?_⟩
      · rw [(hE kf a M n1).2.2.2.2.1 (by rw [n3]; exact q)]
        unfold eAnd
        rw [n5]
        congr 1
        funext r M1
        by_cases e : mk M1 a = 18
        · rw [ifT e, ifT e]
          congr 1
          funext r2 M2
          by_cases e2 : r2 = 0 <;> by_cases e3 : r = 0 <;> simp [e2, e3]
        · rw [ifF e, ifF e]
      · rw [t_hAnd i1 n2 (n8.trans q2), n9, hx]
        congr 1
        funext r s
        rw [ifT i7]
        congr 1
        funext r2 s
        by_cases e2 : r2 = 0 <;> by_cases e3 : r = 0 <;> simp [e2, e3]
    · refine ⟨fun r r2 => if r2 = 0 then if r = 0 then 0 else 1 else 1, ?_, ?_⟩
      · rw [(hE kf a M n1).2.2.2.2.2.1 (by rw [n3]; exact q)]
        unfold eOr
        rw [n5]
        congr 1
        funext r M1
        by_cases e : mk M1 a = 18
        · rw [ifT e, ifT e]
          congr 1
          funext r2 M2
          by_cases e2 : r2 = 0 <;> by_cases e3 : r = 0 <;> simp [e2, e3]
        · rw [ifF e, ifF e]
      · rw [t_hOr i1 n2 (n8.trans q2), n9, hx]
        congr 1
        funext r s
        rw [ifT i7]
        congr 1
        funext r2 s
        by_cases e2 : r2 = 0 <;> by_cases e3 : r = 0 <;> simp [e2, e3]
  obtain ⟨mf, m1, m2⟩ := tw
  rw [m1, show tf + 2 = tf + 1 + 1 from rfl, m2]
  rcases ec kf (tf + 1) s t M σ _ x (by omega) (by omega) rx I (by omega) with ⟨M', σ', w, y, d1, d2, d3⟩ | ⟨v, M', σ', d1, d2, d3⟩
  · obtain ⟨c1, c2⟩ := bad _ _ _ _ _ d3
    rw [d1, obS_inr, d2, ob_some, t_hF c1, ob_some]
    exact Or.inl ⟨M', σ', w, _, rfl, rfl, d3⟩
  · obtain ⟨-, -, u6⟩ := hS1 s t M' σ' d3
    obtain ⟨⟨p1, p2⟩, ⟨p3, p4, p5, p6, p7⟩, p8, p9, p10, p11⟩ := u6 _ _ _ _ r0
    rw [d1, obS_inl, ifT p1, p6, d2, ob_some, p10, hz]
    rcases ec kf (tf + 1) s t M' σ' _ z (by omega) (by omega) rz d3 (by omega) with ⟨M3, σ3, w, y, g1, g2, g3⟩ | ⟨v2, M3, σ3, g1, g2, g3⟩
    · rw [g1, obS_inr, g2, ob_some]
      exact Or.inl ⟨M3, σ3, w, _, rfl, rfl, g3⟩
    · rw [g1, obS_inl, g2, ob_some]
      exact Or.inr ⟨_, M3, σ3, rfl, rfl, g3⟩
theorem ev_not (hS : Sk Inv Bad M0 σ0 R) (hE : KEq KV KC) (ec : EvC Inv Bad R KC k0 t0 L x2 h) (r0 : R (h + 1) 1 a n) (hop : mI M0 3400 a = 28) (hop' : tA σ0 121 n = 23) (hx : tA σ0 122 n = nI x) (rx : R h 1 (mR M0 3405 a) x) (hk : k0 + (h + 1) ≤ kf) (ht : t0 + 2 * (h + 1) ≤ tf) (I : Inv s t M σ) (hs : s + (h + 1) ≤ L) : VO Inv Bad s t (KC kf a M) (gH tf (nI n) x2 σ) := by
  obtain ⟨kf, rfl⟩ : ∃ g, kf = g + 1 := ⟨kf - 1, by omega⟩
  obtain ⟨tf, rfl⟩ : ∃ g, tf = g + 1 := ⟨tf - 1, by omega⟩
  obtain ⟨hS1, push, pop, bad, bpop, mkb⟩ := hS
  obtain ⟨⟨i1, i2, i3⟩, ⟨i4, i5⟩, i6⟩ := hS1 s t M σ I
  obtain ⟨⟨n1, n2⟩, ⟨n3, n4, n5, n6, n7⟩, n8, n9, n10, n11⟩ := i6 _ _ _ _ r0
  rw [(hE kf a M n1).2.2.2.2.2.2 (by rw [n3]; exact hop), t_hNot i1 n2 (n8.trans hop'), n9, hx]
  unfold eNot
  rw [n5]
  rcases ec kf tf s t M σ _ x (by omega) (by omega) rx I (by omega) with ⟨M', σ', w, y, d1, d2, d3⟩ | ⟨v, M', σ', d1, d2, d3⟩
  · obtain ⟨c1, c2⟩ := bad _ _ _ _ _ d3
    rw [d1, obS_inr, d2, ob_some, t_isBad1 c1, ob_some, ifF (show ¬ (1 : Int32) = 0 by decide)]
    by_cases y0 : y = 0
    · rw [ifT y0]; exact Or.inl ⟨M', σ', w, _, rfl, rfl, d3⟩
    · rw [ifF y0]; exact Or.inl ⟨M', σ', w, _, rfl, rfl, d3⟩
  · obtain ⟨⟨u1, -⟩, -⟩ := hS1 s t M' σ' d3
    rw [d1, obS_inl, d2, ob_some, t_isBad0 u1, ob_some, ifT (rfl : (0 : Int32) = 0)]
    by_cases v0 : v = 0
    · rw [ifT v0, ifT v0]; exact Or.inr ⟨_, M', σ', rfl, rfl, d3⟩
    · rw [ifF v0, ifF v0]; exact Or.inr ⟨_, M', σ', rfl, rfl, d3⟩
/-- a relation as the values are -/
theorem ev_live (hS : Sk Inv Bad M0 σ0 R) (ht0 : 1 ≤ t0) (ev : EvN Inv Bad R KV k0 t0 L x2 h) (r0 : R (h + 1) 1 a n) (hop : (mI M0 3400 a, tA σ0 122 n) ∈ rlF) (hx : tA σ0 123 n = nI x) (rx : R h 0 (mR M0 3405 a) x) (hz : tA σ0 124 n = nI z) (rz : R h 0 (mR M0 3406 a) z) (hk : k0 + h ≤ kf) (ht : t0 + 2 * h + 1 ≤ tf) (I : Inv s t M σ) (hs : s + (h + 1) ≤ L) : VO Inv Bad s t (eLive (KV kf) a M) (gF tf (nI n) x2 σ) := by
  obtain ⟨tf, rfl⟩ : ∃ g, tf = g + 2 := ⟨tf - 2, by omega⟩
  obtain ⟨hS1, push, pop, bad, bpop, mkb⟩ := hS
  obtain ⟨⟨i1, i2, i3⟩, ⟨i4, i5⟩, i6⟩ := hS1 s t M σ I
  obtain ⟨⟨n1, n2⟩, ⟨n3, n4, n5, n6, n7⟩, n8, n9, n10, n11⟩ := i6 _ _ _ _ r0
  rw [show tf + 2 = tf + 1 + 1 from rfl, t_fin n2, n10, hx]
  unfold eLive
  rw [n5]
  rcases ev kf (tf + 1) s t M σ _ x (by omega) (by omega) rx I (by omega) with ⟨M', σ', w, y, d1, d2, d3⟩ | ⟨v, M', σ', d1, d2, d3⟩
  · obtain ⟨c1, c2⟩ := bad _ _ _ _ _ d3
    rw [d1, obS_inr, d2, ob_some, t_wF c1, ob_some, t_isBad1 c1, ob_some, ifF (show ¬ (1 : Int32) = 0 by decide)]
    exact Or.inl ⟨M', σ', w, _, rfl, rfl, d3⟩
  · obtain ⟨-, -, u6⟩ := hS1 s t M' σ' d3
    obtain ⟨⟨p1, p2⟩, ⟨p3, p4, p5, p6, p7⟩, p8, p9, p10, p11⟩ := u6 _ _ _ _ r0
    rw [d1, obS_inl, ifT p1, ifT p1, p6, p3, d2, ob_some, p11, hz]
    rcases ev kf (tf + 1) s t M' σ' _ z (by omega) (by omega) rz d3 (by omega) with ⟨M3, σ3, w, y, g1, g2, g3⟩ | ⟨v2, M3, σ3, g1, g2, g3⟩
    · obtain ⟨c1, c2⟩ := bad _ _ _ _ _ g3
      rw [g1, obS_inr, g2, ob_some, t_isBad1 c1, ob_some, ifF (show ¬ (1 : Int32) = 0 by decide)]
      exact Or.inl ⟨M3, σ3, w, _, rfl, rfl, g3⟩
    · obtain ⟨⟨w1, -⟩, -, w6⟩ := hS1 s t M3 σ3 g3
      obtain ⟨-, -, w8, w9, -⟩ := w6 _ _ _ _ r0
      obtain ⟨r, r1, r2, r3⟩ := n_cmp (M := M3) (σ := σ3) (a := v) (b := v2) hop
      rw [g1, obS_inl, r2, ob_some, g2, ob_some, t_isBad0 w1, ob_some, ifT (rfl : (0 : Int32) = 0), w9, r3, ob_some]
      rcases r1 with rfl | rfl
      · rw [ifT rfl]; exact Or.inr ⟨_, M3, σ3, rfl, rfl, g3⟩
      · rw [ifF (by decide)]; exact Or.inr ⟨_, M3, σ3, rfl, rfl, g3⟩
end EVALL
