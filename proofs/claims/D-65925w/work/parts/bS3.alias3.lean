/-! Layer B: aliases, whole, both sides -/
set_option maxRecDepth 100000
abbrev alI : List Nat := [49, 66, 3217, 3218]
abbrev alA : List Nat := [117, 118, 128]
abbrev alS : List Nat := [177, 178, 180, 181, 182, 183, 184, 185, 186]
/-- all with one head get another -/
def mgH (hd : Nat → Nat) (high low : Nat) : Nat → Nat := fun v => if hd v = high then low else hd v
def mgS (hd : Nat → Nat) (sg : Nat → Int32) (high : Nat) (x : Int32) : Nat → Int32 := fun v => if hd v = high then sg v * x else sg v
section ALIAS3
variable {C : PC} {P : Nat → Prop} {mss fss : List Nat} {D : FQ} {M0 M M' M1 M2 : CM} {σ σ' s s' : TS} {I' R' A' X' S : List Nat} {B V I Bm K N E A Wn q qs k c a b high low : Nat} {z7 : Nat → Nat} {hd hd' : Nat → Nat} {sg sg' : Nat → Int32} {x x1 y z w : Int32}
theorem sg1.mul (h : sg1 x) (g : sg1 y) : sg1 (x * y) := by
  unfold sg1 at h g ⊢
  rcases h with rfl | rfl <;> rcases g with rfl | rfl <;> decide
theorem sg_eq (h1 : sg1 x) (h2 : sg1 y) (h3 : sg1 z) (h4 : sg1 w) : -x * y * z * w = z * w * (-x * y) := by
  rcases h1 with rfl | rfl <;> rcases h2 with rfl | rfl <;> rcases h3 with rfl | rfl <;> rcases h4 with rfl | rfl <;> decide
theorem AlL.mg (h : AlL V σ hd sg) (ha : a < V ∧ tA σ 94 a = 0) (hb : b < V ∧ tA σ 94 b = 0) (hne : hd a ≠ hd b) (hm : (high = hd b ∧ low = hd a ∧ hd a ≤ hd b) ∨ (high = hd a ∧ low = hd b ∧ hd b ≤ hd a)) (hx : sg1 x) : AlL V σ (mgH hd high low) (mgS hd sg high x) := by
  have hk : ∀ u, u < V ∧ tA σ 94 u = 0 → tA σ 94 (hd u) = 0 := fun u hu => by
    by_cases e : hd u = u
    · rw [e]; exact hu.2
    · exact ((h u hu.1).2.2.1 e).2
  have k1 : tA σ 94 high = 0 ∧ tA σ 94 low = 0 ∧ hd low = low ∧ low < high := by
    rcases hm with ⟨rfl, rfl, z⟩ | ⟨rfl, rfl, z⟩
    · exact ⟨hk b hb, hk a ha, (h a ha.1).2.1, by omega⟩
    · exact ⟨hk a ha, hk b hb, (h b hb.1).2.1, by omega⟩
  obtain ⟨k1, k2, k3, k4⟩ := k1
  have hl : mgH hd high low low = low := by
    unfold mgH
    rw [ifF (by rw [k3]; omega)]; exact k3
  intro v hv
  obtain ⟨a1, a2, a3, a4⟩ := h v hv
  by_cases e : hd v = high
  · have e1 : mgH hd high low v = low := ifT e
    have e2 : mgS hd sg high x v = sg v * x := ifT e
    rw [e1, e2, hl]
    refine ⟨by omega, rfl, fun _ => ⟨?_, k2⟩, a4.mul hx⟩
    by_cases q : hd v = v
    · rw [← q, e]; exact k1
    · exact (a3 q).1
  · have e1 : mgH hd high low v = hd v := ifF e
    have e2 : mgS hd sg high x v = sg v := ifF e
    have e3 : mgH hd high low (hd v) = hd v := by
      unfold mgH
      rw [a2, ifF e]
    rw [e1, e2, e3]
    exact ⟨a1, rfl, a3, a4⟩
theorem al_loop (W : FW C B P mss fss D M0 σ) (h : FP C P mss D M0 σ z7 V I Bm K N E A Wn q qs) : ∀ (d k kf tf : Nat) (M : CM) (s : TS) (hd : Nat → Nat) (sg : Nat → Int32) (c : Nat), k + d = E → d < kf → d < tf → PA D M0 σ M s → AlL V σ hd sg → AlM D V M s hd sg → GoR M s k c → ∃ M' s' hd' sg' c', KL_X0_aliases_68 kf (nI k) M = some ((), M') ∧ L_aliases_37 tf (nI k) s = some ((), s') ∧ (KF D alI [] alA [] M M' ∧ Ft alS s s') ∧ AlL V σ hd' sg' ∧ AlM D V M' s' hd' sg' ∧ GoR M' s' E c' := by
  obtain ⟨X, -, -, ⟨⟨e1, e2, e3, e4⟩, -⟩, -⟩ := id h
  have V96 := X.2.1.1
  intro d
  induction d with
  | zero =>
    intro k kf tf M s hd sg c hj hk ht p al am g
    obtain ⟨kf, rfl⟩ : ∃ g, kf = g + 1 := ⟨kf - 1, by omega⟩
    obtain ⟨tf, rfl⟩ : ∃ g, tf = g + 1 := ⟨tf - 1, by omega⟩
    obtain rfl : k = E := by omega
    have c1 : mI M 35 1 = nI k := (p.1.i rfl 1).trans e1
    have c2 : tI s 144 = nI k := (p.2 144 rfl).1.trans e2
    have le : nI k ≤ nI k := (bI_le (by omega) (by omega)).mpr (Nat.le_refl _)
    exact ⟨M, s, hd, sg, c, by unfold KL_X0_aliases_68; rw [c1, ifT le], by unfold L_aliases_37; rw [c2, ifT le], ⟨KF.rf, Ft.rf _ _⟩, al, am, g⟩
  | succ d ih =>
    intro k kf tf M s hd sg c hj hk ht p al am ⟨g1, g2, g3, g4⟩
    obtain ⟨kf, rfl⟩ : ∃ g, kf = g + 1 := ⟨kf - 1, by omega⟩
    obtain ⟨tf, rfl⟩ : ∃ g, tf = g + 1 := ⟨tf - 1, by omega⟩
    have c1 : mI M 35 1 = nI E := (p.1.i rfl 1).trans e1
    have c2 : tI s 144 = nI E := (p.2 144 rfl).1.trans e2
    have le : ¬ nI E ≤ nI k := fun z => by have := (bI_le (by omega) (by omega)).mp z; omega
    have i1 : inb (nI k) 180 := inb_nI' (by omega) (by decide)
    have i4 : inb (nI k) 400 := inb_nI' (by omega) (by decide)
    have i2 : inb (nI k) 120 := inb_nI' (by omega) (by decide)
    have xk : ix (nI k) = k := ix_nI (by omega)
    have nx : nI k + 1 = nI (k + 1) := nI_addL k 1
    obtain ⟨M1, hM1⟩ : ∃ q, q = mwA M 128 k (nZ 0) := ⟨_, rfl⟩
    obtain ⟨s1, hs1⟩ : ∃ q, q = tsA s 180 k (nZ 0) := ⟨_, rfl⟩
    have kM1 : KF D alI [] alA [] M M1 := by rw [hM1]; exact KF.rf.wA rfl ⟨by decide, by decide⟩
    have fs1 : Ft alS s s1 := by rw [hs1]; exact (Ft.rf _ s).p_tsA rfl
    have up : ∀ {M1}, KF D alI [] alA [] M M1 → KF D svI [] svA [] M0 M1 := fun z => p.1.tr (z.mono (by decide) (by decide) (by decide) (by decide))
    have uf : ∀ {s1}, Ft alS s s1 → Ft sv1 σ s1 := fun z => p.2.tr (z.mono (by decide))
    obtain ⟨r, M2, s2, a1, a2, a3, a4, a5⟩ := z_isAlias W h (k := k) (by omega) ⟨up kM1, uf fs1⟩
    have kM2 : KF D alI [] alA [] M M2 := kM1.tr (KF.mono a3 (by decide) (by decide) (by decide) (by decide))
    have fs2 : Ft alS s s2 := fs1.tr (a4.mono (by decide))
    have m128 : ∀ j, mA M2 128 j = if j = k then 0 else mA M 128 j := fun j => by
      rw [a3.ga rfl, hM1, mA_mwA]
      by_cases q : j = k
      · rw [ifT ⟨rfl, q⟩, ifT q]; rfl
      · rw [ifF (fun z => q z.2), ifF q]
    have t180 : ∀ j, tA s2 180 j = if j = k then 0 else tA s 180 j := fun j => by
      rw [(a4 180 rfl).2.2.1, hs1, tA_tsA]
      by_cases q : j = k
      · rw [ifT ⟨rfl, q⟩, ifT q]; rfl
      · rw [ifF (fun z => q z.2), ifF q]
    have m66 : mI M2 66 1 = nI c := by rw [a3.i rfl, hM1, mI_mwA]; exact g2
    have t181 : tI s2 181 = nI c := by rw [(a4 181 rfl).1, hs1, tI_tsA]; exact g3
    have go : GoR M2 s2 (k + 1) c := ⟨fun j hj => by
      rw [m128, t180]
      by_cases q : j = k
      · rw [ifT q, ifT q]; exact ⟨rfl, Or.inl rfl⟩
      · rw [ifF q, ifF q]; exact g1 j (by omega), m66, t181, by
      rw [cnB, ifT (decide_eq_true (by rw [t180, ifT rfl])), cnB_eq (p := fun j => decide (tA s 180 j = 0)) (fun j hj => by
        show decide (tA s2 180 j = 0) = decide (tA s 180 j = 0)
        rw [t180, ifF (by omega)])]
      omega⟩
    have am2 : AlM D V M2 s2 hd sg := fun v hv => by
      obtain ⟨⟨y1, y2⟩, y3, y4⟩ := am v hv
      rw [a3.i rfl, a3.i rfl, (a4 177 rfl).2.2.1, (a4 178 rfl).2.2.1, hM1, hs1, mI_mwA, mI_mwA, tA_tsA, ifF (by omega), tA_tsA, ifF (by omega)]
      exact ⟨⟨y1, y2⟩, y3, y4⟩
    have get : K_J2_get 111 (nI k) M1 = some ((pl D 111).getD k 0, M1) := (up kM1).get W.2.1 (by decide) (by omega) rfl rfl rfl
    have k19 : mk M1 ((pl D 111).getD k 0) = 19 := by rw [(up kM1).k]; exact (W.2.1.2.1 111 (by decide) k (by omega)).1
    have q174 : tA s1 174 k = tA s 174 k := by rw [hs1, tA_tsA, ifF (by omega)]
    have nxt : ∃ M' s' hd' sg' c', KL_X0_aliases_68 kf (nI (k + 1)) M2 = some ((), M') ∧ L_aliases_37 tf (nI (k + 1)) s2 = some ((), s') ∧ (KF D alI [] alA [] M M' ∧ Ft alS s s') ∧ AlL V σ hd' sg' ∧ AlM D V M' s' hd' sg' ∧ GoR M' s' E c' := by
      obtain ⟨M', s', hd', sg', c', b1, b2, ⟨b3, b4⟩, b5⟩ := ih (k + 1) kf tf M2 s2 hd sg c (by omega) (by omega) (by omega) ⟨up kM2, uf fs2⟩ al am2 go
      exact ⟨M', s', hd', sg', c', b1, b2, ⟨kM2.tr b3, fs2.tr b4⟩, b5⟩
    rcases a5 with rfl | ⟨rfl, a, b, ⟨b1, b2, b3⟩, ⟨b4, b5⟩, ⟨b6, b7, b8, b9⟩, ⟨d1, d2⟩, d3, d4⟩
    · obtain ⟨M', s', hd', sg', c', n1, n2, n3⟩ := nxt
      refine ⟨M', s', hd', sg', c', ?_, ?_, n3⟩
      · unfold KL_X0_aliases_68
        rw [c1, ifF le, ifT i1, xk, nm_eq, ← hM1, get, ob_some, ifT (Or.inr k19), a1, ob_some, ifT rfl, nm_eq, nx]
        exact n1
      · unfold L_aliases_37
        rw [c2, ifF le, ifT i4, xk, nm_eq, ← hs1, ifT i2, ifT i2, a2, ob_some, ifT rfl, nm_eq, nx]
        exact n2
    · obtain ⟨⟨x1a, x2a⟩, x3a, x4a⟩ := am2 a b1
      obtain ⟨⟨x1b, x2b⟩, x3b, x4b⟩ := am2 b b2
      obtain ⟨u1, -, u2, u3⟩ := X.vr W b1
      obtain ⟨v1, -, v2, v3⟩ := X.vr W b2
      have ga := (up kM2).get W.2.1 (l := 98) (j := a) (by decide) u2 rfl rfl rfl
      have gb := (up kM2).get W.2.1 (l := 98) (j := b) (by decide) v2 rfl rfl rfl
      have ka : mk M2 ((pl D 98).getD a 0) = 17 := by rw [(up kM2).k]; exact u1
      have kb : mk M2 ((pl D 98).getD b 0) = 17 := by rw [(up kM2).k]; exact v1
      have ja : inb (nI a) 96 := inb_nI' (by omega) (by decide)
      have jb : inb (nI b) 96 := inb_nI' (by omega) (by decide)
      have xa : ix (nI a) = a := ix_nI (by omega)
      have xb : ix (nI b) = b := ix_nI (by omega)
      have la := al a b1
      have lb := al b b2
      by_cases e : hd a = hd b
      · obtain ⟨M', s', hd', sg', c', n1, n2, n3⟩ := nxt
        refine ⟨M', s', hd', sg', c', ?_, ?_, n3⟩
        · unfold KL_X0_aliases_68
          rw [c1, ifF le, ifT i1, xk, nm_eq, ← hM1, get, ob_some, ifT (Or.inr k19), a1, ob_some, ifF (show ¬ (1 : Int32) = 0 by decide), show ix (0 : Int32) = 0 from rfl, show ix (1 : Int32) = 1 from rfl, ifT (show inb (0 : Int32) 2 by decide), b6, ga, ob_some, ifT (Or.inr ka), ifT (show inb (1 : Int32) 2 by decide), b8, gb, ob_some, ifT (Or.inr kb), ifT ka, ifT kb, x1a, x1b]
          rw [e, ifT rfl, nm_eq, nx]
          exact n1
        · unfold L_aliases_37
          rw [c2, ifF le, ifT i4, xk, nm_eq, ← hs1, ifT i2, ifT i2, a2, ob_some, ifF (show ¬ (1 : Int32) = 0 by decide), nm_eq, b7, b9, ifT ja, xa, x2a, nm_eq, ifT jb, xb, x2b, nm_eq]
          rw [e, ifT rfl, nm_eq, nx]
          exact n2
      · have ne : ¬ nI (hd a) = nI (hd b) := fun z => e ((bI_eq (by omega) (by omega)).mp z)
        obtain ⟨by_, hby⟩ : ∃ q, q = sg a * sg b * (-tI s2 184 * tI s2 185) := ⟨_, rfl⟩
        have hbs : sg1 by_ := by rw [hby]; exact (la.2.2.2.mul lb.2.2.2).mul (d2.ng.mul d4)
        have eby : -tI s2 184 * tI s2 185 * sg a * sg b = by_ := by rw [hby]; exact sg_eq d2 d4 la.2.2.2 lb.2.2.2
        obtain ⟨high, low, hm, hmx, hmn⟩ : ∃ high low, ((high = hd b ∧ low = hd a ∧ hd a ≤ hd b) ∨ (high = hd a ∧ low = hd b ∧ hd b ≤ hd a ∧ ¬ hd a ≤ hd b)) ∧ max (hd a) (hd b) = high ∧ min (hd a) (hd b) = low := by
          by_cases z : hd a ≤ hd b
          · exact ⟨hd b, hd a, Or.inl ⟨rfl, rfl, z⟩, by omega, by omega⟩
          · exact ⟨hd a, hd b, Or.inr ⟨rfl, rfl, by omega, z⟩, by omega, by omega⟩
        have hm' : (high = hd b ∧ low = hd a ∧ hd a ≤ hd b) ∨ (high = hd a ∧ low = hd b ∧ hd b ≤ hd a) := hm.imp (fun z => z) (fun z => ⟨z.1, z.2.1, z.2.2.1⟩)
        have hlt : high < V ∧ low < V := by omega
        have fu := fu2
        obtain ⟨M3, s3, r1, r2, ⟨r3, r4⟩, r5⟩ := al_merge (x1 := nI k) (x := nI k) (by_ := by_) (high := high) (low := low) W X (by omega) hlt.2 V 0 FU FU M2 s2 hd sg (by omega) (by omega) (by omega) ⟨up kM2, uf fs2⟩ (fun v hv => by have := (al v hv).1; omega) am2
        have kM3 : KF D alI [] alA [] M M3 := kM2.tr (r3.mono (by decide) (by decide) (by decide) (by decide))
        have fs3 : Ft alS s s3 := fs2.tr (r4.mono (by decide))
        obtain ⟨M4, hM4⟩ : ∃ q, q = msI (mwA M3 128 k (nZ 1)) 66 1 (nI (c + 1)) := ⟨_, rfl⟩
        obtain ⟨s4, hs4⟩ : ∃ q, q = tsI (tsA s3 180 k (nZ 1)) 181 (nI (c + 1)) := ⟨_, rfl⟩
        have kM4 : KF D alI [] alA [] M M4 := by rw [hM4]; exact (kM3.wA rfl ⟨by decide, by decide⟩).wI rfl TZ.one
        have fs4 : Ft alS s s4 := by rw [hs4]; exact (fs3.p_tsA rfl).p_tsI rfl
        have am4 : AlM D V M4 s4 (mgH hd high low) (mgS hd sg high by_) := (r5.cg (fun v hv => by
          have eq : (0 ≤ v ∧ hd v = high) = (hd v = high) := propext ⟨fun z => z.2, fun z => ⟨Nat.zero_le _, z⟩⟩
          simp only [eq]
          exact ⟨rfl, rfl⟩)).mv (I' := [66]) (R' := []) (A' := [128]) (X' := []) (by rw [hM4]; exact (KF.rf.wA rfl ⟨by decide, by decide⟩).wI rfl TZ.one) ⟨rfl, rfl⟩ (S := [180, 181]) (by rw [hs4]; exact ((Ft.rf _ s3).p_tsA rfl).p_tsI rfl) ⟨rfl, rfl⟩
        have go4 : GoR M4 s4 (k + 1) (c + 1) := by
          obtain ⟨w1, w2, w3, w4⟩ := go
          refine ⟨fun j hj => ?_, by rw [hM4, mI_msI, ifT ⟨rfl, rfl⟩], by rw [hs4]; rfl, ?_⟩
          · rw [hM4, hs4, mA_msI, tA_tsI, mA_mwA, tA_tsA]
            by_cases q : j = k
            · rw [ifT ⟨rfl, q⟩, ifT ⟨rfl, q⟩]; exact ⟨rfl, Or.inr rfl⟩
            · rw [ifF (fun z => q z.2), ifF (fun z => q z.2), r3.ga rfl, (r4 180 rfl).2.2.1]; exact w1 j hj
          · have v180 : ∀ j, tA s4 180 j = if j = k then 1 else tA s2 180 j := fun j => by
              rw [hs4, tA_tsI, tA_tsA]
              by_cases q : j = k
              · rw [ifT ⟨rfl, q⟩, ifT q]; rfl
              · rw [ifF (fun z => q z.2), ifF q, (r4 180 rfl).2.2.1]
            have w5 : cnB (fun j => decide (tA s2 180 j = 0)) (k + 1) = cnB (fun j => decide (tA s2 180 j = 0)) k + 1 := by rw [cnB, ifT (decide_eq_true (by rw [t180, ifT rfl]))]
            rw [show cnB (fun j => decide (tA s4 180 j = 0)) (k + 1) = cnB (fun j => decide (tA s4 180 j = 0)) k + (if decide (tA s4 180 k = 0) = true then 1 else 0) from rfl, ifF (show ¬ decide (tA s4 180 k = 0) = true from fun z => by
              have := of_decide_eq_true z
              rw [v180, ifT rfl] at this
              exact absurd this (by decide)), cnB_eq (p := fun j => decide (tA s2 180 j = 0)) (fun j hj => by
              show decide (tA s4 180 j = 0) = decide (tA s2 180 j = 0)
              rw [v180, ifF (by omega)])]
            omega
        obtain ⟨M', s', hd', sg', c', t1, t2, ⟨t3, t4⟩, t5⟩ := ih (k + 1) kf tf M4 s4 _ _ (c + 1) (by omega) (by omega) (by omega) ⟨up kM4, uf fs4⟩ (al.mg ⟨b1, b4⟩ ⟨b2, b5⟩ e hm' hbs) am4 go4
        refine ⟨M', s', hd', sg', c', ?_, ?_, ⟨kM4.tr t3, fs4.tr t4⟩, t5⟩
        · have KJ : KJ_X0_aliases_224_68 (KL_X0_aliases_68 kf) (nI k) by_ (nI high) (nI low) M2 = some ((), M') := by
            unfold KJ_X0_aliases_224_68
            rw [show KL_X0_aliases_229 FU (nI k) by_ (nI high) (nI low) 0 M2 = some ((), M3) from r1, ob_some, ifT i1, xk, nm_eq, mI_mwA, r3.i rfl, m66, nI_addL, nm_eq, ← hM4, nm_eq, nx]
            exact t1
          unfold KL_X0_aliases_68
          rw [c1, ifF le, ifT i1, xk, nm_eq, ← hM1, get, ob_some, ifT (Or.inr k19), a1, ob_some, ifF (show ¬ (1 : Int32) = 0 by decide), show ix (0 : Int32) = 0 from rfl, show ix (1 : Int32) = 1 from rfl, ifT (show inb (0 : Int32) 2 by decide), b6, ga, ob_some, ifT (Or.inr ka), ifT (show inb (1 : Int32) 2 by decide), b8, gb, ob_some, ifT (Or.inr kb), ifT ka, ifT kb, x1a, x1b]
          rw [ifF ne, ifT (show inb (0 : Int32) 2 by decide), ifT (show inb (1 : Int32) 2 by decide), ifT ka, ifT kb, d1, d3, x3a, x3b, eby, nm_eq, ifT ka, ifT kb]
          unfold KJ_X0_aliases_200_68
          rw [x1a, x1b]
          rcases hm with ⟨z1, z2, z3⟩ | ⟨z1, z2, z3, z4⟩
          · have cle : nI (hd a) ≤ nI (hd b) := (bI_le (by omega) (by omega)).mpr z3
            rw [ifT cle, ifT kb, ifT ka, ifT kb, ifT cle, ifT ka, ← z1, ← z2]
            exact KJ
          · have cle : ¬ nI (hd a) ≤ nI (hd b) := fun z => z4 ((bI_le (by omega) (by omega)).mp z)
            rw [ifF cle, ifT ka, ifT ka, ifT kb, ifF cle, ifT kb, ← z1, ← z2]
            exact KJ
        · unfold L_aliases_37
          rw [c2, ifF le, ifT i4, xk, nm_eq, ← hs1, ifT i2, ifT i2, a2, ob_some, ifF (show ¬ (1 : Int32) = 0 by decide), nm_eq, b7, b9, ifT ja, xa, x2a, nm_eq, ifT jb, xb, x2b, nm_eq]
          rw [ifF ne, ifT ja, ifT jb, x4a, x4b, ← hby, nm_eq, nI_min (by omega) (by omega), hmn, nm_eq, nI_max (by omega) (by omega), hmx, nm_eq, show L_aliases_157 FU (nI k) by_ (nI low) (nI high) 0 s2 = some ((), s3) from r2, ob_some, ifT i4, nm_eq, tI_tsA, (r4 181 rfl).1, t181, nI_addL, nm_eq, ← hs4, nm_eq, nx]
          exact t2
/-- aliases -/
theorem z_aliases (W : FW C B P mss fss D M0 σ) (h : FP C P mss D M0 σ z7 V I Bm K N E A Wn q qs) (p : PA D M0 σ M s) : ∃ M' s' hd sg c, K_X0_aliases M = some ((), M') ∧ F_aliases s = some ((), s') ∧ (KF D (3219 :: alI) [] alA [] M M' ∧ Ft alS s s') ∧ AlL V σ hd sg ∧ AlM D V M' s' hd sg ∧ GoR M' s' E c ∧ ∀ v, v < V → mI M' 3219 ((pl D 98).getD v 0) = -1 := by
  obtain ⟨X, -, -, ⟨⟨e1, e2, e3, e4⟩, -⟩, -⟩ := id h
  have V96 := X.2.1.1
  have fu := fu2
  obtain ⟨s0, hs0⟩ : ∃ q, q = tsI s 181 0 := ⟨_, rfl⟩
  have f0 : Ft alS s s0 := by rw [hs0]; exact (Ft.rf _ s).p_tsI rfl
  obtain ⟨M1, s1, a1, a2, ⟨a3, a4⟩, a5⟩ := al_init W X V 0 FU FU M s0 (by omega) (by omega) (by omega) ⟨p.1, p.2.tr (f0.mono (by decide))⟩ (fun v hv => absurd hv (Nat.not_lt_zero v))
  obtain ⟨M2, hM2⟩ : ∃ q, q = msI M1 66 1 0 := ⟨_, rfl⟩
  have k2 : KF D [66] [] [] [] M1 M2 := by rw [hM2]; exact KF.rf.wI rfl TZ.one
  have k02 : KF D (3219 :: alI) [] alA [] M M2 := (a3.mono (by decide) (by decide) (by decide) (by decide)).tr (k2.mono (by decide) (by decide) (by decide) (by decide))
  have f02 : Ft alS s s1 := f0.tr (a4.mono (by decide))
  have am : AlM D V M2 s1 id (fun _ => 1) := fun v hv => by
    obtain ⟨y1, y2, -⟩ := a5 v hv
    rw [k2.i rfl, k2.i rfl]
    exact ⟨y1, y2⟩
  obtain ⟨M3, s3, hd, sg, c, b1, b2, ⟨b3, b4⟩, b5, b6, b7⟩ := al_loop W h E 0 FU FU M2 s1 id (fun _ => 1) 0 (by omega) (by omega) (by omega) ⟨p.1.tr (k02.mono (by decide) (by decide) (by decide) (by decide)), p.2.tr (f02.mono (by decide))⟩ (fun v hv => ⟨Nat.le_refl _, rfl, fun z => absurd rfl z, Or.inl rfl⟩) am ⟨fun j hj => absurd hj (Nat.not_lt_zero j), by rw [hM2, mI_msI, ifT ⟨rfl, rfl⟩]; rfl, by rw [(a4 181 rfl).1, hs0]; rfl, rfl⟩
  refine ⟨M3, s3, hd, sg, c, ?_, ?_, ⟨k02.tr (b3.mono (by decide) (by decide) (by decide) (by decide)), f02.tr b4⟩, b5, b6, b7, fun v hv => ?_⟩
  · unfold K_X0_aliases
    rw [show KL_X0_aliases_2 FU 0 M = some ((), M1) from a1, ob_some, nm_eq, ← hM2, show KL_X0_aliases_68 FU 0 M2 = some ((), M3) from b1, ob_some]
  · unfold F_aliases
    rw [nm_eq, ← hs0, show L_aliases_7 FU 0 s0 = some ((), s1) from a2, ob_some, show L_aliases_37 FU 0 s1 = some ((), s3) from b2, ob_some]
  · rw [b3.i rfl, k2.i rfl]
    exact (a5 v hv).2.2
end ALIAS3
