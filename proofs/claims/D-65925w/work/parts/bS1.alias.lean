/-! Layer B: aliases, both sides -/
set_option maxRecDepth 100000
/-- heads and signs -/
def AlL (V : Nat) (σ : TS) (hd : Nat → Nat) (sg : Nat → Int32) : Prop := ∀ v, v < V → hd v ≤ v ∧ hd (hd v) = hd v ∧ (hd v ≠ v → tA σ 94 v = 0 ∧ tA σ 94 (hd v) = 0) ∧ sg1 (sg v)
def AlM (D : FQ) (V : Nat) (M : CM) (s : TS) (hd : Nat → Nat) (sg : Nat → Int32) : Prop := ∀ v, v < V → (mI M 3217 ((pl D 98).getD v 0) = nI (hd v) ∧ tA s 177 v = nI (hd v)) ∧ mI M 3218 ((pl D 98).getD v 0) = sg v ∧ tA s 178 v = sg v
/-- who is gone -/
def GoR (M : CM) (s : TS) (k c : Nat) : Prop := (∀ j, j < k → mA M 128 j = tA s 180 j ∧ (tA s 180 j = 0 ∨ tA s 180 j = 1)) ∧ mI M 66 1 = nI c ∧ tI s 181 = nI c ∧ cnB (fun j => decide (tA s 180 j = 0)) k + c = k
/-- two aliases -/
def Al2 (V : Nat) (σ : TS) (M : CM) (s : TS) (a b : Nat) : Prop := (a < V ∧ b < V ∧ a ≠ b) ∧ (tA σ 94 a = 0 ∧ tA σ 94 b = 0) ∧ (mA M 117 0 = nI a ∧ tI s 182 = nI a ∧ mA M 117 1 = nI b ∧ tI s 183 = nI b) ∧ (mA M 118 0 = tI s 184 ∧ sg1 (tI s 184)) ∧ mA M 118 1 = tI s 185 ∧ sg1 (tI s 185)
section ALIAS
variable {C : PC} {P : Nat → Prop} {mss fss : List Nat} {D : FQ} {M0 M M' M1 M2 : CM} {σ σ' s s' : TS} {B V I Bm K N E A Wn q qs k c a b : Nat} {z7 : Nat → Nat} {hd : Nat → Nat} {sg : Nat → Int32}
theorem z_isAlias (W : FW C B P mss fss D M0 σ) (h : FP C P mss D M0 σ z7 V I Bm K N E A Wn q qs) (hk : k < E) (p : PA D M0 σ M s) : ∃ r M' s', K_X0_isAlias ((pl D 111).getD k 0) M = some (r, M') ∧ F_isAlias (tA s 174 k) (tA s 175 k) s = some (r, s') ∧ gaK D M M' ∧ Ft gaS s s' ∧ (r = 0 ∨ r = 1 ∧ ∃ a b, Al2 V σ M' s' a b) := by
  obtain ⟨X, ⟨⟨n1, n2, n3⟩, ⟨n4, -⟩, -⟩, -, ⟨⟨-, -, e3, e4⟩, eq⟩, -⟩ := h
  have V96 := X.2.1.1
  obtain ⟨⟨n, m1, m2⟩, n', m3, m4⟩ := eq k hk
  obtain ⟨kp, fp⟩ := p
  have k19 : ∀ M', (∀ o, mk M' o = mk M o) → mk M' ((pl D 111).getD k 0) = 19 := fun M' z => by
    rw [z, kp.k]; exact (W.2.1.2.1 111 (by decide) k (by omega)).1
  obtain ⟨M1, hM1⟩ : ∃ q, q = msI M 49 1 0 := ⟨_, rfl⟩
  obtain ⟨s1, hs1⟩ : ∃ q, q = tsI s 186 0 := ⟨_, rfl⟩
  have g1 : gaK D M M1 := by rw [hM1]; exact (KF.rf (I := [49]) (R := []) (A := [117, 118]) (X := [])).wI rfl TZ.one
  have f1 : Ft gaS s s1 := by rw [hs1]; exact (Ft.rf gaS s).p_tsI rfl
  have p1 : PA D M0 σ M1 s1 := ⟨kp.tr g1.sv, fp.tr (f1.mono (by decide))⟩
  have r0 : mR M1 3600 ((pl D 111).getD k 0) = mR M0 3600 ((pl D 111).getD k 0) := p1.1.r rfl _
  obtain ⟨ra, Ma, sa, a1, a2, a3, a4, a5⟩ := z_gather W X (by omega) n2 100 300 _ n 1 M1 s1 0 (by decide) m2 (Or.inl rfl) p1 ⟨⟨by rw [hM1, mI_msI, ifT ⟨rfl, rfl⟩]; rfl, by rw [hs1]; rfl, by decide⟩, fun z => absurd z (by decide), fun z => absurd z (by decide)⟩
  have q174 : tA s 174 k = nI n := ((fp 174 rfl).2.2.1 k).trans m1
  have q175 : tA s 175 k = nI n' := ((fp 175 rfl).2.2.1 k).trans m3
  have ka := k19 M1 (fun o => g1.k o)
  have kb := k19 Ma (fun o => (a3.k o).trans (g1.k o))
  have pa : PA D M0 σ Ma sa := ⟨p1.1.tr a3.sv, p1.2.tr (a4.mono (by decide))⟩
  have r1 : mR Ma 3601 ((pl D 111).getD k 0) = mR M0 3601 ((pl D 111).getD k 0) := pa.1.r rfl _
  unfold K_X0_isAlias F_isAlias
  unfold K_X0_gather F_gather
  rw [nm_eq, nm_eq, ← hM1, ← hs1, ifT ka, r0, q174, q175, a1, a2, ob_some, ob_some]
  rcases a5 with rfl | ⟨rfl, m, gm⟩
  · exact ⟨0, Ma, sa, rfl, rfl, g1.tr a3, f1.tr a4, Or.inl rfl⟩
  · obtain ⟨rb, Mb, sb, b1, b2, b3, b4, b5⟩ := z_gather W X (by omega) n2 100 300 _ n' (-1) Ma sa m (by decide) m4 (Or.inr rfl) pa gm
    rw [ifF (show ¬ (1 : Int32) = 0 by decide), ifF (show ¬ (1 : Int32) = 0 by decide), ifT kb, r1, b1, b2, ob_some, ob_some]
    have gg := (g1.tr a3).tr b3
    have ff := (f1.tr a4).tr b4
    rcases b5 with rfl | ⟨rfl, m', ⟨c1, c2, c3⟩, c4, c5⟩
    · exact ⟨0, Mb, sb, rfl, rfl, gg, ff, Or.inl rfl⟩
    · rw [ifF (show ¬ (1 : Int32) = 0 by decide), ifF (show ¬ (1 : Int32) = 0 by decide), c1, c2]
      by_cases e : m' = 2
      · rw [e, ifT (show nI 2 = 2 from rfl), ifT (show nI 2 = 2 from rfl)]
        obtain ⟨u, u1, u2, u3, u4, u5⟩ := c4 (by omega)
        obtain ⟨v, v1, v2, v3, v4, v5⟩ := c5 (by omega)
        rw [show ix (0 : Int32) = 0 from rfl, show ix (1 : Int32) = 1 from rfl, ifT (show inb (0 : Int32) 2 by decide), ifT (show inb (1 : Int32) 2 by decide), u3, v3, u4, v4]
        by_cases uv : u = v
        · rw [uv, ifT rfl, ifT rfl]
          exact ⟨0, Mb, sb, rfl, rfl, gg, ff, Or.inl rfl⟩
        · have ne : ¬ nI u = nI v := fun z => uv ((bI_eq (by omega) (by omega)).mp z)
          rw [ifF ne, ifF ne]
          exact ⟨1, Mb, sb, rfl, rfl, gg, ff, Or.inr ⟨rfl, u, v, ⟨u1, v1, uv⟩, ⟨u2, v2⟩, ⟨u3, u4, v3, v4⟩, u5, v5⟩⟩
      · have ne : ¬ nI m' = 2 := fun z => e ((bI_eq (b := 2) (by omega) (by decide)).mp z)
        rw [ifF ne, ifF ne]
        exact ⟨0, Mb, sb, rfl, rfl, gg, ff, Or.inl rfl⟩
/-- heads are their own -/
theorem al_init (W : FW C B P mss fss D M0 σ) (X : FlY z7 C P D mss M0 σ V I Bm) : ∀ (d j kf tf : Nat) (M : CM) (s : TS), j + d = V → d < kf → d < tf → PA D M0 σ M s → (∀ v, v < j → (mI M 3217 ((pl D 98).getD v 0) = nI v ∧ tA s 177 v = nI v) ∧ (mI M 3218 ((pl D 98).getD v 0) = 1 ∧ tA s 178 v = 1) ∧ mI M 3219 ((pl D 98).getD v 0) = -1) → ∃ M' s', KL_X0_aliases_2 kf (nI j) M = some ((), M') ∧ L_aliases_7 tf (nI j) s = some ((), s') ∧ (KF D [3217, 3218, 3219] [] [] [] M M' ∧ Ft [177, 178] s s') ∧ ∀ v, v < V → (mI M' 3217 ((pl D 98).getD v 0) = nI v ∧ tA s' 177 v = nI v) ∧ (mI M' 3218 ((pl D 98).getD v 0) = 1 ∧ tA s' 178 v = 1) ∧ mI M' 3219 ((pl D 98).getD v 0) = -1 := by
  have V96 := X.2.1.1
  have Vl := X.1.1.1
  intro d
  induction d with
  | zero =>
    intro j kf tf M s hj hk ht p ih
    obtain ⟨kf, rfl⟩ : ∃ g, kf = g + 1 := ⟨kf - 1, by omega⟩
    obtain ⟨tf, rfl⟩ : ∃ g, tf = g + 1 := ⟨tf - 1, by omega⟩
    obtain rfl : j = V := by omega
    have c1 : mI M 15 1 = nI j := (p.1.i rfl 1).trans X.2.2.2.1.1
    have c2 : tI s 107 = nI j := (p.2 107 rfl).1.trans X.2.2.1.1
    have le : nI j ≤ nI j := (bI_le (by omega) (by omega)).mpr (Nat.le_refl _)
    exact ⟨M, s, by unfold KL_X0_aliases_2; rw [c1, ifT le], by unfold L_aliases_7; rw [c2, ifT le], ⟨KF.rf, Ft.rf _ _⟩, ih⟩
  | succ d ih =>
    intro j kf tf M s hj hk ht p hv
    obtain ⟨kf, rfl⟩ : ∃ g, kf = g + 1 := ⟨kf - 1, by omega⟩
    obtain ⟨tf, rfl⟩ : ∃ g, tf = g + 1 := ⟨tf - 1, by omega⟩
    have c1 : mI M 15 1 = nI V := (p.1.i rfl 1).trans X.2.2.2.1.1
    have c2 : tI s 107 = nI V := (p.2 107 rfl).1.trans X.2.2.1.1
    have le : ¬ nI V ≤ nI j := fun z => by have := (bI_le (by omega) (by omega)).mp z; omega
    have ij : inb (nI j) 96 := inb_nI' (by omega) (by decide)
    have xj : ix (nI j) = j := ix_nI (by omega)
    have nx : nI j + 1 = nI (j + 1) := nI_addL j 1
    obtain ⟨q1, -, q3, -⟩ := X.vr W (v := j) (by omega)
    obtain ⟨o, ho⟩ : ∃ o, o = (pl D 98).getD j 0 := ⟨_, rfl⟩
    have k17 : ∀ M', (∀ q, mk M' q = mk M q) → mk M' o = 17 := fun M' z => by rw [z, p.1.k, ho]; exact q1
    obtain ⟨M', hM⟩ : ∃ q, q = msI (msI (msI M 3217 o (nI j)) 3218 o 1) 3219 o (-1) := ⟨_, rfl⟩
    obtain ⟨s', hs⟩ : ∃ q, q = tsA (tsA s 177 j (nI j)) 178 j 1 := ⟨_, rfl⟩
    have tz : TZ (tgof D o) := by rw [ho]; exact TZ.vr W.2.1 q3
    have kM1 : KF D [3217, 3218, 3219] [] [] [] M (msI M 3217 o (nI j)) := KF.rf.wI rfl tz
    have kM2 := kM1.wI (g := 3218) (x := 1) rfl tz
    have kM : KF D [3217, 3218, 3219] [] [] [] M M' := by rw [hM]; exact kM2.wI rfl tz
    have fs : Ft [177, 178] s s' := by rw [hs]; exact ((Ft.rf _ s).p_tsA rfl).p_tsA rfl
    have up : ∀ {M1}, KF D [3217, 3218, 3219] [] [] [] M M1 → KF D svI [] svA [] M0 M1 := fun z => p.1.tr (z.mono (by decide) (by decide) (by decide) (by decide))
    have get : ∀ {M1}, KF D [3217, 3218, 3219] [] [] [] M M1 → K_J2_get 98 (nI j) M1 = some (o, M1) := fun z => by rw [ho]; exact (up z).get W.2.1 (by decide) q3 rfl rfl rfl
    have inj : ∀ u, u < V → (pl D 98).getD u 0 = o → u = j := fun u hu e => (W.2.1.inj (l := 98) (l' := 98) (by decide) (by decide) (by omega) q3 (e.trans ho)).2
    obtain ⟨M2, s2, b1, b2, ⟨b3, b4⟩, b5⟩ := ih (j + 1) kf tf M' s' (by omega) (by omega) (by omega) ⟨up kM, p.2.tr (fs.mono (by decide))⟩ (fun v hv2 => by
      by_cases e : v = j
      · rw [e, ← ho, hM, hs]
        exact ⟨⟨by rw [mI_msI, ifF (by omega), mI_msI, ifF (by omega), mI_msI, ifT ⟨rfl, rfl⟩], by rw [tA_tsA, ifF (by omega), tA_tsA, ifT ⟨rfl, rfl⟩]⟩, ⟨by rw [mI_msI, ifF (by omega), mI_msI, ifT ⟨rfl, rfl⟩], by rw [tA_tsA, ifT ⟨rfl, rfl⟩]⟩, by rw [mI_msI, ifT ⟨rfl, rfl⟩]⟩
      · have ne : ¬ (pl D 98).getD v 0 = o := fun z => e (inj v (by omega) z)
        obtain ⟨⟨y1, y2⟩, ⟨y3, y4⟩, y5⟩ := hv v (by omega)
        have mi : ∀ g, mI M' g ((pl D 98).getD v 0) = mI M g ((pl D 98).getD v 0) := fun g => by rw [hM, mI_msI, ifF (fun z => ne z.2), mI_msI, ifF (fun z => ne z.2), mI_msI, ifF (fun z => ne z.2)]
        have ta : ∀ g, tA s' g v = tA s g v := fun g => by rw [hs, tA_tsA, ifF (fun z => e z.2), tA_tsA, ifF (fun z => e z.2)]
        rw [mi, mi, mi, ta, ta]
        exact ⟨⟨y1, y2⟩, ⟨y3, y4⟩, y5⟩)
    refine ⟨M2, s2, ?_, ?_, ⟨kM.tr b3, fs.tr b4⟩, b5⟩
    · unfold KL_X0_aliases_2
      rw [c1, ifF le, get KF.rf, ob_some, ifT (Or.inr (k17 M (fun _ => rfl))), ifT (k17 M (fun _ => rfl)), nm_eq, get kM1, ob_some, ifT (Or.inr (k17 (msI M 3217 o (nI j)) (fun _ => rfl))), ifT (k17 (msI M 3217 o (nI j)) (fun _ => rfl)), nm_eq, get kM2, ob_some, ifT (Or.inr (k17 (msI (msI M 3217 o (nI j)) 3218 o 1) (fun _ => rfl))), ifT (k17 (msI (msI M 3217 o (nI j)) 3218 o 1) (fun _ => rfl)), nm_eq, ← hM, nm_eq, nx]
      exact b1
    · unfold L_aliases_7
      rw [c2, ifF le, ifT ij, nm_eq, xj, ifT ij, nm_eq, ← hs, nm_eq, nx]
      exact b2
end ALIAS
