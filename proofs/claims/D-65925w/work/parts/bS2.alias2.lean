/-! Layer B: aliases: heads joined -/
set_option maxRecDepth 100000
section ALIAS2
variable {C : PC} {P : Nat → Prop} {mss fss : List Nat} {D : FQ} {M0 M M' M1 M2 : CM} {σ σ' s s' : TS} {R' A' X' I' S : List Nat} {B V I Bm K N E A Wn q qs k c a b high low : Nat} {z7 : Nat → Nat} {hd hd' : Nat → Nat} {sg sg' : Nat → Int32} {x x1 by_ : Int32}
theorem AlM.cg (h : AlM D V M s hd sg) (e : ∀ v, v < V → hd' v = hd v ∧ sg' v = sg v) : AlM D V M s hd' sg' := fun v hv => by
  rw [(e v hv).1, (e v hv).2]; exact h v hv
theorem AlM.mv (h : AlM D V M s hd sg) (k : KF D I' R' A' X' M M') (hI : I'.contains 3217 = false ∧ I'.contains 3218 = false) (f : Ft S s s') (hS : S.contains 177 = false ∧ S.contains 178 = false) : AlM D V M' s' hd sg := fun v hv => by
  obtain ⟨⟨a1, a2⟩, a3, a4⟩ := h v hv
  rw [k.i hI.1, k.i hI.2, (f 177 hS.1).2.2.1, (f 178 hS.2).2.2.1]
  exact ⟨⟨a1, a2⟩, a3, a4⟩
/-- all with one head get another -/
theorem al_merge (W : FW C B P mss fss D M0 σ) (X : FlY z7 C P D mss M0 σ V I Bm) (hh : high < 2147483648) (hlow : low < V) : ∀ (d j kf tf : Nat) (M : CM) (s : TS) (hd : Nat → Nat) (sg : Nat → Int32), j + d = V → d < kf → d < tf → PA D M0 σ M s → (∀ v, v < V → hd v < V) → AlM D V M s hd sg → ∃ M' s', KL_X0_aliases_229 kf x1 by_ (nI high) (nI low) (nI j) M = some ((), M') ∧ L_aliases_157 tf x by_ (nI low) (nI high) (nI j) s = some ((), s') ∧ (KF D [3217, 3218] [] [] [] M M' ∧ Ft [177, 178] s s') ∧ AlM D V M' s' (fun v => if j ≤ v ∧ hd v = high then low else hd v) (fun v => if j ≤ v ∧ hd v = high then sg v * by_ else sg v) := by
  have V96 := X.2.1.1
  have Vl := X.1.1.1
  intro d
  induction d with
  | zero =>
    intro j kf tf M s hd sg hj hk ht p hb al
    obtain ⟨kf, rfl⟩ : ∃ g, kf = g + 1 := ⟨kf - 1, by omega⟩
    obtain ⟨tf, rfl⟩ : ∃ g, tf = g + 1 := ⟨tf - 1, by omega⟩
    obtain rfl : j = V := by omega
    have c1 : mI M 15 1 = nI j := (p.1.i rfl 1).trans X.2.2.2.1.1
    have c2 : tI s 107 = nI j := (p.2 107 rfl).1.trans X.2.2.1.1
    have le : nI j ≤ nI j := (bI_le (by omega) (by omega)).mpr (Nat.le_refl _)
    exact ⟨M, s, by unfold KL_X0_aliases_229; rw [c1, ifT le], by unfold L_aliases_157; rw [c2, ifT le], ⟨KF.rf, Ft.rf _ _⟩, al.cg (fun v hv => ⟨ifF (by omega), ifF (by omega)⟩)⟩
  | succ d ih =>
    intro j kf tf M s hd sg hj hk ht p hb al
    obtain ⟨kf, rfl⟩ : ∃ g, kf = g + 1 := ⟨kf - 1, by omega⟩
    obtain ⟨tf, rfl⟩ : ∃ g, tf = g + 1 := ⟨tf - 1, by omega⟩
    have c1 : mI M 15 1 = nI V := (p.1.i rfl 1).trans X.2.2.2.1.1
    have c2 : tI s 107 = nI V := (p.2 107 rfl).1.trans X.2.2.1.1
    have le : ¬ nI V ≤ nI j := fun z => by have := (bI_le (by omega) (by omega)).mp z; omega
    have ij : inb (nI j) 96 := inb_nI' (by omega) (by decide)
    have xj : ix (nI j) = j := ix_nI (by omega)
    have nx : nI j + 1 = nI (j + 1) := nI_addL j 1
    obtain ⟨q1, -, q3, -⟩ := X.vr W (v := j) (by omega)
    obtain ⟨o, ho⟩ : ∃ o, o = (pl D 98).getD j 0 := ⟨_, rfl⟩
    have k17 : ∀ M', (∀ q, mk M' q = mk M q) → mk M' o = 17 := fun M' z => by rw [z, p.1.k, ho]; exact q1
    have tz : TZ (tgof D o) := by rw [ho]; exact TZ.vr W.2.1 q3
    have up : ∀ {M1}, KF D [3217, 3218] [] [] [] M M1 → KF D svI [] svA [] M0 M1 := fun z => p.1.tr (z.mono (by decide) (by decide) (by decide) (by decide))
    have get : ∀ {M1}, KF D [3217, 3218] [] [] [] M M1 → K_J2_get 98 (nI j) M1 = some (o, M1) := fun z => by rw [ho]; exact (up z).get W.2.1 (by decide) q3 rfl rfl rfl
    have inj : ∀ u, u < V → (pl D 98).getD u 0 = o → u = j := fun u hu e => (W.2.1.inj (l := 98) (l' := 98) (by decide) (by decide) (by omega) q3 (e.trans ho)).2
    obtain ⟨⟨a1, a2⟩, a3, a4⟩ := al j (by omega)
    rw [← ho] at a1 a3
    have hbj := hb j (by omega)
    by_cases e : hd j = high
    · obtain ⟨M1, hM⟩ : ∃ q, q = msI (msI M 3217 o (nI low)) 3218 o (sg j * by_) := ⟨_, rfl⟩
      obtain ⟨s1, hs⟩ : ∃ q, q = tsA (tsA s 177 j (nI low)) 178 j (sg j * by_) := ⟨_, rfl⟩
      have kM1 : KF D [3217, 3218] [] [] [] M (msI M 3217 o (nI low)) := KF.rf.wI rfl tz
      have kM : KF D [3217, 3218] [] [] [] M M1 := by rw [hM]; exact kM1.wI rfl tz
      have fs : Ft [177, 178] s s1 := by rw [hs]; exact ((Ft.rf _ s).p_tsA rfl).p_tsA rfl
      · obtain ⟨M2, s2, b1, b2, ⟨b3, b4⟩, b5⟩ := ih (j + 1) kf tf M1 s1 (fun v => if v = j then low else hd v) (fun v => if v = j then sg j * by_ else sg v) (by omega) (by omega) (by omega) ⟨up kM, p.2.tr (fs.mono (by decide))⟩ (fun v hv => by
          by_cases y : v = j
          · show (if v = j then low else hd v) < V
            rw [ifT y]; exact hlow
          · show (if v = j then low else hd v) < V
            rw [ifF y]; exact hb v hv) (fun v hv => by
          show (mI M1 3217 ((pl D 98).getD v 0) = nI (if v = j then low else hd v) ∧ tA s1 177 v = nI (if v = j then low else hd v)) ∧ mI M1 3218 ((pl D 98).getD v 0) = (if v = j then sg j * by_ else sg v) ∧ tA s1 178 v = (if v = j then sg j * by_ else sg v)
          by_cases y : v = j
          · rw [ifT y, ifT y, y, ← ho, hM, hs]
            exact ⟨⟨by rw [mI_msI, ifF (by omega), mI_msI, ifT ⟨rfl, rfl⟩], by rw [tA_tsA, ifF (by omega), tA_tsA, ifT ⟨rfl, rfl⟩]⟩, by rw [mI_msI, ifT ⟨rfl, rfl⟩], by rw [tA_tsA, ifT ⟨rfl, rfl⟩]⟩
          · have ne : ¬ (pl D 98).getD v 0 = o := fun z => y (inj v hv z)
            rw [ifF y, ifF y, hM, hs, mI_msI, ifF (fun z => ne z.2), mI_msI, ifF (fun z => ne z.2), mI_msI, ifF (fun z => ne z.2), mI_msI, ifF (fun z => ne z.2), tA_tsA, ifF (fun z => y z.2), tA_tsA, ifF (fun z => y z.2), tA_tsA, ifF (fun z => y z.2), tA_tsA, ifF (fun z => y z.2)]
            exact al v hv)
        refine ⟨M2, s2, ?_, ?_, ⟨kM.tr b3, fs.tr b4⟩, b5.cg (fun v hv => ?_)⟩
        · unfold KL_X0_aliases_229
          rw [c1, ifF le, get KF.rf, ob_some, ifT (Or.inr (k17 M (fun _ => rfl))), ifT (k17 M (fun _ => rfl)), a1, e, ifT rfl, get KF.rf, ob_some, ifT (Or.inr (k17 M (fun _ => rfl))), ifT (k17 M (fun _ => rfl)), nm_eq, get kM1, ob_some, ifT (Or.inr (k17 (msI M 3217 o (nI low)) (fun _ => rfl))), ifT (k17 (msI M 3217 o (nI low)) (fun _ => rfl)), ifT (k17 (msI M 3217 o (nI low)) (fun _ => rfl)), mI_msI, ifF (by omega), a3, nm_eq, ← hM, nm_eq, nx]
          exact b1
        · unfold L_aliases_157
          rw [c2, ifF le, ifT ij, xj, a2, e, ifT rfl, ifT ij, nm_eq, ifT ij, ifT ij, tA_tsA, ifF (by omega), a4, nm_eq, ← hs, nm_eq, nx]
          exact b2
        · show (if j ≤ v ∧ hd v = high then low else hd v) = (if j + 1 ≤ v ∧ (if v = j then low else hd v) = high then low else if v = j then low else hd v) ∧ (if j ≤ v ∧ hd v = high then sg v * by_ else sg v) = (if j + 1 ≤ v ∧ (if v = j then low else hd v) = high then (if v = j then sg j * by_ else sg v) * by_ else if v = j then sg j * by_ else sg v)
          by_cases y : v = j
          · have y4 : j ≤ v ∧ hd v = high := ⟨by omega, by rw [y]; exact e⟩
            have y5 : ∀ q : Prop, ¬ (j + 1 ≤ v ∧ q) := fun q z => by omega
            rw [ifT y4, ifT y4, ifF (y5 _), ifF (y5 _), ifT y, ifT y, y]
            exact ⟨rfl, rfl⟩
          · rw [ifF y, ifF y]
            by_cases y2 : j ≤ v ∧ hd v = high
            · have y3 : j + 1 ≤ v ∧ hd v = high := ⟨by omega, y2.2⟩
              rw [ifT y2, ifT y2, ifT y3, ifT y3]
              exact ⟨rfl, rfl⟩
            · have y3 : ¬ (j + 1 ≤ v ∧ hd v = high) := fun z => y2 ⟨by omega, z.2⟩
              rw [ifF y2, ifF y2, ifF y3, ifF y3]
              exact ⟨rfl, rfl⟩
    · have ne : ¬ nI (hd j) = nI high := fun z => e ((bI_eq (by omega) (by omega)).mp z)
      obtain ⟨M2, s2, b1, b2, b3, b5⟩ := ih (j + 1) kf tf M s hd sg (by omega) (by omega) (by omega) p hb al
      refine ⟨M2, s2, ?_, ?_, b3, b5.cg (fun v hv => ?_)⟩
      · unfold KL_X0_aliases_229
        rw [c1, ifF le, get KF.rf, ob_some, ifT (Or.inr (k17 M (fun _ => rfl))), ifT (k17 M (fun _ => rfl)), a1, ifF ne, nm_eq, nx]
        exact b1
      · unfold L_aliases_157
        rw [c2, ifF le, ifT ij, xj, a2, ifF ne, nm_eq, nx]
        exact b2
      · have eq : (j ≤ v ∧ hd v = high) = (j + 1 ≤ v ∧ hd v = high) := propext ⟨fun z => ⟨by
          have : ¬ v = j := fun y => e (by rw [← y]; exact z.2)
          omega, z.2⟩, fun z => ⟨by omega, z.2⟩⟩
        simp only [eq]
        exact ⟨trivial, trivial⟩
end ALIAS2
