/-! Layer B: unknowns, whole, both sides -/
set_option maxRecDepth 100000
/-- every derivative that stands in an equation has an unknown -/
def DeR (V E : Nat) (σ : TS) (s : TS) (hd : Nat → Nat) : Prop := ∀ k, k < E → tA s 180 k = 0 → ∀ v, v < V → DrL σ 100 (ix (tA σ 174 k)) v ∨ DrL σ 100 (ix (tA σ 175 k)) v → ∀ u, tA s 179 (hd v) = nI u → u < 180 → tA s 189 u ≠ -1
section MKU2
variable {C : PC} {P : Nat → Prop} {mss fss : List Nat} {D : FQ} {M0 M M' M1 M2 : CM} {σ σ' s s' : TS} {I' R' A' X' S : List Nat} {B V I Bm K N E A Wn q qs k c w U b o u n j : Nat} {z7 : Nat → Nat} {hd : Nat → Nat} {sg : Nat → Int32} {x y p : Int32}
theorem UvR.mv {U' : Nat} (h : UvR D V σ M s hd U) (k : KF D I' R' A' X' M M') (hI : I'.contains 3219 = false) (f : Ft S s s') (hS : S.contains 179 = false) (hU : U ≤ U') : UvR D V σ M' s' hd U' := fun v hv => by
  rw [k.i hI, (f 179 hS).2.2.1]
  rcases h v hv with ⟨a, u, b, c⟩ | a
  · exact Or.inl ⟨a, u, by omega, c⟩
  · exact Or.inr a
/-- derivatives' unknowns; hds: whose unknown j's variables' head has -/
theorem z_u130 (W : FW C B P mss fss D M0 σ) (h : FP C P mss D M0 σ z7 V I Bm K N E A Wn q qs) : ∀ (d j kf tf : Nat) (M : CM) (s : TS) (U : Nat), j + d = V → d < kf → d < tf → tI s 0 = 0 → tI s 204 = 0 → AlS D V E M0 σ M s hd sg c → UkR V M s U → UvR D V σ M s hd U →
    (∀ w, w < j → ∀ u, u < 180 → tA s 179 w = nI u → tA s 189 u = -1 → ∀ k, k < E → tA s 180 k = 0 → ∀ v, v < V → DrL σ 100 (ix (tA σ 174 k)) v ∨ DrL σ 100 (ix (tA σ 175 k)) v → hd v ≠ w) →
    (∀ w w' u, w < V → w' < V → u < 180 → tA s 179 w = nI u → tA s 179 w' = nI u → w = w') →
    (∀ w u, w < V → u < 180 → j ≤ w → tA s 179 w = nI u → tA s 189 u = -1) →
    (∃ M' s' w, KL_X0_makeUnknowns_130 kf (nI j) M = some (.inr (.inr w), M') ∧ L_makeUnknowns_170 tf (nI j) s = some ((), s') ∧ SbA D M0 σ M' s' w) ∨
    (∃ M' s' U', KL_X0_makeUnknowns_130 kf (nI j) M = some (.inl (), M') ∧ L_makeUnknowns_170 tf (nI j) s = some ((), s') ∧ (KF D [57] [] ukA [] M M' ∧ Ft ukS s s') ∧ UkR V M' s' U' ∧ UvR D V σ M' s' hd U' ∧ hcU s' U' = hcU s U ∧ ∀ w, w < V → ∀ u, u < 180 → tA s' 179 w = nI u → tA s' 189 u = -1 → ∀ k, k < E → tA s' 180 k = 0 → ∀ v, v < V → DrL σ 100 (ix (tA σ 174 k)) v ∨ DrL σ 100 (ix (tA σ 175 k)) v → hd v ≠ w) := by
  obtain ⟨X, -⟩ := id h
  have V96 := X.2.1.1
  have Vl := X.1.1.1
  intro d
  induction d with
  | zero =>
    intro j kf tf M s U hj hk ht h0 h204 al un uv hD inj hz
    obtain ⟨kf, rfl⟩ : ∃ g, kf = g + 1 := ⟨kf - 1, by omega⟩
    obtain ⟨tf, rfl⟩ : ∃ g, tf = g + 1 := ⟨tf - 1, by omega⟩
    obtain rfl : j = V := by omega
    have c1 : mI M 15 1 = nI j := (al.1.1.i rfl 1).trans X.2.2.2.1.1
    have c2 : tI s 107 = nI j := (al.1.2 107 rfl).1.trans X.2.2.1.1
    have le : nI j ≤ nI j := (bI_le (by omega) (by omega)).mpr (Nat.le_refl _)
    exact Or.inr ⟨M, s, U, by unfold KL_X0_makeUnknowns_130; rw [c1, ifT le], by unfold L_makeUnknowns_170; rw [c2, ifT le], ⟨KF.rf, Ft.rf _ _⟩, un, uv, rfl, hD⟩
  | succ d ih =>
    intro j kf tf M s U hj hk ht h0 h204 al un uv hD inj hz
    obtain ⟨kf, rfl⟩ : ∃ g, kf = g + 1 := ⟨kf - 1, by omega⟩
    obtain ⟨tf, rfl⟩ : ∃ g, tf = g + 1 := ⟨tf - 1, by omega⟩
    obtain ⟨p, al1, am, -⟩ := id al
    have c1 : mI M 15 1 = nI V := (p.1.i rfl 1).trans X.2.2.2.1.1
    have c2 : tI s 107 = nI V := (p.2 107 rfl).1.trans X.2.2.1.1
    have le : ¬ nI V ≤ nI j := fun z => by have := (bI_le (by omega) (by omega)).mp z; omega
    have ij : inb (nI j) 96 := inb_nI' (by omega) (by decide)
    have xj : ix (nI j) = j := ix_nI (by omega)
    have nx : nI j + 1 = nI (j + 1) := nI_addL j 1
    obtain ⟨q1, -, q5, q6⟩ := X.vr W (v := j) (by omega)
    obtain ⟨oo, ho⟩ : ∃ o, o = (pl D 98).getD j 0 := ⟨_, rfl⟩
    have get : K_J2_get 98 (nI j) M = some (oo, M) := by rw [ho]; exact p.1.get W.2.1 (by decide) q5 rfl rfl rfl
    have k17 : mk M oo = 17 := by rw [p.1.k, ho]; exact q1
    have nb := t_isBad0 h0
    rcases uv j (by omega) with ⟨e, u, u1, u2, u3⟩ | ⟨e, u2, u3⟩
    · rw [← ho] at u2
      have U180 := un.1.2.2
      have tn : ¬ nI u < 0 := n_neg (by omega)
      have hu := hz j u (by omega) (by omega) (Nat.le_refl _) u3
      obtain ⟨r, d1, d2, d3, d4⟩ := z_inAny (x3 := 1) W h al (w := j) (by omega)
      rcases d1 with rfl | rfl
      · have go := ih (j + 1) kf tf M s U (by omega) (by omega) (by omega) h0 h204 al un uv (fun w hw u' hu' h1 h2 => by
          by_cases z : w = j
          · rw [z]; exact d4 rfl
          · exact hD w (by omega) u' hu' h1 h2) inj (fun w u hw hu hjw => hz w u hw hu (by omega))
        have eK : KL_X0_makeUnknowns_130 (kf + 1) (nI j) M = KL_X0_makeUnknowns_130 kf (nI (j + 1)) M := by
          conv => lhs; unfold KL_X0_makeUnknowns_130
          rw [c1, ifF le, get, ob_some, ifT (Or.inr k17), ifT k17, u2, nm_eq, ifF tn, d2, ob_some, ifT rfl, nm_eq, nx]
        have eT : L_makeUnknowns_170 (tf + 1) (nI j) s = L_makeUnknowns_170 tf (nI (j + 1)) s := by
          conv => lhs; unfold L_makeUnknowns_170
          rw [c2, ifF le, nb, ob_some, ifT rfl, ifT ij, xj, u3, ifF tn, d3, ob_some, ifT rfl, nm_eq, nx]
        rw [eK, eT]
        exact go
      · have n167 := W.n167
        have nM : mn M = mn M0 := p.1.n
        have mM : ms M = ms M0 := p.1.2.2.2.2.2.2.2.2
        have rm := W.rm
        by_cases e180 : U = 180
        · left
          obtain ⟨r, s1, t1, t2, t3, t4⟩ := t_newUb (o := 1) (u := u) ⟨un.1.2.1, U180⟩ (Or.inl e180) (by decide) (by omega) h0 (nI j)
          have st : L_makeUnknowns_170 tf (nI (j + 1)) s1 = some ((), s1) := by
            obtain ⟨tf, rfl⟩ : ∃ g, tf = g + 1 := ⟨tf - 1, by omega⟩
            unfold L_makeUnknowns_170
            by_cases z : tI s1 107 ≤ nI (j + 1)
            · rw [ifT z]
            · rw [ifF z, t_isBad1 (by rw [t3]; decide), ob_some, ifF (by decide)]
          refine ⟨wM M 52 0, s1, mn M, ?_, ?_, M, 52, 0, p.1, ⟨rfl, rfl⟩, p.2.tr (t2.mono (by decide)), t3, t4.trans h204, by decide⟩
          · unfold KL_X0_makeUnknowns_130
            rw [c1, ifF le, get, ob_some, ifT (Or.inr k17), ifT k17, u2, nm_eq, ifF tn, d2, ob_some, ifF (by decide), show K_X0_newUnknown (nI j) 1 0 M = _ from k_newUb (o := 1) ⟨un.1.1, U180⟩ (Or.inl e180) (by decide) ⟨by omega, by omega, by omega⟩ (nI j) 0, obS_inr]
          · unfold L_makeUnknowns_170
            rw [c2, ifF le, nb, ob_some, ifT rfl, ifT ij, xj, u3, ifF tn, d3, ob_some, ifF (by decide), ifT ij, u3, show F_newUnknown (nI j) 1 (nI u) s = _ from t1, ob_some, nm_eq, nx, st]
        · have nu := k_newU (M := M) (U := U) (o := 1) ⟨un.1.1, by omega⟩ (by decide) (nI j) 0
          have tu := t_newU2 (s := s) (U := U) (o := 1) (u := u) ⟨un.1.2.1, by omega⟩ (by decide) (by omega) (nI j)
          obtain ⟨M1, hM1⟩ : ∃ q, q = mwA (kU5 M (nI j) (nI 1) U) 121 u (nI U) := ⟨_, rfl⟩
          obtain ⟨s1, hs1⟩ : ∃ q, q = tsA (tU5 s (nI j) (nI 1) (nI u) U) 189 u (nI U) := ⟨_, rfl⟩
          have k1 : KF D [57] [] ukA [] M M1 := by rw [hM1]; exact (kU5_k (D := D)).wA rfl ⟨by decide, by decide⟩
          have f1 : Ft ukS s s1 := by rw [hs1]; exact (tU5_f (s := s)).p_tsA rfl
          obtain ⟨b0, ⟨-, hh0⟩, -⟩ := (un.2 u u1).1
          obtain ⟨-, h187, h188⟩ := hh0 j u (by omega) (by omega) u3
          have hl : tA (tU5 s (nI j) (nI 1) (nI u) U) 187 U = tA (tU5 s (nI j) (nI 1) (nI u) U) 187 u ∧ tA (tU5 s (nI j) (nI 1) (nI u) U) 188 U = tA (tU5 s (nI j) (nI 1) (nI u) U) 188 u + 1 := by
            obtain ⟨d1, d2, -⟩ := tU5_v (s := s) (x := nI j) (y := nI 1) (p := nI u) (U := U) U
            obtain ⟨d3, d4, -⟩ := tU5_v (s := s) (x := nI j) (y := nI 1) (p := nI u) (U := U) u
            rw [d1, d2, d3, d4, ifT rfl, ifT rfl, ifF (by omega), ifF (by omega), h187, h188]
            exact ⟨rfl, by decide⟩
          have un1 : UkR V M1 s1 (U + 1) := by rw [hM1, hs1]; exact (un.new hh0 (by omega) (by omega) (by decide)).link ⟨u1, by omega⟩ hl
          have uv1 : UvR D V σ M1 s1 hd (U + 1) := uv.mv k1 rfl f1 rfl (by omega)
          have al1' := al.mv (S := ukS) k1 f1 ⟨by decide, by decide, by decide⟩ ⟨rfl, rfl, rfl, rfl⟩ (by decide)
          have t179 : ∀ w, tA s1 179 w = tA s 179 w := (f1 179 rfl).2.2.1
          have t180 : ∀ w, tA s1 180 w = tA s 180 w := (f1 180 rfl).2.2.1
          have t189 : ∀ i, tA s1 189 i = if i = u then nI U else if i = U then -1 else tA s 189 i := fun i => by
            rw [hs1, tA_tsA, (tU5_v (s := s) (x := nI j) (y := nI 1) (p := nI u) (U := U) i).2.2.1]
            by_cases z : i = u
            · rw [ifT ⟨rfl, z⟩, ifT z]
            · rw [ifF (fun y => z y.2), ifF z]
          have low : ∀ w u', w < V → u' < 180 → tA s 179 w = nI u' → u' < U := fun w u' hw hu' h1 => by
            rcases uv w hw with ⟨-, y, y1, -, y3⟩ | ⟨-, -, y3⟩
            · have := (bI_eq (by omega) (by omega)).mp (h1.symm.trans y3); omega
            · exact absurd (y3.symm.trans h1) (by
                intro y
                have : (nI u' : Int32) < 0 := by rw [← y]; decide
                exact n_neg (by omega) this)
          have go := ih (j + 1) kf tf M1 s1 (U + 1) (by omega) (by omega) (by omega) ((f1 0 rfl).1.trans h0) ((f1 204 rfl).1.trans h204) al1' un1 uv1 (fun w hw u' hu' h1 h2 k hk h3 => by
            rw [t179] at h1
            rw [t180] at h3
            rw [t189] at h2
            have := low w u' (by omega) hu' h1
            by_cases z : u' = u
            · rw [ifT z] at h2
              exact absurd (show (nI U : Int32) < 0 by rw [h2]; decide) (n_neg (by omega))
            · rw [ifF z, ifF (by omega)] at h2
              have : w ≠ j := fun y => z ((bI_eq (by omega) (by omega)).mp (by rw [← h1, y, u3]))
              exact hD w (by omega) u' hu' h1 h2 k hk h3) (fun w w' u' hw hw' hu' h1 h2 => by
            rw [t179] at h1 h2
            exact inj w w' u' hw hw' hu' h1 h2) (fun w u' hw hu' hjw h1 => by
            rw [t179] at h1
            have hl := low w u' hw hu' h1
            have : u' ≠ u := fun y => by
              have := inj w j u hw (by omega) (by omega) (by rw [← y]; exact h1) u3
              omega
            rw [t189, ifF this, ifF (by omega)]
            exact hz w u' hw hu' (by omega) h1)
          have iu : inb (nI u) 180 := inb_nI' (by omega) (by decide)
          have xu : ix (nI u) = u := ix_nI (by omega)
          have eK : KL_X0_makeUnknowns_130 (kf + 1) (nI j) M = KL_X0_makeUnknowns_130 kf (nI (j + 1)) M1 := by
            conv => lhs; unfold KL_X0_makeUnknowns_130
            rw [c1, ifF le, get, ob_some, ifT (Or.inr k17), ifT k17, u2, nm_eq, ifF tn, d2, ob_some, ifF (by decide), show K_X0_newUnknown (nI j) 1 0 M = _ from nu, obS_inl, ifT iu, xu, nm_eq, ← hM1, nm_eq, nx]
          have eT : L_makeUnknowns_170 (tf + 1) (nI j) s = L_makeUnknowns_170 tf (nI (j + 1)) s1 := by
            conv => lhs; unfold L_makeUnknowns_170
            rw [c2, ifF le, nb, ob_some, ifT rfl, ifT ij, xj, u3, ifF tn, d3, ob_some, ifF (by decide), ifT ij, u3, show F_newUnknown (nI j) 1 (nI u) s = _ from tu, ob_some, ← hs1, nm_eq, nx]
          rw [eK, eT]
          rcases go with z | ⟨M', s', U', z1, z2, ⟨z3, z4⟩, z5, z6, z7, z8⟩
          · exact Or.inl z
          · refine Or.inr ⟨M', s', U', z1, z2, ⟨k1.tr z3, f1.tr z4⟩, z5, z6, z7.trans ?_, z8⟩
            have c3 : cnB (fun i => decide (tA s1 189 i = -1)) U + 1 = cnB (fun i => decide (tA s 189 i = -1)) U := cnB_flip (i := u) (fun i hi hne => by
              show decide (tA s1 189 i = -1) = decide (tA s 189 i = -1)
              rw [t189, ifF hne, ifF (by omega)]) u1 (by rw [hu]; rfl) (by
              rw [t189, ifT rfl]
              exact decide_eq_false (fun y => n_neg (v := U) (by omega) (by rw [y]; decide)))
            have c4 : hcU s1 (U + 1) = cnB (fun i => decide (tA s1 189 i = -1)) U + if decide (tA s1 189 U = -1) = true then 1 else 0 := rfl
            have vU : tA s1 189 U = -1 := by rw [t189, ifF (by omega), ifT rfl]
            rw [c4, vU, ifT (by decide), c3]; rfl
    · rw [← ho] at u2
      have eK : KL_X0_makeUnknowns_130 (kf + 1) (nI j) M = KL_X0_makeUnknowns_130 kf (nI (j + 1)) M := by
        conv => lhs; unfold KL_X0_makeUnknowns_130
        rw [c1, ifF le, get, ob_some, ifT (Or.inr k17), ifT k17, u2, nm_eq, ifT (by decide), nm_eq, nx]
      have eT : L_makeUnknowns_170 (tf + 1) (nI j) s = L_makeUnknowns_170 tf (nI (j + 1)) s := by
        conv => lhs; unfold L_makeUnknowns_170
        rw [c2, ifF le, nb, ob_some, ifT rfl, ifT ij, xj, u3, ifT (by decide), nm_eq, nx]
      rw [eK, eT]
      exact ih (j + 1) kf tf M s U (by omega) (by omega) (by omega) h0 h204 al un uv (fun w hw u' hu' h1 h2 => by
        by_cases z : w = j
        · rw [z, u3] at h1
          exact absurd (show (nI u' : Int32) < 0 by rw [← h1]; decide) (n_neg (by omega))
        · exact hD w (by omega) u' hu' h1 h2) inj (fun w u hw hu hjw => hz w u hw hu (by omega))
/-- unknowns made -/
theorem z_makeUnknowns (W : FW C B P mss fss D M0 σ) (h : FP C P mss D M0 σ z7 V I Bm K N E A Wn q qs) (h0 : tI s 0 = 0) (al : AlS D V E M0 σ M s hd sg c) (h9 : ∀ v, v < V → mI M 3219 ((pl D 98).getD v 0) = -1) :
    (∃ M' s' w, K_X0_makeUnknowns M = some (.inr w, M') ∧ F_makeUnknowns s = some ((), s') ∧ SbA D M0 σ M' s' w) ∨
    (∃ M' s' U, K_X0_makeUnknowns M = some (.inl (), M') ∧ F_makeUnknowns s = some ((), s') ∧ AlS D V E M0 σ M' s' hd sg c ∧ tI s' 0 = 0 ∧ tI s' 204 = 0 ∧ UkR V M' s' U ∧ UvR D V σ M' s' hd U ∧ DeR V E σ s' hd ∧ (hcU s' U + c = E ∧ udc s' E ≤ E ∧ cnB (fun e => decide (tA s' 180 e = 0)) E + c = E) ∧ (KF D [57, 3219] [] ukA [] M M' ∧ Ft (179 :: 204 :: ukS) s s')) := by
  obtain ⟨X, -⟩ := id h
  have V96 := X.2.1.1
  have Vl := X.1.1.1
  have fu := fu2
  obtain ⟨p, al1, am, ⟨g1, g2, g3, g4⟩, ea⟩ := id al
  obtain ⟨M1, hM1⟩ : ∃ q, q = msI M 57 1 0 := ⟨_, rfl⟩
  obtain ⟨s1, hs1⟩ : ∃ q, q = tsI (tsI s 197 0) 204 0 := ⟨_, rfl⟩
  have k1 : KF D [57, 3219] [] ukA [] M M1 := by rw [hM1]; exact KF.rf.wI rfl TZ.one
  have f1 : Ft (179 :: 204 :: ukS) s s1 := by rw [hs1]; exact ((Ft.rf _ s).p_tsI rfl).p_tsI rfl
  have c2 : tI s1 107 = nI V := (f1 107 rfl).1.trans ((p.2 107 rfl).1.trans X.2.2.1.1)
  obtain ⟨s2, a1, a2, a3⟩ := t_u12 V96 V 0 FU s1 (by omega) (by omega) c2 (fun v hv => absurd hv (Nat.not_lt_zero v))
  have f2 : Ft (179 :: 204 :: ukS) s s2 := f1.tr (a2.mono (by decide))
  have U0 : tI s2 197 = nI 0 := by rw [(a2 197 rfl).1, hs1]; rfl
  obtain ⟨s3, b1, b2, b3⟩ := t_u35 (σ := σ) (hd := hd) V96 V 0 FU s2 (by omega) (by omega) ((a2 107 rfl).1.trans c2) (fun v hv => by
    rw [(f2 94 rfl).2.2.1, (f2 177 rfl).2.2.1, (p.2 94 rfl).2.2.1]
    exact ⟨rfl, (am v hv).1.2, by have := (al1 v hv).1; omega⟩) ⟨U0, fun w hw => ⟨fun z => absurd z.1 (Nat.not_lt_zero w), fun _ => a3 w hw⟩⟩
  have f3 : Ft (179 :: 204 :: ukS) s s3 := f2.tr (b2.mono (by decide))
  have z3 : tI s3 0 = 0 := (f3 0 rfl).1.trans h0
  have z204 : tI s3 204 = 0 := by rw [(b2 204 rfl).1, (a2 204 rfl).1, hs1]; rfl
  have al3 : AlS D V E M0 σ M1 s3 hd sg c := al.mv k1 f3 ⟨by decide, by decide, by decide⟩ ⟨rfl, rfl, rfl, rfl⟩ (by decide)
  have eT : F_makeUnknowns s = ob (L_makeUnknowns_86 FU 0 s3) fun q47 s48 => J_makeUnknowns_132 s48 := by
    unfold F_makeUnknowns
    rw [nm_eq, nm_eq, ← hs1, show L_makeUnknowns_12 FU 0 s1 = _ from a1, ob_some, show L_makeUnknowns_35 FU 0 s2 = _ from b1, ob_some]
  have hcV := cH_le σ hd V
  have tail : ∀ s', tI s' 0 ≠ 0 → J_makeUnknowns_168 s' = some ((), s') := fun s' hb => by
    obtain ⟨G, hG⟩ : ∃ G, FU = G + 1 := ⟨FU - 1, by omega⟩
    unfold J_makeUnknowns_168
    rw [hG]
    unfold L_makeUnknowns_170
    by_cases z : tI s' 107 ≤ 0
    · rw [ifT z, ob_some]
    · rw [ifF z, t_isBad1 hb, ob_some, ifF (by decide), ob_some]
  rcases z_u9 W h z3 b3 V 0 FU FU M1 (by omega) (by omega) (by omega) al3 ⟨by rw [hM1]; rfl, fun w hw => ⟨fun z => absurd z.1 (Nat.not_lt_zero w), fun _ => by rw [hM1, mI_msI, ifF (by omega)]; exact h9 w hw⟩⟩ with ⟨M', s', w, d1, d2, d3, d4⟩ | ⟨M2, d1, d2, d3, d4⟩
  · left
    have hb : tI s' 0 ≠ 0 := by
      obtain ⟨-, r, -, -, -, -, r1, -, r2⟩ := d3
      rw [r1]; exact r2
    refine ⟨M', s', w, ?_, ?_, d3⟩
    · unfold K_X0_makeUnknowns
      rw [nm_eq, ← hM1, show KL_X0_makeUnknowns_9 FU 0 0 M1 = _ from d1, obS_inr]
    · rw [eT, show L_makeUnknowns_86 FU 0 s3 = _ from d2, ob_some]
      unfold J_makeUnknowns_132
      rw [nm_eq, nm_eq, t_isBad1 hb, ob_some, ifF (by decide), tail s' hb]
  · have al4 := al3.mv (S := []) d3 (Ft.rf _ _) ⟨by decide, by decide, rfl⟩ ⟨rfl, rfl, rfl, rfl⟩ (by decide)
    obtain ⟨p4, -, -, ⟨-, h66, h181, hcE⟩, -⟩ := id al4
    have m35 : mI M2 35 1 = nI E := (p4.1.i rfl 1).trans h.2.2.2.1.1.1
    have t144 : tI s3 144 = nI E := (p4.2 144 rfl).1.trans h.2.2.2.1.1.2.1
    have eK : K_X0_makeUnknowns M = if nI (cH σ hd V) = nI E - nI c then obS (KL_X0_makeUnknowns_130 FU 0 M2) (fun r74 M71 => some (r74, M71)) fun q70 M71 => some (.inl (), M71) else ob (K_X0_wrong 51 (nI E - nI c - nI (cH σ hd V)) M2) fun r76 M75 => if mk M75 r76 = 7 then some (.inr r76, M75) else none := by
      unfold K_X0_makeUnknowns
      rw [nm_eq, ← hM1, show KL_X0_makeUnknowns_9 FU 0 0 M1 = _ from d1, obS_inl, m35, h66]
    have eT2 : F_makeUnknowns s = if nI E - nI c = nI (cH σ hd V) then J_makeUnknowns_168 s3 else ob (F_bad 51 (nI E - nI c - nI (cH σ hd V)) s3) fun r82 s81 => J_makeUnknowns_168 s81 := by
      rw [eT, show L_makeUnknowns_86 FU 0 s3 = _ from d2, ob_some]
      unfold J_makeUnknowns_132
      rw [nm_eq, nm_eq, t_isBad0 z3, ob_some, ifT rfl, b3.1, t144, h181]
    rw [eK, eT2]
    have n167 := W.n167
    have nM : mn M2 = mn M0 := p4.1.n
    have mM : ms M2 = ms M0 := p4.1.2.2.2.2.2.2.2.2
    have rm := W.rm
    by_cases e : nI (cH σ hd V) = nI E - nI c
    · rw [ifT e, ifT e.symm]
      have low : ∀ w, w < V → isH σ hd w → cH σ hd w < cH σ hd V := fun w hw hi => cH_lt hi hw
      have ne1 : ∀ u : Nat, u < 180 → ¬ (-1 : Int32) = nI u := fun u hu y => n_neg (v := u) (by omega) (by rw [← y]; decide)
      have hH : HdU V s3 (cH σ hd V) := fun v w hv hw hy => by
        by_cases hi : isH σ hd v
        · obtain ⟨y1, y2, -, y3⟩ := (b3.2 v hv).1 ⟨hv, hi⟩
          have l := low v hv hi
          have e : cH σ hd v = w := (bI_eq (by omega) (by omega)).mp (y3.symm.trans hy)
          rw [← e]; exact ⟨l, y1, y2⟩
        · exact absurd (((b3.2 v hv).2 (fun z => hi z.2)).symm.trans hy) (ne1 w hw)
      have un : UkR V M2 s3 (cH σ hd V) := ⟨⟨d4.1, b3.1, by omega⟩, fun u hu => by
        obtain ⟨v, v1, v2, v3⟩ := cH_inv V u hu
        obtain ⟨x1, x2, x3, -⟩ := (d4.2 v v1).1 ⟨v1, v2⟩
        obtain ⟨y1, y2, y3, -⟩ := (b3.2 v v1).1 ⟨v1, v2⟩
        rw [← v3, x1, x2, x3, y1, y2, y3]
        exact ⟨⟨v, ⟨v1, hH⟩, rfl, rfl⟩, ⟨0, by decide, rfl, rfl⟩, rfl, Or.inl rfl⟩⟩
      have uv : UvR D V σ M2 s3 hd (cH σ hd V) := fun v hv => by
        by_cases hi : isH σ hd v
        · obtain ⟨-, -, -, x3⟩ := (d4.2 v hv).1 ⟨hv, hi⟩
          obtain ⟨-, -, -, y3⟩ := (b3.2 v hv).1 ⟨hv, hi⟩
          exact Or.inl ⟨hi, _, low v hv hi, x3, y3⟩
        · exact Or.inr ⟨hi, (d4.2 v hv).2 (fun z => hi z.2), (b3.2 v hv).2 (fun z => hi z.2)⟩
      have t179 : ∀ w u, w < V → u < 180 → tA s3 179 w = nI u → isH σ hd w ∧ cH σ hd w = u := fun w u hw hu hy => by
        by_cases hi : isH σ hd w
        · obtain ⟨-, -, -, y3⟩ := (b3.2 w hw).1 ⟨hw, hi⟩
          have := low w hw hi
          exact ⟨hi, (bI_eq (by omega) (by omega)).mp (y3.symm.trans hy)⟩
        · exact absurd (((b3.2 w hw).2 (fun z => hi z.2)).symm.trans hy) (ne1 u hu)
      rcases z_u130 W h V 0 FU FU M2 s3 (cH σ hd V) (by omega) (by omega) (by omega) z3 z204 al4 un uv (fun w hw => absurd hw (Nat.not_lt_zero w)) (fun w w' u hw hw' hu hy hy' => by
        obtain ⟨i1, i2⟩ := t179 w u hw hu hy
        obtain ⟨j1, j2⟩ := t179 w' u hw' hu hy'
        rcases Nat.lt_trichotomy w w' with z | z | z
        · have := cH_lt i1 z; omega
        · exact z
        · have := cH_lt j1 z; omega) (fun w u hw hu _ hy => by
        obtain ⟨i1, i2⟩ := t179 w u hw hu hy
        rw [← i2]
        exact ((b3.2 w hw).1 ⟨hw, i1⟩).2.2.1) with ⟨M', s', w, l1, l2, l3⟩ | ⟨M', s', U', l1, l2, ⟨l3, l4⟩, l5, l6, l66, l7⟩
      · left
        exact ⟨M', s', w, by rw [show KL_X0_makeUnknowns_130 FU 0 M2 = _ from l1, obS_inr], by unfold J_makeUnknowns_168; rw [show L_makeUnknowns_170 FU 0 s3 = _ from l2, ob_some], l3⟩
      · right
        refine ⟨M', s', U', by rw [show KL_X0_makeUnknowns_130 FU 0 M2 = _ from l1, obS_inl], by unfold J_makeUnknowns_168; rw [show L_makeUnknowns_170 FU 0 s3 = _ from l2, ob_some], al4.mv l3 l4 ⟨by decide, by decide, by decide⟩ ⟨rfl, rfl, rfl, rfl⟩ (by decide), (l4 0 rfl).1.trans z3, (l4 204 rfl).1.trans z204, l5, l6, fun k hk h180 v hv hdr u hu1 hu2 hu3 => ?_, ?_, (k1.tr d3).tr (l3.mono (by decide) (by decide) (by decide) (by decide)), f3.tr (l4.mono (by decide))⟩
        have := (al1 v hv).1
        exact l7 (hd v) (by omega) u hu2 hu1 hu3 k hk h180 v hv hdr rfl
        have al5 := al4.mv l3 l4 ⟨by decide, by decide, by decide⟩ ⟨rfl, rfl, rfl, rfl⟩ (by decide)
        refine ⟨?_, cnB_le _ _, al5.2.2.2.1.2.2.2⟩
        have h0' : ∀ n, n ≤ cH σ hd V → cnB (fun u => decide (tA s3 189 u = -1)) n = n := fun n => by
          induction n with
          | zero => intro _; rfl
          | succ n ihn =>
            intro hn
            obtain ⟨v, v1, v2, v3⟩ := cH_inv (σ := σ) (hd := hd) V n (by omega)
            have := ((b3.2 v v1).1 ⟨v1, v2⟩).2.2.1
            rw [v3] at this
            rw [show cnB (fun u => decide (tA s3 189 u = -1)) (n + 1) = cnB (fun u => decide (tA s3 189 u = -1)) n + (if decide (tA s3 189 n = -1) = true then 1 else 0) from rfl, ihn (by omega), this, ifT (by decide)]
        have e1 : hcU s3 (cH σ hd V) = cH σ hd V := h0' _ (Nat.le_refl _)
        have E120 : E ≤ 120 := h.2.2.2.1.1.2.2.1
        rw [nI_sub (show c ≤ E by omega), bI_eq (by omega) (by omega)] at e
        rw [l66, e1]; omega
    · rw [ifF e, ifF (fun z => e z.symm)]
      left
      obtain ⟨s4, hs4⟩ : ∃ q, q = tsI (tsI s3 0 51) 1 (nI E - nI c - nI (cH σ hd V)) := ⟨_, rfl⟩
      have f4 : Ft [0, 1] s3 s4 := by rw [hs4]; exact ((Ft.rf _ s3).p_tsI rfl).p_tsI rfl
      have h4 : tI s4 0 = 51 := by rw [hs4]; rfl
      refine ⟨_, s4, mn M2, by rw [k_wrong ⟨by omega, by omega⟩ (by omega), ob_some, ifT (wM_k M2 51 _)], by rw [t_bad z3, ob_some, ← hs4, tail s4 (by rw [h4]; decide)], M2, 51, nI E - nI c - nI (cH σ hd V), p4.1, ⟨rfl, rfl⟩, p4.2.tr (f4.mono (by decide)), h4, by rw [hs4]; rfl, by decide⟩
end MKU2
