/-! Layer B: the flat model: calls and arguments, both sides -/
set_option maxRecDepth 100000
section CALL2
variable {C : PC} {D D' D1 D2 : FQ} {M M' M1 M2 M3 : CM} {σ σ' σ1 σ2 : TS} {mss fss ps : List Nat} {B V I Bm b c e f z w q Lp dc n j p x o o1 o2 o3 md x0 l X N0 K K' K1 N N' N1 ar nf d h s s1 s2 a i u1 u2 u3 v : Nat} {P T : Nat → Prop} {x3 x4 tw op op' vl y y2 y3 y4 tok kop u : Int32} {z7 : Nat → Nat} {S : List Nat} {kr : Option ((Nat ⊕ Nat) × CM)} {tr : Option (Int32 × TS)} {cfK : Nat → Nat → Int32 → Int32 → Int32 → CM → Option ((Nat ⊕ Nat) × CM)} {cfT : Int32 → Int32 → Int32 → Int32 → TS → Option (Int32 × TS)} {kk : Nat → CM → Option ((Nat ⊕ Nat) × CM)} {tt : Int32 → TS → Option (Int32 × TS)}
variable {as : List Nat} {R : Nat → Nat → Prop} {k L : Nat}
theorem FlO.up (hh : FlO md x0 l X N0 z7 C B P mss fss V I Bm Lp dc x3 s h L D M σ K N kr tr) : FlO md x0 l X N0 z7 C B P mss fss V I Bm Lp dc x3 s (h + 1) L D M σ K N kr tr := by
  rcases hh with hh | ⟨D', M', σ', K', N', a, n, b1, b2, b3, b4, b5, b6, z, b7, b8⟩
  · exact Or.inl hh
  · exact Or.inr ⟨D', M', σ', K', N', a, n, b1, b2, b3, b4, b5, NdR.mv NdK.rf (Nat.le_refl _) (Nat.le_refl _) (Nat.le_refl _) _ _ _ _ _ (Nat.le_succ h) b6, z, SzR.mv Nd4.rf (Nat.le_refl _) _ _ _ _ _ (Nat.le_succ h) (Nat.le_refl _) b7, b8⟩
/-- the node of an argument -/
theorem t_b695 (hn : n < 9000) (h25 : tA σ 25 n = nI k) (hk : k < 100) : ∀ (d j p f : Nat) (as : List Nat), j + d = k → d < f → d < as.length → p < 9000 → AgR R L N σ as p → ∃ p' e, L_build_695 cfT f (nI n) y2 y3 y4 (nI p) (nI j) σ = some (nI p', σ) ∧ p' < 9000 ∧ tA σ 25 p' = nI e ∧ e < 9000 ∧ R (as.getD d 0) e := by
  have i9 : inb (nI n) 9000 := inb_nI' hn (by decide)
  have x9 : ix (nI n) = n := ix_nI (by omega)
  intro d
  induction d with
  | zero =>
    intro j p f as hj hf hl hp ha
    obtain ⟨f, rfl⟩ : ∃ g, f = g + 1 := ⟨f - 1, by omega⟩
    cases as with
    | nil => exact absurd hl (by decide)
    | cons o os =>
      obtain ⟨-, ⟨e, e1, e2, e3⟩, -⟩ := ha
      refine ⟨p, e, ?_, hp, e1, e2, e3⟩
      rw [L_build_695, ifT i9, x9, h25, ifT ((bI_le (by omega) (by omega)).mpr (by omega))]
  | succ d ih =>
    intro j p f as hj hf hl hp ha
    obtain ⟨f, rfl⟩ : ∃ g, f = g + 1 := ⟨f - 1, by omega⟩
    cases as with
    | nil => exact absurd hl (Nat.not_lt_zero _)
    | cons o os =>
      obtain ⟨-, -, q, q1, q2, q3⟩ := ha
      obtain ⟨p', e, a1, a2⟩ := ih (j + 1) q f os (by omega) (by omega) (Nat.lt_of_succ_lt_succ hl) q2 q3
      refine ⟨p', e, ?_, a2⟩
      rw [L_build_695, ifT i9, x9, h25, ifF (fun z => by have := (bI_le (by omega) (by omega)).mp z; omega), ifT (inb_nI' hp (by decide)), ix_nI (show p < 2147483648 by omega), q1, nm_eq, nI_addL, nm_eq]
      exact a1
theorem t_arg (h0 : tI σ 0 = 0) (hn : n < 9000) (h24 : tA σ 24 n = 42) {k3 : Nat} (h3 : k3 < 400) (hp : tA σ 135 k3 = nI p) {p' : Nat} (hl : L_build_695 cfT FU (nI n) y2 (nI k3) y4 (nI p) 0 σ = some (nI p', σ)) (hp' : p' < 9000) : J_build_21 cfT (nI n) y2 (nI k3) y4 σ = cfT (tA σ 25 p') y2 (tA σ 136 k3) (y4 + 1) σ := by
  have i9 : inb (nI n) 9000 := inb_nI' hn (by decide)
  have x9 : ix (nI n) = n := ix_nI (by omega)
  unfold J_build_21
  rw [t_isBad0 h0, ob_some, ifT (rfl : (0 : Int32) = 0), ifT i9, x9, h24, nm_eq, ifF (show ¬ (42 : Int32) = 0 by decide), ifF (show ¬ (42 : Int32) = 1 by decide), ifF (show ¬ (42 : Int32) = 2 by decide), ifF (show ¬ (42 : Int32) = 3 by decide), ifF (show ¬ (42 : Int32) = 4 by decide), ifF (show ¬ (42 : Int32) = 5 by decide), ifF (show ¬ (42 : Int32) = 6 by decide), ifF (show ¬ (42 : Int32) = 7 by decide), ifF (show ¬ (42 : Int32) = 8 by decide), ifF (show ¬ (42 : Int32) = 9 by decide), ifF (show ¬ (42 : Int32) = 10 by decide), ifF (show ¬ (42 : Int32) = 11 by decide), ifF (show ¬ (42 : Int32) = 12 by decide), ifF (show ¬ (42 : Int32) = 13 by decide), ifF (show ¬ (42 : Int32) = 14 by decide), ifF (show ¬ (42 : Int32) = 15 by decide), ifF (show ¬ (42 : Int32) = 16 by decide), ifF (show ¬ (42 : Int32) = 17 by decide), ifF (show ¬ (42 : Int32) = 18 by decide), ifF (show ¬ (42 : Int32) = 19 by decide), ifF (show ¬ (42 : Int32) = 20 by decide), ifF (show ¬ (42 : Int32) = 21 by decide), ifF (show ¬ (42 : Int32) = 22 by decide), ifF (show ¬ (42 : Int32) = 23 by decide), ifF (show ¬ (42 : Int32) = 24 by decide), ifF (show ¬ (42 : Int32) = 25 by decide), ifF (show ¬ (42 : Int32) = 26 by decide), ifF (show ¬ (42 : Int32) = 27 by decide), ifF (show ¬ (42 : Int32) = 28 by decide), ifF (show ¬ (42 : Int32) = 29 by decide), ifF (show ¬ (42 : Int32) = 30 by decide), ifF (show ¬ (42 : Int32) = 31 by decide), ifF (show ¬ (42 : Int32) = 32 by decide), ifF (show ¬ (42 : Int32) = 33 by decide), ifF (show ¬ (42 : Int32) = 34 by decide), ifF (show ¬ (42 : Int32) = 35 by decide), ifF (show ¬ (42 : Int32) = 36 by decide), ifF (show ¬ (42 : Int32) = 37 by decide), ifF (show ¬ (42 : Int32) = 38 by decide), ifF (show ¬ (42 : Int32) = 39 by decide), ifF (show ¬ (42 : Int32) = 40 by decide), ifF (show ¬ (42 : Int32) = 41 by decide), ifT (rfl : (42 : Int32) = 42), ifT (inb_nI' h3 (by decide)), ix_nI (show k3 < 2147483648 by omega), hp, nm_eq, hl, ob_some, ifT (inb_nI' hp' (by decide)), ifT (inb_nI' h3 (by decide)), ix_nI (show p' < 2147483648 by omega), ob_id]
theorem t_cal (h0 : tI σ 0 = 0) (hn : n < 9000) (h24 : tA σ 24 n = 40) (h137 : tI σ 137 = nI dc) (hdc : dc < 100) (h25 : tA σ 25 n = nI k) (hk : k < 12) (h26 : tA σ 26 n = nI p) : J_build_21 cfT (nI n) y2 y3 y4 σ = ob (cfT (tA σ 43 k) y2 (nI (dc + 1)) (y4 + 1) (pshT σ dc p y3)) fun r s => some (r, tsI s 137 (tI s 137 - 1)) := by
  have i9 : inb (nI n) 9000 := inb_nI' hn (by decide)
  have x9 : ix (nI n) = n := ix_nI (by omega)
  have id1 : inb (nI (dc + 1)) 400 := inb_nI' (by omega) (by decide)
  have e137 : tI (tsI σ 137 (nI (dc + 1))) 137 = nI (dc + 1) := rfl
  have e26 : tA (tsI σ 137 (nI (dc + 1))) 26 n = nI p := h26
  have e25 : tA (tsA (tsA (tsI σ 137 (nI (dc + 1))) 135 (dc + 1) (nI p)) 136 (dc + 1) y3) 25 n = nI k := h25
  have e43 : tA (tsA (tsA (tsI σ 137 (nI (dc + 1))) 135 (dc + 1) (nI p)) 136 (dc + 1) y3) 43 k = tA σ 43 k := rfl
  unfold J_build_21
  rw [t_isBad0 h0, ob_some, ifT (rfl : (0 : Int32) = 0), ifT i9, x9, h24, nm_eq, ifF (show ¬ (40 : Int32) = 0 by decide), ifF (show ¬ (40 : Int32) = 1 by decide), ifF (show ¬ (40 : Int32) = 2 by decide), ifF (show ¬ (40 : Int32) = 3 by decide), ifF (show ¬ (40 : Int32) = 4 by decide), ifF (show ¬ (40 : Int32) = 5 by decide), ifF (show ¬ (40 : Int32) = 6 by decide), ifF (show ¬ (40 : Int32) = 7 by decide), ifF (show ¬ (40 : Int32) = 8 by decide), ifF (show ¬ (40 : Int32) = 9 by decide), ifF (show ¬ (40 : Int32) = 10 by decide), ifF (show ¬ (40 : Int32) = 11 by decide), ifF (show ¬ (40 : Int32) = 12 by decide), ifF (show ¬ (40 : Int32) = 13 by decide), ifF (show ¬ (40 : Int32) = 14 by decide), ifF (show ¬ (40 : Int32) = 15 by decide), ifF (show ¬ (40 : Int32) = 16 by decide), ifF (show ¬ (40 : Int32) = 17 by decide), ifF (show ¬ (40 : Int32) = 18 by decide), ifF (show ¬ (40 : Int32) = 19 by decide), ifF (show ¬ (40 : Int32) = 20 by decide), ifF (show ¬ (40 : Int32) = 21 by decide), ifF (show ¬ (40 : Int32) = 22 by decide), ifF (show ¬ (40 : Int32) = 23 by decide), ifF (show ¬ (40 : Int32) = 24 by decide), ifF (show ¬ (40 : Int32) = 25 by decide), ifF (show ¬ (40 : Int32) = 26 by decide), ifF (show ¬ (40 : Int32) = 27 by decide), ifF (show ¬ (40 : Int32) = 28 by decide), ifF (show ¬ (40 : Int32) = 29 by decide), ifF (show ¬ (40 : Int32) = 30 by decide), ifF (show ¬ (40 : Int32) = 31 by decide), ifF (show ¬ (40 : Int32) = 32 by decide), ifF (show ¬ (40 : Int32) = 33 by decide), ifF (show ¬ (40 : Int32) = 34 by decide), ifF (show ¬ (40 : Int32) = 35 by decide), ifF (show ¬ (40 : Int32) = 36 by decide), ifF (show ¬ (40 : Int32) = 37 by decide), ifF (show ¬ (40 : Int32) = 38 by decide), ifF (show ¬ (40 : Int32) = 39 by decide), ifT (rfl : (40 : Int32) = 40), h137, nI_addL, nm_eq, e137, nm_eq, ifT i9, ifT id1, ix_nI (show dc + 1 < 2147483648 by omega), e26, nm_eq, ifT id1, nm_eq, ifT i9, e25, ifT (inb_nI' hk (by decide)), ix_nI (show k < 2147483648 by omega), e43]
  rfl
/-- an argument -/
theorem z_arg (ih : FlJ md x0 l X N0 z7 C B P mss fss V I Bm Lp x3 i cfK cfT h) (Fs : FSt md x0 l X N0 z7 C B P mss fss D M σ V I Bm K N Lp dc x3) (hB1 : B ≤ 1280) (hd : dc + (h + 1) ≤ 100) (cx : CaX P D M x4 tw dc ar) (Po : P o ∧ mk M o = 8) (hn : n < tN σ) (h1 : mI M 1400 o = 109) (h2 : tA σ 24 n = 42) (h3 : mI M 1401 o = nI k) (h4 : tA σ 25 n = nI k) (hk : k < ar ∧ ar ≤ 4) :
    FlO md x0 l X N0 z7 C B P mss fss V I Bm Lp dc x3 0 (h + 1) N D M σ K N (KB_X0_flatten_3 cfK o ((pl D 99).getD i 0) x3 x4 (nI (100 - h)) M) (B_build cfT (nI n) (nI i) tw (nI (100 - h)) σ) := by
  have N7 := Fs.N7 hB1
  have h0 := Fs.2.2.2.2.2.2.2
  have x5 := d100 hd
  have fu := FUb
  have Fs0 := Fs
  obtain ⟨W, FX, NS, LP, CA, ⟨hd1, hd2, hd3⟩, hx3, -⟩ := Fs
  rcases cx with ⟨-, -, cx⟩ | ⟨kc, c1, rfl, rfl, c4, as', c5, c6⟩
  · omega
  · obtain ⟨as, p, ark, nfk, d, ⟨⟨a1, a2⟩, a3⟩, ⟨a4, a5⟩, a6, a7, a8⟩ := CA kc c1
    have eas : as = as' := a3.1.uq c5.1
    subst eas
    have g1 := ls_get (W.2.1.1 109 (by decide)).1 (show kc < (pl D 109).length by omega)
    have g2 := ls_get a3.1 (show k < as.length by omega)
    obtain ⟨p', e, l1, l2, l3, l4, l5⟩ := t_b695 (cfT := cfT) (y2 := nI i) (y3 := nI (kc + 1)) (y4 := nI (100 - h)) (show n < 9000 by omega) h4 (by omega) k 0 p FU as (by omega) (by omega) (by omega) a5 a7
    have l5' := l5
    have ka : mk M (as.getD k 0) = 8 := by
      cases d with
      | zero => exact l5'.elim
      | succ d => exact l5'.1.2.1
    rw [t_b21 h0 x5, t_arg h0 (by omega) h2 (by omega) a4 l1 l2, l3]
    unfold KB_X0_flatten_3
    rw [ifT x5, ifT Po.2, h1, ifF (show ¬ (109 : Int32) = 26 by decide), ifF (show ¬ (109 : Int32) = 27 by decide), ifF (show ¬ (109 : Int32) = 29 by decide), ifF (show ¬ (109 : Int32) = 30 by decide), ifF (show ¬ (109 : Int32) = 100 by decide), ifF (show ¬ (109 : Int32) = 101 by decide), ifF (show ¬ (109 : Int32) = 102 by decide), ifF (show ¬ (109 : Int32) = 108 by decide), ifT (rfl : (109 : Int32) = 109), g1, ob_some, ifT (Or.inr a2), ifT a2, ifT Po.2, ifT a3.1.1, h3, g2, ob_some, ifT (Or.inr ka), ifT (inb_nI' (by omega) (by decide)), ix_nI (show kc < 2147483648 by omega), obS_id]
    have e1 : nI (100 - h) + 1 = nI (101 - h) := by rw [nI_addL]; congr 1; omega
    rw [e1]
    refine FlO.up (ih D M σ K N dc (mA M 110 kc) (tA σ 136 (kc + 1)) ark nfk d 0 _ e Fs0 (by omega) a6 l5 ?_)
    rcases a8 with a8 | ⟨k2, b1, b2⟩
    · exact Or.inl a8
    · exact Or.inr ⟨k2, by omega, b2⟩
/-- a call -/
theorem z_cal (ih : FlJ md x0 l X N0 z7 C B P mss fss V I Bm Lp x3 i cfK cfT h) (Fs : FSt md x0 l X N0 z7 C B P mss fss D M σ V I Bm K N Lp dc x3) (hB1 : B ≤ 1280) (hd : dc + (h + 1) ≤ 100) (hnf : nf ≤ cnf C) (cx : CaX P D M x4 tw dc ar) (Po : P o ∧ mk M o = 8) (hn : n < tN σ) (h1 : mI M 1400 o = 108) (h2 : tA σ 24 n = 40) (h3 : mR M 1407 o = cfn C k) (hk : k < nf ∧ nf ≤ 12) (h4 : tA σ 25 n = nI k) (h5 : LsP P M (mR M 1406 o) as) (h6 : tA σ 42 k = nI as.length) (h7 : tA σ 26 n = nI p) (h8 : p < 9000) (ag : AgR (AR P (tN σ) (tQ σ) (cm C) ar nf (cfn C) M σ d 0) (cfn C 1000) (tN σ) σ as p) :
    FlO md x0 l X N0 z7 C B P mss fss V I Bm Lp dc x3 0 (h + 1) N D M σ K N (KB_X0_flatten_3 cfK o ((pl D 99).getD i 0) x3 x4 (nI (100 - h)) M) (B_build cfT (nI n) (nI i) tw (nI (100 - h)) σ) := by
  have N7 := Fs.N7 hB1
  have h0 := Fs.2.2.2.2.2.2.2
  have x5 := d100 hd
  have nl := Fs.nl
  obtain ⟨hd1, hd2, hd3⟩ := Fs.2.2.2.2.2.1
  have fc := Fs.1.1.2.2.2.2.2.1.2.2.1 k (by omega)
  obtain ⟨f1, f2, bs, nb, db, f3, f4, f5, f6, f7, f8⟩ := fc
  obtain ⟨D1, M1, a1, a2, Fs2, v, dx, nk, sg, f, ht, oo, h110, hp, hp9⟩ := Fs.psh (x4 := x4) (tw := tw) (by omega) Po h5 h8 hnf ag cx
  have so := v.2.1.1 _ Po.1
  have sf := v.2.1.1 _ f1
  have kM : mk (mwA M1 110 dc x4) o = 8 := by rw [so.k]; exact Po.2
  have rM : mR (mwA M1 110 dc x4) 1407 o = cfn C k := by rw [so.r]; exact h3
  have fM : mk (mwA M1 110 dc x4) (cfn C k) = 6 := by rw [sf.k]; exact f2
  have bM : mR (mwA M1 110 dc x4) 1002 (cfn C k) = mR M 1002 (cfn C k) := sf.r _
  have lb : bs.length = as.length := by
    have : nI bs.length = nI as.length := f5.symm.trans h6
    have m := h5.1.2.2.1
    exact (bI_eq (by omega) (by omega)).mp this
  have e1 : nI (100 - h) + 1 = nI (101 - h) := by rw [nI_addL]; congr 1; omega
  have cx2 : CaX P D1 (mwA M1 110 dc x4) (nI dc) (nI (dc + 1)) (dc + 1) bs.length := by
    have e9 : (pl D1 109).getD dc 0 = o := by rw [hp9, show dc = (pl D 109).length + 0 by omega, getD_app_r]; rfl
    refine Or.inr ⟨dc, Nat.lt_succ_self dc, rfl, rfl, by rw [e9]; exact Po.1, as, ?_, lb.symm⟩
    rw [e9, so.r]
    exact h5.wz v (fun _ z => z)
  have A2 := AR.wz v (fun _ z => z) ⟨Nat.le_refl k, by omega, by omega⟩ db db 0 _ nb (Nat.le_refl db) f8
  have go := ih D1 (mwA M1 110 dc x4) (pshT σ dc p tw) K N (dc + 1) (nI dc) (nI (dc + 1)) bs.length k db 0 (mR M 1002 (cfn C k)) nb Fs2 (by omega) (by omega) A2 cx2
  have p99 : pl D1 99 = pl D 99 := hp 99 (by decide)
  rw [t_b21 h0 x5, t_cal h0 (by omega) h2 hd3 (by omega) h4 (by omega) h7, f6]
  unfold KB_X0_flatten_3
  rw [ifT x5, ifT Po.2, h1, ifF (show ¬ (108 : Int32) = 26 by decide), ifF (show ¬ (108 : Int32) = 27 by decide), ifF (show ¬ (108 : Int32) = 29 by decide), ifF (show ¬ (108 : Int32) = 30 by decide), ifF (show ¬ (108 : Int32) = 100 by decide), ifF (show ¬ (108 : Int32) = 101 by decide), ifF (show ¬ (108 : Int32) = 102 by decide), ifT (rfl : (108 : Int32) = 108), a1, ob_some, a2, ob_some, nI_subL _ _ (show 1 ≤ dc + 1 by omega), nm_eq]
  rw [show dc + 1 - 1 = dc from rfl, ifT (inb_nI' (by omega) (by decide)), ix_nI (show dc < 2147483648 by omega), nm_eq, ifT kM, rM, ifT fM, bM, e1]
  rw [p99] at go
  rcases go with ⟨M', σ', w, y, b1, b2, b3, b4, N', b5, b6⟩ | ⟨D', M', σ', K', N', a, n', b1, b2, Fs', ⟨k1, n1⟩, T, nd, zz, sz1, sz2⟩
  · rw [b1, obS_inr, b2, ob_some]
    refine Or.inl ⟨M', _, w, y, rfl, rfl, (b3.tr sg).tws (S := [137]) ((Ft.rf _ σ').p_tsI rfl) (by decide) (by decide) (by decide), b4, N', b5, b6⟩
  · obtain ⟨t1, t2, t3, t4, t5, t6, ⟨t7, t8, t9⟩, t10, t11, t12⟩ := T
    obtain ⟨M3, c1, Fs3, v3, nk3, sg3, ⟨o1, o2, o3⟩, h1103⟩ := Fs'.pop (t12.1.trans hp9)
    have e137 : tI σ' 137 - 1 = nI dc := by rw [Fs'.2.2.2.2.2.1.2.2, nI_subL _ _ (show 1 ≤ dc + 1 by omega)]; rfl
    have dxx : Dx D D' M := dx.tr t2 v.1.1
    rw [b1, obS_inl, b2, ob_some, c1, ob_some, e137]
    refine Or.inr ⟨_, M3, _, K', N', a, n', rfl, rfl, Fs3, ⟨k1, n1⟩, ⟨(v.tr t1 (fun _ z => z)).tr v3 (fun _ z => z), ⟨fun l' k' hk' => ?_, fun o ho => ?_⟩, (nk.tr t3 (Nat.le_refl K) (Nat.le_refl N)).tr nk3 k1 n1, (sg.tr t4).tr sg3, ((f.mono (by decide)).tr t5).tr ((Ft.rf _ σ').p_tsI rfl), fun k hk => ⟨(t6 k (by omega)).1.trans (ht k hk).1, (t6 k (by omega)).2.trans (ht k hk).2⟩, ⟨fun f => (o1 f).trans ((t7 f).trans (oo.1 f)), fun f h1 h2 => (o2 f h1 h2).trans ((t8 f h1 h2).trans (oo.2.1 f h1 h2)), Fq.tr (Fq.tr oo.2.2 t9 dx) o3 dxx⟩, fun k hk => (h1103 k).trans ((t10 k (by omega)).trans (h110 k hk)), fun i h1 h2 => by rw [d9_o h2, t11 i h1 h2, hp i h2], d9_l, fun z => (t12.2 (((f 129 rfl).1).trans z)).trans (f 127 rfl).1⟩, ?_, zz, SzR.mv nk3.n4 (Nat.le_refl _) _ _ _ _ _ (Nat.le_succ h) (Nat.le_refl _) sz1, sz2⟩
    · by_cases e : l' = 109
      · subst e
        rw [d9_l]; exact ⟨hk', rfl⟩
      · rw [d9_o e]
        obtain ⟨q1, q2⟩ := dx.1 l' k' hk'
        obtain ⟨q3, q4⟩ := t2.1 l' k' q1
        exact ⟨q3, q4.trans q2⟩
    · have := v.1.1
      exact (t2.2 o (by omega)).trans (dx.2 o ho)
    · exact NdR.mv nk3 (Nat.le_refl _) (Nat.le_refl _) (Nat.le_refl _) _ _ _ _ _ (Nat.le_succ h) nd
end CALL2
