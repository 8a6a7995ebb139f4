/-! Layer B: the flat model: leaves, both sides -/
set_option maxRecDepth 100000
section LEAF
variable {C : PC} {D D' D1 D2 : FQ} {M M' M1 M2 M3 : CM} {σ σ' σ1 σ2 : TS} {mss fss ps : List Nat} {B V I Bm b c e f z w q Lp dc n j p x o o1 o2 o3 md x0 l X N0 K K' K1 N N' N1 ar nf d h s s1 s2 a i u1 u2 u3 v : Nat} {P T : Nat → Prop} {x3 x4 tw op op' vl y y2 y3 y4 tok kop u : Int32} {z7 : Nat → Nat} {S : List Nat} {kr : Option ((Nat ⊕ Nat) × CM)} {tr : Option (Int32 × TS)} {cfK : Nat → Nat → Int32 → Int32 → Int32 → CM → Option ((Nat ⊕ Nat) × CM)} {cfT : Int32 → Int32 → Int32 → Int32 → TS → Option (Int32 × TS)} {kk : Nat → CM → Option ((Nat ⊕ Nat) × CM)} {tt : Int32 → TS → Option (Int32 × TS)}
theorem FSt.kx (Fs : FSt md x0 l X N0 z7 C B P mss fss D M σ V I Bm K N Lp dc x3) : mR M 27 1 = x0 ∧ mk M x0 = 4 := by
  obtain ⟨W, FX, ⟨⟨n1, n2⟩, -⟩, -⟩ := Fs
  refine ⟨n1, ?_⟩
  obtain ⟨f1, f2, f3⟩ := W.2.2.2.1
  rcases n2 with ⟨rfl, -⟩ | ⟨rfl, -⟩ | ⟨rfl, -⟩ | ⟨rfl, -⟩
  · exact (f1 (105, 4, 0) (by decide)).1
  · exact (f1 (107, 4, 0) (by decide)).1
  · exact (f1 (133, 4, 0) (by decide)).1
  · exact (f1 (135, 4, 0) (by decide)).1
/-- may it be free? -/
theorem FSt.free (Fs : FSt md x0 l X N0 z7 C B P mss fss D M σ V I Bm K N Lp dc x3) : (tI σ 138 = 0 ∧ x3 = 0 ∧ K_X0_free x3 M = some (.inl (), M)) ∨ (¬ tI σ 138 = 0 ∧ x3 = 1 ∧ K_X0_free x3 M = some (.inr (mn M), wM M 28 0)) := by
  rcases Fs.2.2.2.2.2.2.1 with ⟨a1, a2⟩ | ⟨a1, a2⟩
  · right
    refine ⟨a2, a1, ?_⟩
    unfold K_X0_free
    rw [ifT a1, (Fs.bad (x4 := 28) (by decide)).1, ob_some, ifT (wM_k M 28 0)]
  · left
    refine ⟨a2, a1, ?_⟩
    unfold K_X0_free
    rw [a1, ifF (by decide)]
/-- a variable -/
theorem FSt.vr (Fs : FSt md x0 l X N0 z7 C B P mss fss D M σ V I Bm K N Lp dc x3) (hv : v < V) : K_J2_get 98 (nI v) M = some ((pl D 98).getD v 0, M) ∧ mk M ((pl D 98).getD v 0) = 17 ∧ ∃ x, x < 3 ∧ mI M 3203 ((pl D 98).getD v 0) = nI x ∧ tA σ 94 v = nI x := by
  obtain ⟨W, FX, -⟩ := Fs
  have l98 := FX.1.1.1
  exact ⟨ls_get (W.2.1.1 98 (by decide)).1 (by omega), (W.2.1.2.1 98 (by decide) v (by omega)).1, (FX.1.2.2.2 v hv).2.2.1⟩
/-- a constant -/
theorem k_con (Fs : FSt md x0 l X N0 z7 C B P mss fss D M σ V I Bm K N Lp dc x3) (h5 : x4 ≤ 100) (ko : mk M o = 8) (h : mI M 1400 o = 100) {x2n : Nat} {y3 : Int32} : KB_X0_flatten_3 cfK o x2n x3 y3 x4 M = K_X3_make x0 0 (mI M 1401 o) 0 0 0 M := by
  obtain ⟨k1, k2⟩ := Fs.kx
  unfold KB_X0_flatten_3 K_X3_number
  rw [ifT h5, ifT ko, h, ifF (show ¬ (100 : Int32) = 26 by decide), ifF (show ¬ (100 : Int32) = 27 by decide), ifF (show ¬ (100 : Int32) = 29 by decide), ifF (show ¬ (100 : Int32) = 30 by decide), ifT (rfl : (100 : Int32) = 100), ifT ko, k1, ifT k2, ifT k2, obS_id, obS_id]
theorem z_con (Fs : FSt md x0 l X N0 z7 C B P mss fss D M σ V I Bm K N Lp dc x3) (hB1 : B ≤ 1280) (hd : dc + (h + 1) ≤ 100) (Po : P o ∧ mk M o = 8) (hn : n < tN σ) (h1 : mI M 1400 o = 100) (h2 : tA σ 24 n = 0) (h3 : mI M 1401 o = tA σ 25 n) (hx : ∃ x, tA σ 25 n = nI x ∧ x ≤ 2147418112) :
    FlO md x0 l X N0 z7 C B P mss fss V I Bm Lp dc x3 0 (h + 1) N D M σ K N (KB_X0_flatten_3 cfK o ((pl D 99).getD i 0) x3 x4 (nI (100 - h)) M) (B_build cfT (nI n) (nI i) tw (nI (100 - h)) σ) := by
  have N7 := Fs.N7 hB1
  have h0 := Fs.2.2.2.2.2.2.2
  have x5 := d100 hd
  rw [k_con Fs x5 Po.2 h1, t_b21 h0 x5, t_con h0 (by omega) h2]
  exact mk_lf Fs (by omega) (Or.inl ⟨rfl, rfl, h3, by
    obtain ⟨x, x1, x2⟩ := hx
    rw [x1, show (0 : Int32) = nI 0 from rfl, bI_le (by decide) (by omega)]; exact Nat.zero_le _⟩) ⟨Fs.n1, Nat.le_refl _⟩
theorem i32_shl (v : Int32) : v <<< ((16 : Int32) &&& 31) = v * 65536 := by
  apply Int32.toBitVec_inj.mp
  have e : (v <<< ((16 : Int32) &&& 31)).toBitVec = v.toBitVec <<< 16 := rfl
  have f : (v * 65536).toBitVec = v.toBitVec * BitVec.twoPow 32 16 := rfl
  rw [e, f, BitVec.shiftLeft_eq_mul_twoPow]
/-- the name of a for -/
theorem z_nam (Fs : FSt md x0 l X N0 z7 C B P mss fss D M σ V I Bm K N Lp dc x3) (hB1 : B ≤ 1280) (hd : dc + (h + 1) ≤ 100) (Po : P o ∧ mk M o = 8) (hn : n < tN σ) (h1 : mI M 1400 o = 102) (h2 : tA σ 24 n = 41) (h3 : mI M 1401 o = nI w) (hw : w < 38 + cm C) (h4 : tA σ 25 n = nI q) (hq : q < 7000) (h5 : tB σ 29 q = wc M w) :
    FlO md x0 l X N0 z7 C B P mss fss V I Bm Lp dc x3 0 (h + 1) N D M σ K N (KB_X0_flatten_3 cfK o ((pl D 99).getD i 0) x3 x4 (nI (100 - h)) M) (B_build cfT (nI n) (nI i) tw (nI (100 - h)) σ) := by
  have N7 := Fs.N7 hB1
  have h0 := Fs.2.2.2.2.2.2.2
  have x5 := d100 hd
  obtain ⟨k1, k2⟩ := Fs.kx
  obtain ⟨v, a1, a2⟩ := k_loopV (w := w) Fs.1 Fs.2.2.2.1
  obtain ⟨v', b1, b2⟩ := t_b248 (cf := cfT) hB1 Fs.1 Fs.2.2.2.1 (show n < 9000 by omega) h4 hq h5 hw
  have ev := b2.uq a2
  have ek : KB_X0_flatten_3 cfK o ((pl D 99).getD i 0) x3 x4 (nI (100 - h)) M = K_X3_make x0 0 (v * 65536) 0 0 0 M := by
    unfold KB_X0_flatten_3 K_X3_number
    rw [ifT x5, ifT Po.2, h1, ifF (show ¬ (102 : Int32) = 26 by decide), ifF (show ¬ (102 : Int32) = 27 by decide), ifF (show ¬ (102 : Int32) = 29 by decide), ifF (show ¬ (102 : Int32) = 30 by decide), ifF (show ¬ (102 : Int32) = 100 by decide), ifF (show ¬ (102 : Int32) = 101 by decide), ifT (rfl : (102 : Int32) = 102), ifT Po.2, h3, a1, ob_some, k1, ifT k2, ifT k2, obS_id, obS_id]
  rw [ek, t_b21 h0 x5, t_name h0 (by omega) h2, b1, ob_some, ob_id, ev]
  exact mk_lf Fs (by omega) (Or.inl ⟨rfl, rfl, (i32_shl v).symm, by
    obtain ⟨x, x1, x2⟩ := LvR.le Fs.2.2.2.1 a2
    rw [i32_shl, x2, show nI x * 65536 = nI (x * 65536) from (Int32.ofNat_mul x 65536).symm, show (0 : Int32) = nI 0 from rfl, bI_le (by decide) (by omega)]; exact Nat.zero_le _⟩) ⟨Fs.n1, Nat.le_refl _⟩
/-- the time -/
theorem z_tim (Fs : FSt md x0 l X N0 z7 C B P mss fss D M σ V I Bm K N Lp dc x3) (hB1 : B ≤ 1280) (hd : dc + (h + 1) ≤ 100) (Po : P o ∧ mk M o = 8) (hn : n < tN σ) (h1 : mI M 1400 o = 30) (h2 : tA σ 24 n = 1) :
    FlO md x0 l X N0 z7 C B P mss fss V I Bm Lp dc x3 0 (h + 1) N D M σ K N (KB_X0_flatten_3 cfK o ((pl D 99).getD i 0) x3 x4 (nI (100 - h)) M) (B_build cfT (nI n) (nI i) tw (nI (100 - h)) σ) := by
  have N7 := Fs.N7 hB1
  have h0 := Fs.2.2.2.2.2.2.2
  have x5 := d100 hd
  obtain ⟨k1, k2⟩ := Fs.kx
  rw [t_b21 h0 x5, t_time h0 (by omega) h2]
  unfold KB_X0_flatten_3
  rw [ifT x5, ifT Po.2, h1, ifF (show ¬ (30 : Int32) = 26 by decide), ifF (show ¬ (30 : Int32) = 27 by decide), ifF (show ¬ (30 : Int32) = 29 by decide), ifT (rfl : (30 : Int32) = 30)]
  rcases Fs.free with ⟨f1, f2, f3⟩ | ⟨f1, f2, f3⟩
  · unfold K_X3_make_2
    rw [f3, obS_inl, k1, ifT k2, ifT k2, obS_id, obS_id, ifT f1]
    exact mk_lf Fs (by omega) (Or.inr (Or.inr ⟨rfl, rfl, by rw [f2]; decide⟩)) ⟨Fs.n1, Nat.le_refl _⟩
  · rw [f3, obS_inr, ifF f1]
    obtain ⟨-, -, g⟩ := Fs.bad (x4 := 28) (by decide)
    obtain ⟨z, s', e1, e2⟩ := g.mk (Or.inl (by decide) : MkA 1 0 0 0)
    exact e2.out rfl e1
/-- a reference could not be followed -/
theorem FfG.nn (hh : FfG C B P mss fss M M' σ σ' w) (f : Ft [0, 1, 118, 119, 120] σ σ') (Fs : FSt md x0 l X N0 z7 C B P mss fss D M σ V I Bm K N Lp dc x3) : FfN C B P mss fss M M' σ σ' w 0 := ⟨hh, by decide, N, by have := Fs.nl; omega, by rw [(f 126 rfl).1]; exact Fs.2.2.1.2.2.1.1⟩
/-- a reference -/
theorem z_refF (Fs : FSt md x0 l X N0 z7 C B P mss fss D M σ V I Bm K N Lp dc x3) (hB1 : B ≤ 1280) (hi : i < I) (hd : dc + (h + 1) ≤ 100) (Po : P o ∧ mk M o = 8) (hn : n < tN σ) (h1 : mI M 1400 o = 101) (h2 : tA σ 24 n = 2) (h3 : tA σ 25 n = nI q) (hR : RfR P (tQ σ) (cm C) M σ o q) :
    FlO md x0 l X N0 z7 C B P mss fss V I Bm Lp dc x3 0 (h + 1) N D M σ K N (KB_X0_flatten_3 cfK o ((pl D 99).getD i 0) x3 x4 (nI (100 - h)) M) (B_build cfT (nI n) (nI i) tw (nI (100 - h)) σ) := by
  have N7 := Fs.N7 hB1
  have h0 := Fs.2.2.2.2.2.2.2
  have x5 := d100 hd
  rw [t_b21 h0 x5, t_var h0 (by omega) h2, h3]
  unfold KB_X0_flatten_3
  rw [ifT x5, ifT Po.2, h1, ifF (show ¬ (101 : Int32) = 26 by decide), ifF (show ¬ (101 : Int32) = 27 by decide), ifF (show ¬ (101 : Int32) = 29 by decide), ifF (show ¬ (101 : Int32) = 30 by decide), ifF (show ¬ (101 : Int32) = 100 by decide), ifT (rfl : (101 : Int32) = 101)]
  rcases z_varOf hB1 Fs.1 Fs.2.1 Fs.2.2.2.1 h0 hi hR with ⟨M', σ', w, a1, a2, a3, a4⟩ | ⟨v, M', σ', hv, a1, a2, a3, a4⟩
  · obtain ⟨z, s', e1, e2⟩ := (a3.nn a4 Fs).mk (Or.inl (by decide) : MkA 2 (-1) 0 0)
    rw [a1, obS_inr, a2, ob_some, t_isBad1 a3.2.1.2.2.1, ob_some, ifF (show ¬ (1 : Int32) = 0 by decide), ob_id]
    exact e2.out rfl e1
  · obtain ⟨Fs', T⟩ := Fs.f2 a3 a4
    have h0' := Fs'.2.2.2.2.2.2.2
    obtain ⟨k1, k2⟩ := Fs'.kx
    obtain ⟨v1, v2, xx, v3, v4, v5⟩ := Fs'.vr hv
    have v96 := Fs'.2.1.2.1.1
    have go := fun (q : x3 = 1 → tA σ' 94 v = 1) => FlO.pre T (Nat.le_refl K) (Nat.le_refl N) (mk_lf (op := 1) (op' := 2) (vl := nI v) (y2 := nI v) (h := h) Fs' (by omega) (Or.inr (Or.inl ⟨by decide, v, hv, rfl, rfl, fun y => ⟨rfl, q y⟩, fun y => absurd y (by decide), fun y => absurd y (by decide)⟩)) ⟨Fs.n1, Nat.le_refl _⟩)
    rw [a1, obS_inl, a2, ob_some, t_isBad0 h0', ob_some, ifT (rfl : (0 : Int32) = 0)]
    rcases Fs'.free with ⟨f1, f2, -⟩ | ⟨f1, f2, -⟩
    · rw [f2, ifF (show ¬ (0 : Int32) = 1 by decide), k1, ifT k2, obS_id, ifT f1, ob_id]
      have go := go (fun y => absurd (f2.symm.trans y) (by decide))
      rw [f2] at go
      exact go
    · rw [ifT f2, v1, ob_some, ifT (Or.inr v2), ifT v2, v4, ifF f1, ifT (inb_nI' (by omega) (by decide)), ix_nI (by omega), v5]
      by_cases q1 : nI xx = 1
      · rw [ifT q1, ifT q1, k1, ifT k2, obS_id, ob_id]
        exact go (fun _ => v5.trans q1)
      · obtain ⟨b1, b2, g⟩ := Fs'.bad (x4 := 28) (by decide)
        rw [ifF q1, ifF q1, b1, ob_some, ifT (wM_k M' 28 0), b2, ob_some, ob_id]
        obtain ⟨z, s', e1, e2⟩ := g.mk (Or.inl (by decide) : MkA 2 (nI v) 0 0)
        exact FlO.pre T (Nat.le_refl K) (Nat.le_refl N) (e2.out rfl e1)
/-- der, pre -/
theorem z_dp (Fs : FSt md x0 l X N0 z7 C B P mss fss D M σ V I Bm K N Lp dc x3) (hB1 : B ≤ 1280) (hi : i < I) (hd : dc + (h + 1) ≤ 100) (Po : P o ∧ mk M o = 8) (hn : n < tN σ) (h1 : mI M 1400 o = 26 ∧ tA σ 24 n = 3 ∨ mI M 1400 o = 27 ∧ tA σ 24 n = 4) (h3 : tA σ 25 n = nI q) (hR : RfR P (tQ σ) (cm C) M σ (mR M 1402 o) q) :
    FlO md x0 l X N0 z7 C B P mss fss V I Bm Lp dc x3 0 (h + 1) N D M σ K N (KB_X0_flatten_3 cfK o ((pl D 99).getD i 0) x3 x4 (nI (100 - h)) M) (B_build cfT (nI n) (nI i) tw (nI (100 - h)) σ) := by
  have N7 := Fs.N7 hB1
  have h0 := Fs.2.2.2.2.2.2.2
  have x5 := d100 hd
  have v96 := Fs.2.1.2.1.1
  rcases h1 with ⟨h1, h2⟩ | ⟨h1, h2⟩
  · rw [t_b21 h0 x5, t_der h0 (by omega) h2, h3]
    unfold KB_X0_flatten_3
    rw [ifT x5, ifT Po.2, h1, ifT (rfl : (26 : Int32) = 26)]
    rcases Fs.free with ⟨f1, f2, f3⟩ | ⟨f1, f2, f3⟩
    · rw [f3, obS_inl, ifT f1, ifT Po.2]
      rcases z_varOf hB1 Fs.1 Fs.2.1 Fs.2.2.2.1 h0 hi hR with ⟨M', σ', w, a1, a2, a3, a4⟩ | ⟨v, M', σ', hv, a1, a2, a3, a4⟩
      · obtain ⟨z, s', e1, e2⟩ := (a3.nn a4 Fs).mk (Or.inl (by decide) : MkA 3 (-1) 0 0)
        rw [a1, obS_inr, a2, ob_some, t_isBad1 a3.2.1.2.2.1, ob_some, ifF (show ¬ (1 : Int32) = 0 by decide), ob_id]
        exact e2.out rfl e1
      · obtain ⟨Fs', T⟩ := Fs.f2 a3 a4
        have h0' := Fs'.2.2.2.2.2.2.2
        obtain ⟨k1, k2⟩ := Fs'.kx
        obtain ⟨v1, v2, xx, v3, v4, v5⟩ := Fs'.vr hv
        have so := T.so Po.1
        have ko : mk M' o = 8 := by rw [so.k]; exact Po.2
        have i14 : mI M' 1400 o = 26 := by rw [so.i]; exact h1
        have go := fun (q : tA σ' 94 v = 0) => FlO.pre T (Nat.le_refl K) (Nat.le_refl N) (mk_lf (op := 15) (op' := 3) (vl := nI v) (y2 := nI v) (h := h) Fs' (by omega) (Or.inr (Or.inl ⟨by decide, v, hv, rfl, rfl, fun y => absurd (f2.symm.trans y) (by decide), fun _ => q, fun y => absurd y (by decide)⟩)) ⟨Fs.n1, Nat.le_refl _⟩)
        obtain ⟨b1, b2, g⟩ := Fs'.bad (x4 := 29) (by decide)
        obtain ⟨z, s', e1, e2⟩ := g.mk (Or.inl (by decide) : MkA 3 (nI v) 0 0)
        have bad := FlO.pre T (Nat.le_refl K) (Nat.le_refl N) (e2.out (md := md) (x0 := x0) (l := l) (X := X) (N0 := N0) (z7 := z7) (V := V) (I := I) (Bm := Bm) (Lp := Lp) (dc := dc) (x3 := x3) (s := 0) (h := h + 1) (L := N) (D := D) (K := K) (N := N) rfl e1)
        rw [a1, obS_inl, a2, ob_some, t_isBad0 h0', ob_some, ifT (rfl : (0 : Int32) = 0), v1, ob_some, ifT (Or.inr v2), ifT v2, nm_eq, v4, ifT (inb_nI' (by omega) (by decide)), ix_nI (show v < 2147483648 by omega), v5]
        have x3' : xx = 0 ∨ xx = 1 ∨ xx = 2 := by omega
        rcases x3' with rfl | rfl | rfl
        · rw [ifF (show ¬ nI 0 = 1 by decide), ifT ko, i14, ifT (rfl : (26 : Int32) = 26), ifT (show nI 0 = 0 from rfl), ifT (show nI 0 = 0 from rfl), ob_id]
          unfold KJ_X0_flatten_3_355
          rw [ifT ko, i14, ifT (rfl : (26 : Int32) = 26), k1, ifT k2, obS_id]
          exact go v5
        · rw [ifT (show nI 1 = 1 from rfl), ifF (show ¬ nI 1 = 0 by decide), b1, ob_some, ifT (wM_k M' 29 0), b2, ob_some, ob_id]
          exact bad
        · rw [ifF (show ¬ nI 2 = 1 by decide), ifT ko, i14, ifT (rfl : (26 : Int32) = 26), ifF (show ¬ nI 2 = 0 by decide), ifF (show ¬ nI 2 = 0 by decide), b1, ob_some, ifT (wM_k M' 29 0), b2, ob_some, ob_id]
          exact bad
    · obtain ⟨-, -, g⟩ := Fs.bad (x4 := 28) (by decide)
      rw [f3, obS_inr, ifF f1]
      exact g.out rfl rfl
  · rw [t_b21 h0 x5, t_pre h0 (by omega) h2, h3]
    unfold KB_X0_flatten_3
    rw [ifT x5, ifT Po.2, h1, ifF (show ¬ (27 : Int32) = 26 by decide), ifT (rfl : (27 : Int32) = 27)]
    rcases Fs.free with ⟨f1, f2, f3⟩ | ⟨f1, f2, f3⟩
    · rw [f3, obS_inl, ifT f1, ifT Po.2]
      rcases z_varOf hB1 Fs.1 Fs.2.1 Fs.2.2.2.1 h0 hi hR with ⟨M', σ', w, a1, a2, a3, a4⟩ | ⟨v, M', σ', hv, a1, a2, a3, a4⟩
      · obtain ⟨z, s', e1, e2⟩ := (a3.nn a4 Fs).mk (Or.inl (by decide) : MkA 4 (-1) 0 0)
        rw [a1, obS_inr, a2, ob_some, t_isBad1 a3.2.1.2.2.1, ob_some, ifF (show ¬ (1 : Int32) = 0 by decide), ob_id]
        exact e2.out rfl e1
      · obtain ⟨Fs', T⟩ := Fs.f2 a3 a4
        have h0' := Fs'.2.2.2.2.2.2.2
        obtain ⟨k1, k2⟩ := Fs'.kx
        obtain ⟨v1, v2, xx, v3, v4, v5⟩ := Fs'.vr hv
        have so := T.so Po.1
        have ko : mk M' o = 8 := by rw [so.k]; exact Po.2
        have i14 : mI M' 1400 o = 27 := by rw [so.i]; exact h1
        have go := fun (q : ¬ tA σ' 94 v = 1) => FlO.pre T (Nat.le_refl K) (Nat.le_refl N) (mk_lf (op := 16) (op' := 4) (vl := nI v) (y2 := nI v) (h := h) Fs' (by omega) (Or.inr (Or.inl ⟨by decide, v, hv, rfl, rfl, fun y => absurd (f2.symm.trans y) (by decide), fun y => absurd y (by decide), fun _ => q⟩)) ⟨Fs.n1, Nat.le_refl _⟩)
        obtain ⟨b1, b2, g⟩ := Fs'.bad (x4 := 29) (by decide)
        obtain ⟨z, s', e1, e2⟩ := g.mk (Or.inl (by decide) : MkA 4 (nI v) 0 0)
        have bad := FlO.pre T (Nat.le_refl K) (Nat.le_refl N) (e2.out (md := md) (x0 := x0) (l := l) (X := X) (N0 := N0) (z7 := z7) (V := V) (I := I) (Bm := Bm) (Lp := Lp) (dc := dc) (x3 := x3) (s := 0) (h := h + 1) (L := N) (D := D) (K := K) (N := N) rfl e1)
        rw [a1, obS_inl, a2, ob_some, t_isBad0 h0', ob_some, ifT (rfl : (0 : Int32) = 0), v1, ob_some, ifT (Or.inr v2), ifT v2, nm_eq, v4, ifT (inb_nI' (by omega) (by decide)), ix_nI (show v < 2147483648 by omega), v5]
        by_cases q1 : nI xx = 1
        · rw [ifT q1, ifT q1, b1, ob_some, ifT (wM_k M' 29 0), b2, ob_some, ob_id]
          exact bad
        · rw [ifF q1, ifF q1, ifT ko, i14, ifF (show ¬ (27 : Int32) = 26 by decide), ob_id]
          unfold KJ_X0_flatten_3_355
          rw [ifT ko, i14, ifF (show ¬ (27 : Int32) = 26 by decide), k1, ifT k2, obS_id]
          exact go (fun z => q1 (v5.symm.trans z))
    · obtain ⟨-, -, g⟩ := Fs.bad (x4 := 28) (by decide)
      rw [f3, obS_inr, ifF f1]
      exact g.out rfl rfl
end LEAF
