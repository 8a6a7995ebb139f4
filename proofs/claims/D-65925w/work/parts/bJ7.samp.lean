/-! Layer B: the flat model: sample, both sides -/
set_option maxRecDepth 100000
section SAMP
variable {C : PC} {D D' D1 D2 : FQ} {M M' M1 M2 M3 : CM} {σ σ' σ1 σ2 : TS} {mss fss ps : List Nat} {B V I Bm b c e f z w q Lp dc n j p x o o1 o2 o3 md x0 l X N0 K K' K1 N N' N1 ar nf d h s s1 s2 a i u1 u2 u3 v : Nat} {P T : Nat → Prop} {x3 x4 tw op op' vl y y2 y3 y4 tok kop u : Int32} {z7 : Nat → Nat} {S : List Nat} {kr : Option ((Nat ⊕ Nat) × CM)} {tr : Option (Int32 × TS)} {cfK : Nat → Nat → Int32 → Int32 → Int32 → CM → Option ((Nat ⊕ Nat) × CM)} {cfT : Int32 → Int32 → Int32 → Int32 → TS → Option (Int32 × TS)} {kk : Nat → CM → Option ((Nat ⊕ Nat) × CM)} {tt : Int32 → TS → Option (Int32 × TS)}
theorem t_smp (h0 : tI σ 0 = 0) (hn : n < 9000) (h24 : tA σ 24 n = 24) : J_build_21 cfT (nI n) y2 y3 y4 σ = if tI σ 138 = 0 then F_make 24 (tA σ 25 n) (tA σ 26 n) 0 σ else F_make 24 (tA σ 25 n) (tA σ 26 n) 0 (badT σ 28) := by
  have i9 : inb (nI n) 9000 := inb_nI' hn (by decide)
  have x9 : ix (nI n) = n := ix_nI (by omega)
  unfold J_build_21
  rw [t_isBad0 h0, ob_some, ifT (rfl : (0 : Int32) = 0), ifT i9, x9, h24, nm_eq, ifF (show ¬ (24 : Int32) = 0 by decide), ifF (show ¬ (24 : Int32) = 1 by decide), ifF (show ¬ (24 : Int32) = 2 by decide), ifF (show ¬ (24 : Int32) = 3 by decide), ifF (show ¬ (24 : Int32) = 4 by decide), ifF (show ¬ (24 : Int32) = 5 by decide), ifF (show ¬ (24 : Int32) = 6 by decide), ifF (show ¬ (24 : Int32) = 7 by decide), ifF (show ¬ (24 : Int32) = 8 by decide), ifF (show ¬ (24 : Int32) = 9 by decide), ifF (show ¬ (24 : Int32) = 10 by decide), ifF (show ¬ (24 : Int32) = 11 by decide), ifF (show ¬ (24 : Int32) = 12 by decide), ifF (show ¬ (24 : Int32) = 13 by decide), ifF (show ¬ (24 : Int32) = 14 by decide), ifF (show ¬ (24 : Int32) = 15 by decide), ifF (show ¬ (24 : Int32) = 16 by decide), ifF (show ¬ (24 : Int32) = 17 by decide), ifF (show ¬ (24 : Int32) = 18 by decide), ifF (show ¬ (24 : Int32) = 19 by decide), ifF (show ¬ (24 : Int32) = 20 by decide), ifF (show ¬ (24 : Int32) = 21 by decide), ifF (show ¬ (24 : Int32) = 22 by decide), ifF (show ¬ (24 : Int32) = 23 by decide), ifT (rfl : (24 : Int32) = 24)]
  by_cases q : tI σ 138 = 0
  · rw [ifT q, ifT q, ifT i9, ifT i9, ob_id]
  · rw [ifF q, ifF q, t_badT h0, ob_some, ifT i9, ifT i9, ob_id]; rfl
/-- the last node's second number -/
theorem FSt.w2_ (Fs : FSt md x0 l X N0 z7 C B P mss fss D M σ V I Bm (K + 1) N Lp dc x3) : FSt md x0 l X N0 z7 C B P mss fss D (msI M 3402 ((pl D l).getD K 0) u) σ V I Bm (K + 1) N Lp dc x3 ∧ FTr x0 C P l K N dc D M σ D (msI M 3402 ((pl D l).getD K 0) u) σ := by
  obtain ⟨W, FX, ⟨⟨n1, n2⟩, ⟨n3, n4, n5, n6⟩, NS⟩, LP, CA, hd, h3, h0⟩ := Fs
  have hl : l ∈ flL ∧ 106 ≤ l ∧ l < 167 := by rcases n2 with ⟨-, rfl, -⟩ | ⟨-, rfl, -⟩ | ⟨-, rfl, -⟩ | ⟨-, rfl, -⟩ <;> decide
  have hX : X ≤ 40000 := by rcases n2 with ⟨-, -, rfl, -⟩ | ⟨-, -, rfl, -⟩ | ⟨-, -, rfl, -⟩ | ⟨-, -, rfl, -⟩ <;> decide
  obtain ⟨q1, q2, q3⟩ := W.2.1.2.1 l hl.1 K (by omega)
  have F : Fz (fun o => o = (pl D l).getD K 0) M (msI M 3402 ((pl D l).getD K 0) u) := Fz.rf.msI (fun _ => rfl)
  have mi : ∀ f o, f ≠ 3402 → mI (msI M 3402 ((pl D l).getD K 0) u) f o = mI M f o := fun f o hf => by rw [mI_msI, ifF (fun z => hf z.1)]
  obtain ⟨W', v, -⟩ := W.w2 F (fun o ho z => Or.inr (by rw [z]; unfold tg at q3; exact ⟨by omega, by omega, fun k => by unfold tg; omega⟩)) ⟨rfl, rfl⟩ (fun o => ⟨rfl, rfl, rfl⟩) (fun _ => rfl) (mi _ _ (by decide)) (fun _ _ => rfl) (fun q hq => by
    have : ∀ q, q ∈ bfI → q.1 ≠ 3402 := by decide +kernel
    exact mi _ _ (this q hq)) (Ft.rf [] σ) (by decide)
  have fq : Fq D (fun t => t = tg l K) M (msI M 3402 ((pl D l).getD K 0) u) := F.mono (fun o ho z => by rw [z, tgo_d q2.1, q3])
  have FX' := FX.kp W fq (fun t z => by rw [z]; unfold TV tg; omega) (fun k hk => ⟨fun f hf => mi _ _ (by omega), fun _ _ => rfl⟩) v (Dx.rf D M) (Ft.rf [] σ) (by decide) ⟨mi _ _ (by decide), mi _ _ (by decide)⟩
  have s0 : ∀ o, o < 167 → So M (msI M 3402 ((pl D l).getD K 0) u) o := fun o ho => F.so (by have := W.n167; omega) (by omega)
  refine ⟨⟨W', FX', ⟨⟨n1, n2⟩, ⟨by rw [mi _ _ (by decide)]; exact n3, n4, n5, by rw [mi _ _ (by decide)]; exact n6⟩, NS⟩, LP.mv v (mi _ _ (by decide)) (fun k => ⟨rfl, rfl⟩) (Ft.rf [] σ) (by decide), CA.mv v (fun _ _ => rfl) (fun _ _ => rfl) (fun _ _ => ⟨rfl, rfl⟩), hd, h3, h0⟩, v, Dx.rf _ _, ⟨fun k hk => ⟨rfl, fun f _ => ?_, fun f _ => rfl⟩, fun _ _ _ _ => rfl, fun _ => rfl⟩, SgX.mk1 (fun o h1 h2 => s0 o (by omega)) (fun f _ => (s0 1 (by decide)).i f) (Ft.rf _ _), Ft.rf _ _, fun _ _ => ⟨rfl, rfl⟩, ⟨fun f => (s0 1 (by decide)).i f, fun _ _ _ => rfl, Fq.mono fq (fun t z => by unfold TB; exact Or.inr (Or.inr (Or.inr (Or.inr (Or.inr ⟨K, by omega, z⟩)))))⟩, fun _ _ => rfl, fun _ _ _ => rfl, rfl, fun _ => rfl⟩
  rw [mI_msI, ifF (fun z => by have := (W.2.1.inj hl.1 hl.1 (by omega) (by omega) z.2).2; omega)]
/-- sample -/
theorem z_smp (Fs : FSt md x0 l X N0 z7 C B P mss fss D M σ V I Bm K N Lp dc x3) (hB1 : B ≤ 1280) (hd : dc + (h + 1) ≤ 100) (Po : P o ∧ mk M o = 8) (hn : n < tN σ) (h1 : mI M 1400 o = 29) (h2 : tA σ 24 n = 24) (P2 : P (mR M 1402 o) ∧ mk M (mR M 1402 o) = 8) (P3 : P (mR M 1403 o) ∧ mk M (mR M 1403 o) = 8) (h3 : mI M 1401 (mR M 1402 o) = tA σ 25 n) (h4 : mI M 1401 (mR M 1403 o) = tA σ 26 n) (h5 : ∃ x y, tA σ 25 n = nI x ∧ tA σ 26 n = nI y ∧ x ≤ 2147418112 ∧ 1 ≤ y ∧ y ≤ 2147418112) :
    FlO md x0 l X N0 z7 C B P mss fss V I Bm Lp dc x3 1 (h + 1) N D M σ K N (KB_X0_flatten_3 cfK o ((pl D 99).getD i 0) x3 x4 (nI (100 - h)) M) (B_build cfT (nI n) (nI i) tw (nI (100 - h)) σ) := by
  have N7 := Fs.N7 hB1
  have h0 := Fs.2.2.2.2.2.2.2
  have x5 := d100 hd
  obtain ⟨k1, k2⟩ := FSt.kx Fs
  rw [t_b21 h0 x5, t_smp h0 (by omega) h2]
  unfold KB_X0_flatten_3
  rw [ifT x5, ifT Po.2, h1, ifF (show ¬ (29 : Int32) = 26 by decide), ifF (show ¬ (29 : Int32) = 27 by decide), ifT (rfl : (29 : Int32) = 29)]
  rcases Fs.free with ⟨f1, f2, f3⟩ | ⟨f1, f2, f3⟩
  · rw [f3, obS_inl, ifT Po.2, ifT P2.2, k1, ifT k2, h3, ifT f1]
    obtain ⟨W, FX, NS, LP, CA, hdd, h3', -⟩ := id Fs
    rcases z_make (op := 29) (vl := tA σ 25 n) W FX NS h0 (ChO0 (l := l) (K := K)) ChO0 ChO0 (by rw [hgt0]; decide) (fun hN => t_mkLf (op := 24) (x2 := tA σ 25 n) (x3 := tA σ 26 n) (x4 := 0) ⟨NS.2.2.1.1, hN⟩ (by decide)) (by rw [hgt0]; rfl) (fun s' d4 e4 => ⟨1, SzR.lf (Nat.lt_succ_self N) (by rw [e4.1]; decide) (by rw [e4.1]; decide) (by rw [e4.1]; decide), Fs.n1⟩) (fun q => absurd q (by decide)) with ⟨M', σ', w, y, b1, b2, b3, b4⟩ | ⟨D', M', σ', b1, b2, W', FX', NS', h0', v', dx, hp, nk, fq, sg, f, ⟨g1, g2, g3, g4, g5, g6, g7, g8⟩, e1, e2, e3, e4, e5⟩
    · rw [b1, obS_inr]
      exact Or.inl ⟨M', σ', w, y, rfl, b2, b3, b4⟩
    · obtain ⟨Fs', T⟩ := Fs.mkd W' FX' NS' h0' v' dx hp nk fq sg f
      obtain ⟨Fs2, T2⟩ := FSt.w2_ (u := tA σ 26 n) Fs'
      have so := T.so Po.1
      have so3 := T.so P3.1
      have ko : mk M' o = 8 := by rw [so.k]; exact Po.2
      have N1 := NS.2.2.1
      have hl : l ∈ flL ∧ K + 1 ≤ (pl D' l).length := ⟨by rcases NS.1.2 with ⟨-, rfl, -⟩ | ⟨-, rfl, -⟩ | ⟨-, rfl, -⟩ | ⟨-, rfl, -⟩ <;> decide, NS'.2.1.2.1⟩
      have km : mk M' ((pl D' l).getD K 0) = 18 := by
        have := (W'.2.1.2.1 l hl.1 K (by omega)).1
        rw [this]
        rcases NS.1.2 with ⟨-, rfl, -⟩ | ⟨-, rfl, -⟩ | ⟨-, rfl, -⟩ | ⟨-, rfl, -⟩ <;> decide
      rw [b1, obS_inl, ifT ko, so.r, so3.k, ifT P3.2, ifT km, nm_eq, so3.i, h4]
      obtain ⟨x, y, y1, y2, y3, y4, y5⟩ := h5
      refine Or.inr ⟨D', _, σ', K + 1, N + 1, _, N, rfl, b2, Fs2, ⟨by omega, by omega⟩, T.tr T2 (Nat.le_refl K) (Nat.le_succ N), ⟨⟨⟨K, Nat.lt_succ_self K, rfl, fun q => by have := NS.2.2.2.2.2.2.1 q; omega⟩, by omega, by omega⟩, ?_⟩, 1, SzR.lf (Nat.lt_succ_self N) (by rw [e1]; decide) (by rw [e1]; decide) (by rw [e1]; decide), by omega⟩
      have mi : ∀ f, f ≠ 3402 → mI (msI M' 3402 ((pl D' l).getD K 0) (tA σ 26 n)) f ((pl D' l).getD K 0) = mI M' f ((pl D' l).getD K 0) := fun f hf => by rw [mI_msI, ifF (fun z => hf z.1)]
      refine ⟨⟨1, by rw [mi _ (by decide), g5]; rfl, by rw [e5]; rfl, by omega, by omega, fun _ => by rw [mi _ (by decide)]; exact g4⟩, ?_⟩
      refine Or.inr (Or.inr (Or.inr (Or.inr (Or.inr (Or.inr (Or.inr (Or.inr (Or.inr ⟨rfl, by rw [mi _ (by decide)]; exact g1, e1, by rw [f2]; decide, ⟨x, y, by rw [mi _ (by decide), g2]; exact y1, by rw [mI_msI, ifT ⟨rfl, rfl⟩]; exact y2, by rw [e2]; exact y1, by rw [e3]; exact y2, y3, y4, y5⟩, g6, g7, g8⟩))))))))
  · rw [f3, obS_inr, ifF f1]
    obtain ⟨-, -, g⟩ := Fs.bad (x4 := 28) (by decide)
    obtain ⟨z, s', e1, e2⟩ := g.mk (Or.inl (by decide) : MkA 24 (tA σ 25 n) (tA σ 26 n) 0)
    exact e2.out rfl e1
end SAMP
