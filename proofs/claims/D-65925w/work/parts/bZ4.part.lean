/-! Layer B: the partial derivative of a solved tree, both sides -/
set_option maxRecDepth 100000
section PART
variable {M M0 : CM} {σ σ0 s : TS} {D : FQ} {U V K K1 K2 N l h st d a n o u v w kf tf : Nat} {x x2 y r op tok : Int32} {cf : Int32 → Int32 → TS → Option (Int32 × TS)}
theorem t_p195 (hn : n < 70000) (e : tA σ 122 n = nI v) (l : LfU σ v u x) {k : Int32} (hk : ¬ k = 30) : J_partial_195 cf (nI n) k y σ = some (if x = 1 then y else -y, σ) := by
  obtain ⟨⟨h1, hv⟩, ⟨w, w1, w2, w3⟩, hu, h5, h6⟩ := l
  unfold J_partial_195
  rw [ifF hk, ifT (inb_nI' hn (by decide)), ix_nI (by omega), e, ifT (inb_nI' hv (by decide)), ix_nI (by omega), h5, sgn2 h6]
  by_cases q : x = 1
  · rw [ifT q, ifT q]
  · rw [ifF q, ifF q]
theorem t_pLeaf (h0 : tI σ 0 = 0) (hn : n < 70000) (hk : tA σ 121 n = 2 ∨ tA σ 121 n = 3) (hv : tA σ 122 n = nI v) (l : LfU σ v u x) (lk : LfK σ n w x) : tP (d + 1) (nI n) x2 σ = some (if nI w = x2 then (if x = 1 then 65536 else -65536) else 0, σ) := by
  have i7 : inb (nI n) 70000 := inb_nI' hn (by decide)
  have x7 : ix (nI n) = n := ix_nI (by omega)
  have l0 := l.1
  have j : ∀ k : Int32, ¬ k = 30 → J_partial_179 (tP d) (nI n) x2 k σ = some (if nI w = x2 then (if x = 1 then 65536 else -65536) else 0, σ) := fun k hk => by
    unfold J_partial_179
    rw [t_leafU lk hn, ob_some, t_p195 hn hv l hk, t_p195 hn hv l hk]
    by_cases q : nI w = x2
    · rw [ifT q, ifT q]
    · rw [ifF q, ifF q]
      by_cases q2 : x = 1
      · rw [ifT q2]
      · rw [ifF q2]; rfl
  show B_partial (tP d) (nI n) x2 σ = _
  unfold B_partial
  rw [t_isBad0 h0, ob_some, nm_eq, x7]
  rcases hk with k | k
  · rw [k]
    simp +decide only [if_pos i7, ↓reduceIte]
    rw [hv, ifT (inb_nI' l0.2 (by decide)), ix_nI (by omega), ifT l0.1]
    exact j 2 (by decide)
  · rw [k]
    simp +decide only [if_pos i7, ↓reduceIte]
    exact j 3 (by decide)
theorem t_pUnk (h0 : tI σ 0 = 0) (hn : n < 70000) (hk : tA σ 121 n = 30) (lk : LfK σ n w x) : tP (d + 1) (nI n) x2 σ = some (if nI w = x2 then 65536 else 0, σ) := by
  have i7 : inb (nI n) 70000 := inb_nI' hn (by decide)
  have x7 : ix (nI n) = n := ix_nI (by omega)
  show B_partial (tP d) (nI n) x2 σ = _
  unfold B_partial
  rw [t_isBad0 h0, ob_some, nm_eq, x7, hk]
  simp +decide only [if_pos i7, ↓reduceIte]
  unfold J_partial_179 J_partial_195
  rw [t_leafU lk hn, ob_some]
  by_cases q : nI w = x2
  · rw [ifT q, ifT rfl, ifT q]
  · rw [ifF q, ifT rfl, ifF q]
theorem t_pZero (h0 : tI σ 0 = 0) (hn : n < 70000) (hk : tA σ 121 n ∈ ([0, 1, 4, 12, 13] : List Int32)) : tP (d + 1) (nI n) x2 σ = some (0, σ) := by
  have i7 : inb (nI n) 70000 := inb_nI' hn (by decide)
  have x7 : ix (nI n) = n := ix_nI (by omega)
  show B_partial (tP d) (nI n) x2 σ = _
  unfold B_partial
  rw [t_isBad0 h0, ob_some, nm_eq, x7]
  simp only [List.mem_cons, List.not_mem_nil, or_false] at hk
  rcases hk with k | k | k | k | k <;> (rw [k]; simp +decide only [if_pos i7, ↓reduceIte])
theorem t_pVar (h0 : tI σ 0 = 0) (hn : n < 70000) (hk : tA σ 121 n = 2) (hv : tA σ 122 n = nI v) (v9 : v < 96) (h9 : ¬ tA σ 94 v = 0) : tP (d + 1) (nI n) x2 σ = some (0, σ) := by
  have i7 : inb (nI n) 70000 := inb_nI' hn (by decide)
  have x7 : ix (nI n) = n := ix_nI (by omega)
  show B_partial (tP d) (nI n) x2 σ = _
  unfold B_partial
  rw [t_isBad0 h0, ob_some, nm_eq, x7, hk]
  simp +decide only [if_pos i7, ↓reduceIte]
  rw [hv, ifT (inb_nI' v9 (by decide)), ix_nI (by omega), ifF h9]
theorem k_pZero (ka : mk M a = 18) (hk : mI M 3400 a ∈ ([0, 1, 2, 12, 13, 16, 18] : List Int32)) : kP (d + 1) a x2 M = some (.inl 0, M) := by
  show KB_X0_part (kP d) a x2 M = _
  unfold KB_X0_part
  simp only [List.mem_cons, List.not_mem_nil, or_false] at hk
  rcases hk with k | k | k | k | k | k | k <;> (rw [k]; simp +decide only [ka, ↓reduceIte])
theorem k_pUnk (ka : mk M a = 18) (hk : mI M 3400 a = 17) (hv : mI M 3401 a = nI w) : kP (d + 1) a x2 M = some (.inl (if nI w = x2 then 65536 else 0), M) := by
  show KB_X0_part (kP d) a x2 M = _
  unfold KB_X0_part
  rw [hk]
  simp +decide only [ka, ↓reduceIte]
  rw [hv]
  by_cases q : nI w = x2
  · rw [ifT q, ifT q]
  · rw [ifF q, ifF q]
theorem k_pNeg (ka : mk M a = 18) (hk : mI M 3400 a = 7) (e : kP d (mR M 3405 a) x2 M = some (.inl y, M)) : kP (d + 1) a x2 M = some (.inl (-y), M) := by
  show KB_X0_part (kP d) a x2 M = _
  unfold KB_X0_part
  rw [hk]
  simp +decide only [ka, ↓reduceIte]
  rw [e, obS_inl]
/-- the leaves -/
theorem pt_lf (E : EvV 1 V U K1 K2 N D M σ) (z : LfE 134 U V M σ 0 a n) (ka : mk M a = 18) (hn : n < 70000) : ∃ v, kP (d + 2) a x2 M = some (.inl v, M) ∧ tP (tf + 1) (nI n) x2 σ = some (v, σ) := by
  have h0 := E.1.1
  have n0 : (-(0 : Int32)) = 0 := rfl
  rcases z with ⟨-, q1, q2⟩ | ⟨-, q1, v, ⟨v1, v2⟩, v3, v4, v5, v6⟩ | ⟨-, op, vl, x, q1, -, q2⟩ | ⟨z, -⟩
  · exact ⟨0, k_pZero ka (by rw [q1]; decide), t_pZero h0 hn (by rw [q2]; decide)⟩
  · simp only [List.mem_cons, Prod.mk.injEq, List.not_mem_nil, or_false] at q1
    rcases q1 with ⟨q1, q2⟩ | ⟨q1, q2⟩
    · exact ⟨0, k_pZero ka (by rw [q1]; decide), t_pVar h0 hn q2 v4 v2 v5⟩
    · exact ⟨0, k_pZero ka (by rw [q1]; decide), t_pZero h0 hn (by rw [q2]; decide)⟩
  · have key : ∃ v0, (∀ b, mk M b = 18 → mI M 3400 b = op → mI M 3401 b = vl → ∀ d, kP (d + 1) b x2 M = some (.inl v0, M)) ∧ tP (tf + 1) (nI n) x2 σ = some (if x = 1 then v0 else -v0, σ) := by
      have sw : ∀ (w : Nat), (if nI w = x2 then (if x = 1 then (65536 : Int32) else -65536) else 0) = if x = 1 then (if nI w = x2 then (65536 : Int32) else 0) else -(if nI w = x2 then (65536 : Int32) else 0) := fun w => by
        by_cases q : nI w = x2
        · rw [ifT q, ifT q]
        · rw [ifF q, ifF q]
          by_cases q2 : x = 1
          · rw [ifT q2]
          · rw [ifF q2]; rfl
      rcases q1 with ⟨e, v, u, ⟨c1, -⟩, c2, c3, c4⟩ | ⟨e, v, u, ⟨c1, -⟩, c2, c3⟩ | ⟨e, v, u, ⟨c1, -⟩, c2, c3, c4⟩ | ⟨e, u, c1, c2, c3, c4, c5⟩
      · refine ⟨_, fun b hb o1 o2 d => k_pUnk hb (o1.trans c3) (o2.trans c4), ?_⟩
        rw [t_pLeaf h0 hn (Or.inl e) c1 c2 (Or.inl ⟨e, v, c1, c2⟩), sw]
      · rcases c3 with ⟨-, c3, d0, d1, d2, d3⟩ | ⟨c3, -⟩
        · refine ⟨_, fun b hb o1 o2 d => k_pUnk hb (o1.trans c3) (o2.trans d3), ?_⟩
          rw [t_pLeaf h0 hn (Or.inr e) c1 c2 (Or.inr (Or.inl ⟨e, v, u, c1, c2, d2, d1⟩)), sw]
        · exact absurd rfl c3
      · refine ⟨0, fun b hb o1 o2 d => k_pZero hb (by rw [o1, c3]; decide), ?_⟩
        rw [t_pZero h0 hn (by rw [e]; decide)]
        by_cases q2 : x = 1
        · rw [ifT q2]
        · rw [ifF q2]; rfl
      · refine ⟨_, fun b hb o1 o2 d => k_pUnk hb (o1.trans c4) (o2.trans c5), ?_⟩
        rw [t_pUnk h0 hn e (x := 1) (Or.inr (Or.inr ⟨e, c2, c1, rfl⟩)), c3, ifT rfl]
    obtain ⟨v0, g1, g2⟩ := key
    rcases q2 with ⟨e1, e2, e3⟩ | ⟨e1, e2, e3, e4, e5⟩
    · exact ⟨v0, g1 a ka e2 e3 _, by rw [g2, ifT e1]⟩
    · exact ⟨-v0, k_pNeg ka e2 (g1 _ e3 e4 e5 d), by rw [g2, ifF (by rw [e1]; decide)]⟩
  · exact absurd z (by decide)
/-- what hangs on a node -/
abbrev SxP (U V K1 N : Nat) (D : FQ) (M : CM) (s : TS) (h st a n : Nat) : Prop := SxR D M s 134 V K1 N h st a n ∧ LvB U s h n
theorem SxP.e (z : SxP U V K1 N D M σ h st a n) : SxE U V K1 K2 N D M σ h st a n := ⟨Or.inl z.1, z.2⟩
theorem SxP.ft (z : SxP U V K1 N D M σ h st a n) (f : Ft [170, 171] σ s) (h7 : N ≤ 70000) : SxP U V K1 N D M s h st a n := ⟨SxR.mv SnK.rf (NdX.ft f rfl) (Nat.le_refl _) (Nat.le_refl _) h7 _ _ _ _ _ (Nat.le_refl _) z.1, LvB.ft f _ _ z.2⟩
theorem z_prt : ∀ (h d tf : Nat) (σ : TS) (a n : Nat), h ≤ 200 → EvV 1 V U K1 K2 N D M σ → tI σ 171 = nI 0 → SxP U V K1 N D M σ h 0 a n → NvE M σ (kP (h + 1 + d) a x2 M) (tP (h + 1 + tf) (nI n) x2 σ)
  | 0, _, _, _, _, _, _, _, _, z => z.1.elim
  | h + 1, d, tf, σ, a, n, hh, E, h171, z => by
    have h0 := E.1.1
    have hc := E.2.2.2.2.1
    have h7 : N ≤ 70000 := E.2.2.2.2.2.2.2.2
    obtain ⟨ka, hn⟩ := sxe_k E (SxP.e z) (by omega)
    have i7 : inb (nI n) 70000 := inb_nI' hn (by decide)
    have x7 : ix (nI n) = n := ix_nI (by omega)
    have ih : ∀ {s b m}, Ft [170, 171] σ s → tI s 171 = nI 0 → SxP U V K1 N D M σ h 0 b m → NvE M s (kP (h + 1 + d) b x2 M) (tP (h + 1 + tf) (nI m) x2 s) := fun f i q => z_prt h d tf _ _ _ (by omega) (E.ft f) i (q.ft f h7)
    have wv : ∀ {s b m}, Ft [170, 171] σ s → tI s 171 = nI 0 → SxP U V K1 N D M σ h 0 b m → NvE M s (K_X0_val b M) (F_worth (nI m) 1 s) := fun f i q => z_val (h := h) (E.ft f) i (by omega) (SxP.e (q.ft f h7))
    have wi : ∀ {s b m}, Ft [170, 171] σ s → tI s 171 = nI 0 → SxP U V K1 N D M σ h 1 b m → NvE M s (K_X0_is b M) (F_holds (nI m) 1 s) := fun f i q => z_is (h := h) (E.ft f) i (by omega) (SxP.e (q.ft f h7))
    have f0 : ∀ {s}, Ft [170, 171] σ s → tI s 0 = 0 := fun f => (f 0 rfl).1.trans h0
    have ta : ∀ {s}, Ft [170, 171] σ s → tA s 122 n = tA σ 122 n ∧ tA s 123 n = tA σ 123 n ∧ tA s 124 n = tA σ 124 n := fun f => ⟨(f 122 rfl).2.2.1 n, (f 123 rfl).2.2.1 n, (f 124 rfl).2.2.1 n⟩
    have fit : ∀ {s x}, Ft [170, 171] σ s → tI s 171 = nI 0 → NvE M s (K_X19_in x M) (F_fit x s) := fun f i => (n_in hc.1 hc.2 (f0 f)).nv i
    have tim : ∀ {s x y}, Ft [170, 171] σ s → tI s 171 = nI 0 → NvE M s (K_X19_times x y M) (F_times x y s) := fun f i => (n_times hc.1 hc.2 (f0 f)).nv i
    have ovr : ∀ {s x y}, Ft [170, 171] σ s → tI s 171 = nI 0 → NvE M s (K_X19_over x y M) (F_over x y s) := fun f i => (n_over hc.1 hc.2 (f0 f)).nv i
    have rt : ∀ {s x}, Ft [170, 171] σ s → tI s 171 = nI 0 → NvE M s (K_X19_root x M) (F_root x s) := fun f i => (n_root hc.1 hc.2 (f0 f)).nv i
    have pF : ∀ {s : TS} {x y}, tI s 0 ≠ 0 → tP (h + 1 + tf) x y s = some (0, s) := fun {s x y} q => by
      rw [show h + 1 + tf = h + tf + 1 by omega]; exact t_pF q
    rw [show h + 1 + 1 + d = h + 1 + d + 1 by omega, show h + 1 + 1 + tf = h + 1 + tf + 1 by omega]
    have go : ∀ {k2 t2}, KB_X0_part (kP (h + 1 + d)) a x2 M = k2 → B_partial (tP (h + 1 + tf)) (nI n) x2 σ = t2 → NvE M σ k2 t2 → NvE M σ (kP (h + 1 + d + 1) a x2 M) (tP (h + 1 + tf + 1) (nI n) x2 σ) := fun e1 e2 q => by
      show NvE M σ (KB_X0_part (kP (h + 1 + d)) a x2 M) (B_partial (tP (h + 1 + tf)) (nI n) x2 σ)
      rw [e1, e2]; exact q
    rcases sx_nox (Or.inl rfl) h7 E.2.2.2.2.2.1.1 z.1 z.2 with lf | ⟨-, z1, z2, z3⟩ | ⟨-, z1, p, z2, z3⟩ | ⟨-, z1, ⟨p, z2, z3⟩, q, z4, z5⟩ | ⟨-, z1, z2, ⟨p, z3, z4⟩, ⟨q, z5, z6⟩, r, z7, z8⟩ | ⟨z, -⟩ | ⟨z, -⟩ | ⟨z, -⟩
    · obtain ⟨v, g1, g2⟩ := pt_lf (d := h + d) (tf := h + 1 + tf) (x2 := x2) E lf ka hn
      exact NvO.ret rfl h171 (by rw [show h + 1 + d + 1 = h + d + 2 by omega]; exact g1) g2
    · -- a number
      exact NvO.ret rfl h171 (k_pZero ka (by rw [z1]; decide)) (t_pZero h0 hn (by rw [z2]; decide))
    · -- one below
      simp only [List.mem_cons, List.not_mem_nil, or_false, Prod.mk.injEq] at z1
      rcases z1 with ⟨k1, k2⟩ | ⟨k1, k2⟩ | ⟨k1, k2⟩ | ⟨k1, k2⟩ | ⟨k1, k2⟩
      · -- NEG
        refine go (k2 := obS (kP (h + 1 + d) (mR M 3405 a) x2 M) (fun w M => some (.inr w, M)) fun r M => some (.inl (-r), M)) (t2 := ob (tP (h + 1 + tf) (tA σ 122 n) x2 σ) fun r s => some (-r, s)) ?_ ?_ ?_
        · unfold KB_X0_part; rw [k1]; simp +decide only [ka, ↓reduceIte]
        · unfold B_partial; rw [t_isBad0 h0, ob_some, nm_eq, x7, k2]; simp +decide only [if_pos i7, ↓reduceIte]
        · rw [z2]
          exact NvO.seq (ih (Ft.rf _ σ) h171 z3) (fun y s hs => ⟨_, rfl⟩) (fun v w s e f i => NvO.ret (show -v = -w by rw [e]) i rfl rfl)
      · -- ABS
        refine go (k2 := obS (K_X0_val (mR M 3405 a) M) (fun w M => some (.inr w, M)) fun r1 M1 => ob (K_X19_sign r1 M1) fun g M2 => if mk M2 a = 18 then obS (kP (h + 1 + d) (mR M2 3405 a) x2 M2) (fun w M => some (.inr w, M)) fun r3 M3 => obS (K_X19_times g r3 M3) (fun w M => some (.inr w, M)) fun r M => some (.inl r, M) else none)
          (t2 := ob (F_worth (tA σ 122 n) 1 σ) fun r1 s1 => ob (tP (h + 1 + tf) (tA s1 122 n) x2 s1) fun r2 s2 => ob (F_isBad s2) fun q s3 => if q = 0 then (if 0 ≤ r1 then (if r1 ≤ 0 then ob (F_times 0 r2 s3) fun r s => some (r, s) else ob (F_times 65536 r2 s3) fun r s => some (r, s)) else ob (F_times (-65536) r2 s3) fun r s => some (r, s)) else some (0, s3)) ?_ ?_ ?_
        · unfold KB_X0_part; rw [k1]; simp +decide only [ka, ↓reduceIte]
        · unfold B_partial; rw [t_isBad0 h0, ob_some, nm_eq, x7, k2]; simp +decide only [if_pos i7, ↓reduceIte]
        · rw [z2]
          refine NvO.seq (wv (Ft.rf _ σ) h171 z3) (fun y s hs => ⟨0, ?_⟩) (fun v w s e f i => ?_)
          · try dsimp only
            rw [pF hs, ob_some, t_isBad1 hs, ob_some, ifF (show ¬ (1 : Int32) = 0 by decide)]
          · subst e
            try dsimp only
            obtain ⟨g, g1, g2⟩ : ∃ g, K_X19_sign v M = some (g, M) ∧ ∀ (X : Int32 → Option (Int32 × TS)), (if 0 ≤ v then (if v ≤ 0 then X 0 else X 65536) else X (-65536)) = X g := by
              unfold K_X19_sign
              by_cases y1 : v ≤ 0
              · by_cases y2 : 0 ≤ v
                · exact ⟨0, by rw [ifT y1, ifT y2], fun X => by rw [ifT y2, ifT y1]⟩
                · exact ⟨-65536, by rw [ifT y1, ifF y2], fun X => by rw [ifF y2]⟩
              · have y2 : 0 ≤ v := Int32.le_of_lt (Int32.not_le.mp y1)
                exact ⟨65536, by rw [ifF y1], fun X => by rw [ifT y2, ifF y1]⟩
            rw [g1, ob_some, ifT ka, (ta f).1, z2]
            refine NvO.seq (ih f i z3) (fun y s hs => ⟨0, ?_⟩) (fun v2 w2 s2 e f2 i2 => ?_)
            · try dsimp only
              rw [t_isBad1 hs, ob_some, ifF (show ¬ (1 : Int32) = 0 by decide)]
            · subst e
              try dsimp only
              rw [t_isBad0 (f0 (f.tr f2)), ob_some, ifT (rfl : (0 : Int32) = 0), obS_id, g2 (fun g => ob (F_times g v2 s2) fun r s => some (r, s)), ob_id]
              exact tim (f.tr f2) i2
      · -- SQRT
        refine go (k2 := obS (kP (h + 1 + d) (mR M 3405 a) x2 M) (fun w M => some (.inr w, M)) fun r1 M1 => if mk M1 a = 18 then obS (K_X0_val (mR M1 3405 a) M1) (fun w M => some (.inr w, M)) fun r2 M2 => obS (K_X19_root r2 M2) (fun w M => some (.inr w, M)) fun r3 M3 => obS (K_X19_times 131072 r3 M3) (fun w M => some (.inr w, M)) fun r4 M4 => obS (K_X19_over r1 r4 M4) (fun w M => some (.inr w, M)) fun r M => some (.inl r, M) else none)
          (t2 := ob (tP (h + 1 + tf) (tA σ 122 n) x2 σ) fun r1 s1 => ob (F_worth (tA s1 122 n) 1 s1) fun r2 s2 => ob (F_root r2 s2) fun r3 s3 => ob (F_isBad s3) fun q s4 => if q = 0 then ob (F_times 131072 r3 s4) fun r4 s5 => ob (F_isBad s5) fun q s6 => if q = 0 then ob (F_over r1 r4 s6) fun r s => some (r, s) else some (0, s6) else ob (F_isBad s4) fun q s6 => if q = 0 then ob (F_over r1 0 s6) fun r s => some (r, s) else some (0, s6)) ?_ ?_ ?_
        · unfold KB_X0_part; rw [k1]; simp +decide only [ka, ↓reduceIte]
        · unfold B_partial; rw [t_isBad0 h0, ob_some, nm_eq, x7, k2]; simp +decide only [if_pos i7, ↓reduceIte]
        · rw [z2]
          refine NvO.seq (ih (Ft.rf _ σ) h171 z3) (fun y s hs => ⟨0, ?_⟩) (fun v w s e f i => ?_)
          · try dsimp only
            obtain ⟨y2, e2⟩ := t_rootB (y := 0) hs
            rw [t_worthF hs, ob_some, e2, ob_some, t_isBad1 hs, ob_some, ifF (show ¬ (1 : Int32) = 0 by decide), t_isBad1 hs, ob_some, ifF (show ¬ (1 : Int32) = 0 by decide)]
          · subst e
            try dsimp only
            rw [ifT ka, (ta f).1, z2]
            refine NvO.seq (wv f i z3) (fun y s hs => ⟨0, ?_⟩) (fun v2 w2 s2 e f2 i2 => ?_)
            · try dsimp only
              obtain ⟨y2, e2⟩ := t_rootB (y := y) hs
              rw [e2, ob_some, t_isBad1 hs, ob_some, ifF (show ¬ (1 : Int32) = 0 by decide), t_isBad1 hs, ob_some, ifF (show ¬ (1 : Int32) = 0 by decide)]
            · subst e
              try dsimp only
              refine NvO.seq (rt (f.tr f2) i2) (fun y s hs => ⟨0, ?_⟩) (fun v3 w3 s3 e f3 i3 => ?_)
              · try dsimp only
                rw [t_isBad1 hs, ob_some, ifF (show ¬ (1 : Int32) = 0 by decide), t_isBad1 hs, ob_some, ifF (show ¬ (1 : Int32) = 0 by decide)]
              · subst e
                try dsimp only
                rw [t_isBad0 (f0 ((f.tr f2).tr f3)), ob_some, ifT (rfl : (0 : Int32) = 0)]
                refine NvO.seq (tim ((f.tr f2).tr f3) i3) (fun y s hs => ⟨0, ?_⟩) (fun v4 w4 s4 e f4 i4 => ?_)
                · try dsimp only
                  rw [t_isBad1 hs, ob_some, ifF (show ¬ (1 : Int32) = 0 by decide)]
                · subst e
                  try dsimp only
                  rw [t_isBad0 (f0 (((f.tr f2).tr f3).tr f4)), ob_some, ifT (rfl : (0 : Int32) = 0), obS_id, ob_id]
                  exact ovr (((f.tr f2).tr f3).tr f4) i4
      · exact NvO.ret rfl h171 (k_pZero ka (by rw [k1]; decide)) (t_pZero h0 hn (by rw [k2]; decide))
      · exact NvO.ret rfl h171 (k_pZero ka (by rw [k1]; decide)) (t_pZero h0 hn (by rw [k2]; decide))
    · -- two below
      simp only [List.mem_cons, List.not_mem_nil, or_false, Prod.mk.injEq] at z1
      have addsub : ∀ (kop top : Int32) (F : Int32 → Int32 → Int64), (∀ x y M, K_X0_two kop x y M = K_X19_in (F x y) M) → NvE M σ (obS (kP (h + 1 + d) (mR M 3405 a) x2 M) (fun w M => some (.inr w, M)) fun r1 M1 => if mk M1 a = 18 then if mk M1 a = 18 then obS (kP (h + 1 + d) (mR M1 3406 a) x2 M1) (fun w M => some (.inr w, M)) fun r2 M2 => obS (K_X0_two (mI M1 3400 a) r1 r2 M2) (fun w M => some (.inr w, M)) fun r M => some (.inl r, M) else none else none)
          (ob (tP (h + 1 + tf) (tA σ 122 n) x2 σ) fun r1 s1 => ob (tP (h + 1 + tf) (tA s1 123 n) x2 s1) fun r2 s2 => ob (F_isBad s2) fun q s3 => if q = 0 then ob (F_fit (F r1 r2) s3) fun r s => some (r, s) else some (0, s3)) ∨ mI M 3400 a ≠ kop := fun kop top F hF => by
        by_cases kk : mI M 3400 a = kop
        · left
          rw [z2]
          refine NvO.seq (ih (Ft.rf _ σ) h171 z3) (fun y s hs => ⟨0, ?_⟩) (fun v w s e f i => ?_)
          · try dsimp only
            rw [pF hs, ob_some, t_isBad1 hs, ob_some, ifF (show ¬ (1 : Int32) = 0 by decide)]
          · subst e
            try dsimp only
            rw [ifT ka, ifT ka, (ta f).2.1, z4]
            refine NvO.seq (ih f i z5) (fun y s hs => ⟨0, ?_⟩) (fun v2 w2 s2 e f2 i2 => ?_)
            · try dsimp only
              rw [t_isBad1 hs, ob_some, ifF (show ¬ (1 : Int32) = 0 by decide)]
            · subst e
              try dsimp only
              rw [t_isBad0 (f0 (f.tr f2)), ob_some, ifT (rfl : (0 : Int32) = 0), obS_id, ob_id, kk, hF]
              exact fit (f.tr f2) i2
        · exact Or.inr kk
      have mmx : ∀ (c tok : Int32), (mI M 3400 a = 10 ∧ c = 22 ∧ tok = 15421 ∨ mI M 3400 a = 11 ∧ c = 23 ∧ tok = 15933) → NvE M σ (obS (K_X0_val (mR M 3405 a) M) (fun w M => some (.inr w, M)) fun r1 M1 => if mk M1 a = 18 then if mI M1 3400 a = 10 then KJ_X0_part_347 (kP (h + 1 + d)) a x2 r1 22 M1 else KJ_X0_part_347 (kP (h + 1 + d)) a x2 r1 23 M1 else none)
          (ob (F_worth (tA σ 122 n) 1 σ) fun r1 s1 => ob (F_worth (tA s1 123 n) 1 s1) fun r2 s2 => ob (F_compare tok r1 r2 s2) fun z s2 => if z = 0 then J_partial_803 (tP (h + 1 + tf)) (nI n) x2 0 s2 else J_partial_803 (tP (h + 1 + tf)) (nI n) x2 1 s2) := fun c tok hct => by
        have pick : ∀ {β : Type} (f : Int32 → β), (if mI M 3400 a = 10 then f 22 else f 23) = f c := fun f => by
          rcases hct with ⟨q1, q2, -⟩ | ⟨q1, q2, -⟩
          · rw [q2, ifT q1]
          · rw [q2, ifF (by rw [q1]; decide)]
        have hct : c = 22 ∧ tok = 15421 ∨ c = 23 ∧ tok = 15933 := hct.imp (fun q => q.2) (fun q => q.2)
        have cmp : ∀ x y s, ∃ r, (r = 0 ∨ r = 1) ∧ K_X0_compare c x y M = some (r, M) ∧ F_compare tok x y s = some (r, s) := fun x y s => n_cmp (by rcases hct with ⟨q1, q2⟩ | ⟨q1, q2⟩ <;> rw [q1, q2] <;> decide)
        have jF : ∀ {s : TS} {y}, tI s 0 ≠ 0 → J_partial_803 (tP (h + 1 + tf)) (nI n) x2 y s = some (0, s) := fun {s y} hs => by
          unfold J_partial_803
          rw [t_isBad1 hs, ob_some, ifF (show ¬ (1 : Int32) = 0 by decide)]
        rw [z2]
        refine NvO.seq (wv (Ft.rf _ σ) h171 z3) (fun y s hs => ⟨0, ?_⟩) (fun v w s e f i => ?_)
        · try dsimp only
          obtain ⟨r, -, -, r3⟩ := cmp y 0 s
          rw [t_worthF hs, ob_some, r3, ob_some]
          by_cases q : r = 0
          · rw [ifT q]; exact jF hs
          · rw [ifF q]; exact jF hs
        · subst e
          try dsimp only
          rw [ifT ka, pick (fun c => KJ_X0_part_347 (kP (h + 1 + d)) a x2 v c M)]
          unfold KJ_X0_part_347
          rw [ifT ka, (ta f).2.1, z4]
          refine NvO.seq (wv f i z5) (fun y s hs => ⟨0, ?_⟩) (fun v2 w2 s2 e f2 i2 => ?_)
          · try dsimp only
            obtain ⟨r, -, -, r3⟩ := cmp v y s
            rw [r3, ob_some]
            by_cases q : r = 0
            · rw [ifT q]; exact jF hs
            · rw [ifF q]; exact jF hs
          · subst e
            try dsimp only
            have f02 := f.tr f2
            obtain ⟨r, -, r2, r3⟩ := cmp v v2 s2
            unfold J_partial_803
            rw [r2, r3, ob_some, ob_some, t_isBad0 (f0 f02), ob_some, ob_some, ifT (rfl : (0 : Int32) = 0), ifT (rfl : (0 : Int32) = 0), ifT (rfl : (0 : Int32) = 0), ifF (show ¬ (1 : Int32) = 0 by decide), ifT i7, x7, ifT ka, obS_id, ifT ka, obS_id, ob_id, ob_id, (ta f02).1, (ta f02).2.1, z2, z4]
            by_cases q : r = 0
            · rw [ifT q, ifT q]; exact ih f02 i2 z5
            · rw [ifF q, ifF q, ifT i7]; exact ih f02 i2 z3
      rcases z1 with ⟨k1, k2⟩ | ⟨k1, k2⟩ | ⟨k1, k2⟩ | ⟨k1, k2⟩ | ⟨k1, k2⟩ | ⟨k1, k2⟩
      · -- ADD
        refine go ?_ ?_ ((addsub 3 5 (fun x y => x.toInt64 + y.toInt64) (fun x y M => by unfold K_X0_two; rw [ifT rfl, obS_id])).resolve_right (fun q => q k1))
        · unfold KB_X0_part; rw [k1]; simp +decide only [ka, ↓reduceIte]
        · unfold B_partial; rw [t_isBad0 h0, ob_some, nm_eq, x7, k2]; simp +decide only [if_pos i7, ↓reduceIte]
      · -- SUB
        refine go ?_ ?_ ((addsub 4 6 (fun x y => x.toInt64 - y.toInt64) (fun x y M => by unfold K_X0_two; rw [ifF (show ¬ (4 : Int32) = 3 by decide), ifT rfl, obS_id])).resolve_right (fun q => q k1))
        · unfold KB_X0_part; rw [k1]; simp +decide only [ka, ↓reduceIte]
        · unfold B_partial; rw [t_isBad0 h0, ob_some, nm_eq, x7, k2]; simp +decide only [if_pos i7, ↓reduceIte]
      · -- MUL
        refine go (k2 := obS (kP (h + 1 + d) (mR M 3405 a) x2 M) (fun w M => some (.inr w, M)) fun r1 M1 => if mk M1 a = 18 then obS (K_X0_val (mR M1 3406 a) M1) (fun w M => some (.inr w, M)) fun r2 M2 => obS (K_X19_times r1 r2 M2) (fun w M => some (.inr w, M)) fun r3 M3 => if mk M3 a = 18 then obS (K_X0_val (mR M3 3405 a) M3) (fun w M => some (.inr w, M)) fun r4 M4 => if mk M4 a = 18 then obS (kP (h + 1 + d) (mR M4 3406 a) x2 M4) (fun w M => some (.inr w, M)) fun r5 M5 => obS (K_X19_times r4 r5 M5) (fun w M => some (.inr w, M)) fun r6 M6 => obS (K_X19_in (r3.toInt64 + r6.toInt64) M6) (fun w M => some (.inr w, M)) fun r M => some (.inl r, M) else none else none else none)
          (t2 := ob (tP (h + 1 + tf) (tA σ 122 n) x2 σ) fun r1 s1 => ob (F_worth (tA s1 123 n) 1 s1) fun r2 s2 => ob (F_isBad s2) fun q s3 => if q = 0 then ob (F_times r1 r2 s3) fun r3 s4 => J_partial_382 (tP (h + 1 + tf)) (nI n) x2 r3 s4 else J_partial_382 (tP (h + 1 + tf)) (nI n) x2 0 s3) ?_ ?_ ?_
        · unfold KB_X0_part; rw [k1]; simp +decide only [ka, ↓reduceIte]
        · unfold B_partial; rw [t_isBad0 h0, ob_some, nm_eq, x7, k2]; simp +decide only [if_pos i7, ↓reduceIte]
        · have jF : ∀ {s : TS} {y}, tI s 0 ≠ 0 → J_partial_382 (tP (h + 1 + tf)) (nI n) x2 y s = some (0, s) := fun {s y} hs => by
            unfold J_partial_382
            rw [ifT i7, t_worthF hs, ob_some, ifT i7, pF hs, ob_some, t_isBad1 hs, ob_some, ifF (show ¬ (1 : Int32) = 0 by decide), t_isBad1 hs, ob_some, ifF (show ¬ (1 : Int32) = 0 by decide)]
          rw [z2]
          refine NvO.seq (ih (Ft.rf _ σ) h171 z3) (fun y s hs => ⟨0, ?_⟩) (fun v w s e f i => ?_)
          · try dsimp only
            rw [t_worthF hs, ob_some, t_isBad1 hs, ob_some, ifF (show ¬ (1 : Int32) = 0 by decide)]; exact jF hs
          subst e
          try dsimp only
          rw [ifT ka, (ta f).2.1, z4]
          refine NvO.seq (wv f i z5) (fun y s hs => ⟨0, ?_⟩) (fun v2 w2 s2 e f2 i2 => ?_)
          · try dsimp only
            rw [t_isBad1 hs, ob_some, ifF (show ¬ (1 : Int32) = 0 by decide)]; exact jF hs
          subst e
          try dsimp only
          have g2 := f.tr f2
          rw [t_isBad0 (f0 g2), ob_some, ifT (rfl : (0 : Int32) = 0)]
          refine NvO.seq (tim g2 i2) (fun y s hs => ⟨0, jF hs⟩) (fun v3 w3 s3 e f3 i3 => ?_)
          subst e
          try dsimp only
          have g3 := g2.tr f3
          unfold J_partial_382
          rw [ifT ka, ifT i7, x7, (ta g3).1, z2]
          refine NvO.seq (wv g3 i3 z3) (fun y s hs => ⟨0, ?_⟩) (fun v4 w4 s4 e f4 i4 => ?_)
          · try dsimp only
            rw [ifT i7, pF hs, ob_some, t_isBad1 hs, ob_some, ifF (show ¬ (1 : Int32) = 0 by decide), t_isBad1 hs, ob_some, ifF (show ¬ (1 : Int32) = 0 by decide)]
          subst e
          try dsimp only
          have g4 := g3.tr f4
          rw [ifT ka, ifT i7, (ta g4).2.1, z4]
          refine NvO.seq (ih g4 i4 z5) (fun y s hs => ⟨0, ?_⟩) (fun v5 w5 s5 e f5 i5 => ?_)
          · try dsimp only
            rw [t_isBad1 hs, ob_some, ifF (show ¬ (1 : Int32) = 0 by decide), t_isBad1 hs, ob_some, ifF (show ¬ (1 : Int32) = 0 by decide)]
          subst e
          try dsimp only
          have g5 := g4.tr f5
          rw [t_isBad0 (f0 g5), ob_some, ifT (rfl : (0 : Int32) = 0)]
          refine NvO.seq (tim g5 i5) (fun y s hs => ⟨0, ?_⟩) (fun v6 w6 s6 e f6 i6 => ?_)
          · try dsimp only
            rw [t_isBad1 hs, ob_some, ifF (show ¬ (1 : Int32) = 0 by decide)]
          subst e
          try dsimp only
          have g6 := g5.tr f6
          rw [t_isBad0 (f0 g6), ob_some, ifT (rfl : (0 : Int32) = 0), obS_id, ob_id]
          exact fit g6 i6
      · -- DIV
        refine go (k2 := obS (kP (h + 1 + d) (mR M 3405 a) x2 M) (fun w M => some (.inr w, M)) fun r1 M1 => if mk M1 a = 18 then obS (K_X0_val (mR M1 3405 a) M1) (fun w M => some (.inr w, M)) fun r2 M2 => if mk M2 a = 18 then obS (K_X0_val (mR M2 3406 a) M2) (fun w M => some (.inr w, M)) fun r3 M3 => obS (K_X19_over r2 r3 M3) (fun w M => some (.inr w, M)) fun r4 M4 => if mk M4 a = 18 then obS (kP (h + 1 + d) (mR M4 3406 a) x2 M4) (fun w M => some (.inr w, M)) fun r5 M5 => obS (K_X19_times r4 r5 M5) (fun w M => some (.inr w, M)) fun r6 M6 => obS (K_X19_in (r1.toInt64 - r6.toInt64) M6) (fun w M => some (.inr w, M)) fun r7 M7 => if mk M7 a = 18 then obS (K_X0_val (mR M7 3406 a) M7) (fun w M => some (.inr w, M)) fun r8 M8 => obS (K_X19_over r7 r8 M8) (fun w M => some (.inr w, M)) fun r M => some (.inl r, M) else none else none else none else none)
          (t2 := ob (tP (h + 1 + tf) (tA σ 122 n) x2 σ) fun r1 s1 => ob (F_worth (tA s1 122 n) 1 s1) fun r2 s2 => ob (F_worth (tA s2 123 n) 1 s2) fun r3 s3 => ob (F_isBad s3) fun q s4 => if q = 0 then ob (F_over r2 r3 s4) fun r4 s5 => J_partial_512 (tP (h + 1 + tf)) (nI n) x2 r1 r4 s5 else J_partial_512 (tP (h + 1 + tf)) (nI n) x2 r1 0 s4) ?_ ?_ ?_
        · unfold KB_X0_part; rw [k1]; simp +decide only [ka, ↓reduceIte]
        · unfold B_partial; rw [t_isBad0 h0, ob_some, nm_eq, x7, k2]; simp +decide only [if_pos i7, ↓reduceIte]
        · have j5 : ∀ {s : TS} {y}, tI s 0 ≠ 0 → J_partial_570 (tP (h + 1 + tf)) (nI n) y s = some (0, s) := fun {s y} hs => by
            unfold J_partial_570
            rw [ifT i7, t_worthF hs, ob_some, t_isBad1 hs, ob_some, ifF (show ¬ (1 : Int32) = 0 by decide)]
          have j4 : ∀ {s : TS} {x y}, tI s 0 ≠ 0 → J_partial_546 (tP (h + 1 + tf)) (nI n) x y s = some (0, s) := fun {s x y} hs => by
            unfold J_partial_546
            rw [t_isBad1 hs, ob_some, ifF (show ¬ (1 : Int32) = 0 by decide)]; exact j5 hs
          have jF : ∀ {s : TS} {x y}, tI s 0 ≠ 0 → J_partial_512 (tP (h + 1 + tf)) (nI n) x2 x y s = some (0, s) := fun {s x y} hs => by
            unfold J_partial_512
            rw [ifT i7, pF hs, ob_some, t_isBad1 hs, ob_some, ifF (show ¬ (1 : Int32) = 0 by decide)]; exact j4 hs
          rw [z2]
          refine NvO.seq (ih (Ft.rf _ σ) h171 z3) (fun y s hs => ⟨0, ?_⟩) (fun v w s e f i => ?_)
          · try dsimp only
            rw [t_worthF hs, ob_some, t_worthF hs, ob_some, t_isBad1 hs, ob_some, ifF (show ¬ (1 : Int32) = 0 by decide)]; exact jF hs
          subst e
          try dsimp only
          rw [ifT ka, (ta f).1, z2]
          refine NvO.seq (wv f i z3) (fun y s hs => ⟨0, ?_⟩) (fun v2 w2 s2 e f2 i2 => ?_)
          · try dsimp only
            rw [t_worthF hs, ob_some, t_isBad1 hs, ob_some, ifF (show ¬ (1 : Int32) = 0 by decide)]; exact jF hs
          subst e
          try dsimp only
          have g2 := f.tr f2
          rw [ifT ka, (ta g2).2.1, z4]
          refine NvO.seq (wv g2 i2 z5) (fun y s hs => ⟨0, ?_⟩) (fun v3 w3 s3 e f3 i3 => ?_)
          · try dsimp only
            rw [t_isBad1 hs, ob_some, ifF (show ¬ (1 : Int32) = 0 by decide)]; exact jF hs
          subst e
          try dsimp only
          have g3 := g2.tr f3
          rw [t_isBad0 (f0 g3), ob_some, ifT (rfl : (0 : Int32) = 0)]
          refine NvO.seq (ovr g3 i3) (fun y s hs => ⟨0, jF hs⟩) (fun v4 w4 s4 e f4 i4 => ?_)
          subst e
          try dsimp only
          have g4 := g3.tr f4
          unfold J_partial_512
          rw [ifT ka, ifT i7, x7, (ta g4).2.1, z4]
          refine NvO.seq (ih g4 i4 z5) (fun y s hs => ⟨0, ?_⟩) (fun v5 w5 s5 e f5 i5 => ?_)
          · try dsimp only
            rw [t_isBad1 hs, ob_some, ifF (show ¬ (1 : Int32) = 0 by decide)]; exact j4 hs
          subst e
          try dsimp only
          have g5 := g4.tr f5
          rw [t_isBad0 (f0 g5), ob_some, ifT (rfl : (0 : Int32) = 0)]
          refine NvO.seq (tim g5 i5) (fun y s hs => ⟨0, j4 hs⟩) (fun v6 w6 s6 e f6 i6 => ?_)
          subst e
          try dsimp only
          have g6 := g5.tr f6
          unfold J_partial_546
          rw [t_isBad0 (f0 g6), ob_some, ifT (rfl : (0 : Int32) = 0)]
          refine NvO.seq (fit g6 i6) (fun y s hs => ⟨0, j5 hs⟩) (fun v7 w7 s7 e f7 i7' => ?_)
          subst e
          try dsimp only
          have g7 := g6.tr f7
          unfold J_partial_570
          rw [ifT ka, ifT i7, x7, (ta g7).2.1, z4]
          refine NvO.seq (wv g7 i7' z5) (fun y s hs => ⟨0, ?_⟩) (fun v8 w8 s8 e f8 i8 => ?_)
          · try dsimp only
            rw [t_isBad1 hs, ob_some, ifF (show ¬ (1 : Int32) = 0 by decide)]
          subst e
          try dsimp only
          have g8 := g7.tr f8
          rw [t_isBad0 (f0 g8), ob_some, ifT (rfl : (0 : Int32) = 0), obS_id, ob_id]
          exact ovr g8 i8
      · -- MIN
        refine go ?_ ?_ (mmx 22 15421 (Or.inl ⟨k1, rfl, rfl⟩))
        · unfold KB_X0_part; rw [k1]; simp +decide only [ka, ↓reduceIte]
        · unfold B_partial; rw [t_isBad0 h0, ob_some, nm_eq, x7, k2]; simp +decide only [if_pos i7, ↓reduceIte]
          congr 1; funext r1 s1; congr 1; funext r2 s2
          unfold F_compare
          rw [ifF (show ¬ (15421 : Int32) = 60 by decide), ifF (show ¬ (15421 : Int32) = 62 by decide), ifT (rfl : (15421 : Int32) = 15421)]
          by_cases q : r2 < r1
          · rw [ifT q, ifT q, ob_some, ifT rfl]
          · rw [ifF q, ifF q, ob_some, ifF (show ¬ (1 : Int32) = 0 by decide)]
      · -- MAX
        refine go ?_ ?_ (mmx 23 15933 (Or.inr ⟨k1, rfl, rfl⟩))
        · unfold KB_X0_part; rw [k1]; simp +decide only [ka, ↓reduceIte]
        · unfold B_partial; rw [t_isBad0 h0, ob_some, nm_eq, x7, k2]; simp +decide only [if_pos i7, ↓reduceIte]
          congr 1; funext r1 s1; congr 1; funext r2 s2
          unfold F_compare
          rw [ifF (show ¬ (15933 : Int32) = 60 by decide), ifF (show ¬ (15933 : Int32) = 62 by decide), ifF (show ¬ (15933 : Int32) = 15421 by decide), ifF (show ¬ (15933 : Int32) = 15677 by decide), ifT (rfl : (15933 : Int32) = 15933)]
          by_cases q : r1 < r2
          · rw [ifT q, ifT q, ob_some, ifT rfl]
          · rw [ifF q, ifF q, ob_some, ifF (show ¬ (1 : Int32) = 0 by decide)]
    · -- IF
      refine go (k2 := obS (K_X0_is (mR M 3405 a) M) (fun w M => some (.inr w, M)) fun r1 M1 => if r1 = 0 then if mk M1 a = 18 then obS (kP (h + 1 + d) (mR M1 3407 a) x2 M1) (fun w M => some (.inr w, M)) fun r M => some (.inl r, M) else none else if mk M1 a = 18 then obS (kP (h + 1 + d) (mR M1 3406 a) x2 M1) (fun w M => some (.inr w, M)) fun r M => some (.inl r, M) else none)
        (t2 := ob (F_holds (tA σ 122 n) 1 σ) fun r1 s1 => if r1 = 0 then ob (tP (h + 1 + tf) (tA s1 124 n) x2 s1) fun r s => some (r, s) else ob (tP (h + 1 + tf) (tA s1 123 n) x2 s1) fun r s => some (r, s)) ?_ ?_ ?_
      · unfold KB_X0_part; rw [z1]; simp +decide only [ka, ↓reduceIte]
      · unfold B_partial; rw [t_isBad0 h0, ob_some, nm_eq, x7, z2]; simp +decide only [if_pos i7, ↓reduceIte]
      · rw [z3]
        refine NvO.seq (wi (Ft.rf _ σ) h171 z4) (fun y s hs => ⟨0, ?_⟩) (fun v w s e f i => ?_)
        · try dsimp only
          by_cases q : y = 0
          · rw [ifT q, pF hs, ob_some]
          · rw [ifF q, pF hs, ob_some]
        · subst e
          try dsimp only
          rw [ifT ka, ifT ka, obS_id, obS_id, ob_id, ob_id, (ta f).2.1, (ta f).2.2, z5, z7]
          by_cases q : v = 0
          · rw [ifT q, ifT q]; exact ih f i z8
          · rw [ifF q, ifF q]; exact ih f i z6
    · exact absurd z (by decide)
    · exact absurd z (by decide)
    · exact absurd z (by decide)
end PART
