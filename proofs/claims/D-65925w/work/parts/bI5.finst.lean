/-! Layer B: the flat model: an instance of a member, both sides -/
set_option maxRecDepth 100000
section FINST
variable {C : PC} {D D' D2 : FQ} {M M' M1 M2 M3 : CM} {σ σ' σ1 σ2 s : TS} {mss fss : List Nat} {B V I Bm b e f z n0 j0 : Nat} {P T : Nat → Prop} {z7 : Nat → Nat}
/-- instance n is one of member b -/
def Mtc (σ : TS) (b n : Nat) : Prop := tA σ 75 n = tA σ 83 b ∧ tA σ 76 n = tA σ 84 b
theorem mtc_k (hB1 : B ≤ 1280) (W : FW C B P mss fss D M σ) (FX : FlX z7 C P D mss M σ V I Bm) (hb : b < Bm) {n : Nat} (hn : n < I) : (mR M 2601 ((pl D 99).getD n 0) = mR M 3006 ((pl D 100).getD b 0) ∧ mI M 2603 ((pl D 99).getD n 0) = mI M 3000 ((pl D 100).getD b 0)) ↔ Mtc σ b n := by
  obtain ⟨N, ⟨l1, l2, l3, l4⟩, -, -, -⟩ := FX
  obtain ⟨⟨L, WN0⟩, h1280, hQ⟩ := W.wn hB1
  obtain ⟨nb, e, eo, w, ⟨a1, a2, a3⟩, ⟨a4, a5, a6⟩, ⟨a7, a8⟩, ⟨a9, a10, a11, a12⟩, -⟩ := N.2.2.1 b hb
  have q99 := fun k (hk : k < I) => W.2.1.2.1 99 (by decide) k (by have := N.1.2.1; omega)
  obtain ⟨-, g2, -⟩ := N.2.1 n hn
  unfold Mtc
  rw [a2, a3, a4]
  rcases g2 with ⟨g3, g4, g5⟩ | ⟨g3, p, b', e', ⟨g4, g5, g6⟩, ⟨g7, g8, g9, g10, g11⟩, -⟩
  · rw [g4, g5]
    have p0 := (q99 nb a1).2.1.1
    refine ⟨fun y => by have := y.1; omega, fun y => ?_⟩
    have h3 : nI nb < 0 := by rw [← y.1]; decide
    rw [nI_ltL (by omega) (by decide)] at h3
    exact absurd h3 (Nat.not_lt_zero _)
  · rw [g5, g6, g10, g11]
    obtain ⟨nb', e2, eo', w', ⟨c1, c2, c3⟩, ⟨c4, c5, c6⟩, ⟨c7, c8⟩, ⟨c9, c10, c11, c12⟩, -⟩ := N.2.2.1 b' g7
    have e480 := W.e480 a5
    have e480' := W.e480 c5
    rw [g8] at c3
    have h9 : tA σ 84 b' = nI e2 := c4
    have inj : ∀ p q, p < I → q < I → (pl D 99).getD p 0 = (pl D 99).getD q 0 → p = q := fun p q hp hq h => (W.2.1.inj (l := 99) (l' := 99) (by decide) (by decide) (by have := N.1.2.1; omega) (by have := N.1.2.1; omega) h).2
    obtain ⟨-, -, -, bs, b1, b2, b3, b4, b5, b6⟩ := N.2.1 nb a1
    constructor
    · rintro ⟨y1, y2⟩
      have ep := inj p nb (by omega) a1 y1
      have : b' = b := b4 b' b (b5 b' g7 (by rw [g8, ep])) (b5 b hb a3) y2
      rw [this] at g9
      exact ⟨by rw [ep], by rw [← g9]; exact a4⟩
    · rintro ⟨y1, y2⟩
      have ep := (bI_eq (a := p) (b := nb) (by omega) (by omega)).mp y1
      rw [g9] at h9
      have h10 : nI e = nI e2 := y2.symm.trans h9
      have ee := (bI_eq (by omega) (by omega)).mp h10
      rw [← ee, a12] at c12
      have := (wc_inj WN0 a11 c11).mp c12
      exact ⟨by rw [ep], by rw [a9, c9, this]⟩
theorem mtc_lt (FX : FlX z7 C P D mss M σ V I Bm) (hb : b < Bm) {n n' : Nat} (hn : n < I) (hl : n' < n) (h : Mtc σ b n) (h' : Mtc σ b n') : ∃ x x', x ≤ 9 ∧ x' < x ∧ tA σ 77 n = nI x ∧ tA σ 77 n' = nI x' := by
  obtain ⟨-, g2, -⟩ := FX.1.2.1 n hn
  rcases g2 with ⟨g3, -⟩ | ⟨g3, p, b', e', ⟨g4, g5, g6⟩, ⟨g7, g8, g9, g10, g11⟩, x, x1, x2, x3, x4⟩
  · omega
  · obtain ⟨x', y1, y2⟩ := (x4 n' hl (by rw [h'.1, ← h.1]; exact g6)).1 (by rw [h'.2, ← h.2]; exact g10)
    exact ⟨x, x', x1.1, y1, x3, y2⟩
/-- instance j0 of a member -/
theorem z_instM (hB1 : B ≤ 1280) (W : FW C B P mss fss D M σ) (FX : FlX z7 C P D mss M σ V I Bm) (hb : b < Bm) (hz9 : z ≤ 9) (hf : mI M 3005 ((pl D 100).getD b 0) = nI f) (hB : ∀ j, j < many z → ∃ n, (f ≤ n ∧ n < I ∧ (j = 0 → n = f)) ∧ Mtc σ b n ∧ tA σ 77 n = nI (if z = 0 then 0 else j + 1)) (hj : j0 < many z) : ∃ n0, n0 < I ∧ K_X0_instance ((pl D 100).getD b 0) (nI j0) M = some ((pl D 99).getD n0 0, M) ∧ F_instanceOf (nI b) (nI (if z = 0 then 0 else j0 + 1)) σ = some (nI n0, σ) ∧ Mtc σ b n0 ∧ tA σ 77 n0 = nI (if z = 0 then 0 else j0 + 1) := by
  have hm := W.rm
  obtain ⟨G, hG, hGl⟩ := FUg
  have FX0 := FX
  obtain ⟨N, ⟨l1, l2, l3, l4⟩, ⟨t1, t2, t3⟩, ⟨i1, i2⟩, -⟩ := FX
  have l99 := N.1.2.1
  have l100 := N.1.2.2
  have km : mk M ((pl D 100).getD b 0) = 16 := (W.2.1.2.1 100 (by decide) b (by omega)).1
  have hm9 : many z ≤ 9 ∧ 1 ≤ many z := by unfold many; by_cases y : z = 0 <;> simp [y] <;> omega
  have idxb : ∀ j, j < many z → (if z = 0 then 0 else j + 1) ≤ 9 := fun j hj => by
    unfold many at hj
    by_cases y : z = 0
    · rw [ifT y]; omega
    · rw [ifF y] at hj ⊢; omega
  -- in order
  have ord : ∀ j j' n n', j < many z → j' < many z → n < I → n' < I → Mtc σ b n → Mtc σ b n' → tA σ 77 n = nI (if z = 0 then 0 else j + 1) → tA σ 77 n' = nI (if z = 0 then 0 else j' + 1) → (j' < j → n' < n) ∧ (j' = j → n' = n) := fun j j' n n' hj hj' hn hn' m m' e e' => by
    have key : ∀ j j' n n', j < many z → j' < many z → n < I → Mtc σ b n → Mtc σ b n' → tA σ 77 n = nI (if z = 0 then 0 else j + 1) → tA σ 77 n' = nI (if z = 0 then 0 else j' + 1) → n' < n → j' < j := fun j j' n n' hj hj' hn m m' e e' hl => by
      obtain ⟨x, x', x1, x2, x3, x4⟩ := mtc_lt FX0 hb hn hl m m'
      rw [e] at x3
      rw [e'] at x4
      have y1 := (bI_eq (by have := idxb j hj; omega) (by omega)).mp x3
      have y2 := (bI_eq (by have := idxb j' hj'; omega) (by omega)).mp x4
      by_cases y : z = 0
      · rw [ifT y] at y1 y2; omega
      · rw [ifF y] at y1 y2; omega
    constructor
    · intro h
      rcases Nat.lt_trichotomy n' n with q | q | q
      · exact q
      · rw [q, e] at e'
        have y1 := (bI_eq (by have := idxb j hj; omega) (by have := idxb j' hj'; omega)).mp e'
        unfold many at hj
        by_cases y : z = 0
        · rw [ifT y] at hj; omega
        · rw [ifF y, ifF y] at y1; omega
      · have := key j' j n' n hj' hj hn' m' m e' e q; omega
    · intro h
      rcases Nat.lt_trichotomy n' n with q | q | q
      · have := key j j' n n' hj hj' hn m m' e e' q; omega
      · exact q
      · have := key j' j n' n hj' hj hn' m' m e' e q; omega
  obtain ⟨n0, ⟨p1, p2, p3⟩, p4, p5⟩ := hB j0 hj
  have n01 : 1 ≤ n0 := by
    obtain ⟨-, g2, -⟩ := N.2.1 n0 p2
    rcases g2 with ⟨g3, g4, g5⟩ | ⟨g3, -⟩
    · exfalso
      obtain ⟨nb, e, eo, w, ⟨a1, a2, a3⟩, -⟩ := N.2.2.1 b hb
      have h3 : nI nb < 0 := by rw [← a3, ← p4.1, g5]; decide
      rw [nI_ltL (by omega) (by decide)] at h3
      exact absurd h3 (Nat.not_lt_zero _)
    · exact g3
  refine ⟨n0, p2, ?_, ?_, p4, p5⟩
  · -- the component counts
    have loop : ∀ (d pos j fu : Nat), pos + d = n0 → d < fu → f ≤ pos → j ≤ j0 → (∀ j', j' < j → ∀ n, n < I → Mtc σ b n → tA σ 77 n = nI (if z = 0 then 0 else j' + 1) → n < pos) → (∀ j', j ≤ j' → j' < many z → ∀ n, n < I → Mtc σ b n → tA σ 77 n = nI (if z = 0 then 0 else j' + 1) → pos ≤ n) → KL_X0_instance_8 fu ((pl D 100).getD b 0) (nI j0) (nI j) (nI pos) M = some (.inr ((pl D 99).getD n0 0), M) := by
      intro d
      induction d with
      | zero =>
        intro pos j fu hp hfu hfp hjj h1 h2
        obtain ⟨fu, rfl⟩ : ∃ g, fu = g + 1 := ⟨fu - 1, by omega⟩
        have ep : pos = n0 := by omega
        have ej : j = j0 := by
          by_cases y : j = j0
          · exact y
          · obtain ⟨n, ⟨b1, b2, b3⟩, b4, b5⟩ := hB j (by omega)
            have := h2 j (Nat.le_refl _) (by omega) n b2 b4 b5
            have := (ord j0 j n0 n hj (by omega) p2 b2 p4 b4 p5 b5).1 (by omega)
            omega
        have get := ls_get (W.2.1.1 99 (by decide)).1 (show pos < (pl D 99).length by omega)
        have k14 : mk M ((pl D 99).getD pos 0) = 14 := (W.2.1.2.1 99 (by decide) pos (by omega)).1
        have mt := (mtc_k hB1 W FX0 hb (show pos < I by omega)).mpr (by rw [ep]; exact p4)
        have bd : mR M 3006 ((pl D 100).getD b 0) ≤ 1099511627775 := by
          obtain ⟨nb, e, eo, w, ⟨a1, a2, a3⟩, -⟩ := N.2.2.1 b hb
          have := (W.2.1.2.1 99 (by decide) nb (by omega)).2.1.2
          rw [a2]; omega
        rw [KL_X0_instance_8, i2, ifF (fun z => by have := (bI_le (by omega) (by omega)).mp z; omega), get, ob_some, ifT (Or.inr k14), ifT k14, ifT km, ifT ⟨by rw [mt.1]; exact bd, bd⟩, ifT mt.1, ifT k14, ifT km, ifT mt.2, ifT (by rw [ej]), ep]
      | succ d ih =>
        intro pos j fu hp hfu hfp hjj h1 h2
        obtain ⟨fu, rfl⟩ : ∃ g, fu = g + 1 := ⟨fu - 1, by omega⟩
        have get := ls_get (W.2.1.1 99 (by decide)).1 (show pos < (pl D 99).length by omega)
        have k14 : mk M ((pl D 99).getD pos 0) = 14 := (W.2.1.2.1 99 (by decide) pos (by omega)).1
        have mt := mtc_k hB1 W FX0 hb (show pos < I by omega)
        have bd : mR M 3006 ((pl D 100).getD b 0) ≤ 1099511627775 := by
          obtain ⟨nb, e, eo, w, ⟨a1, a2, a3⟩, -⟩ := N.2.2.1 b hb
          have := (W.2.1.2.1 99 (by decide) nb (by omega)).2.1.2
          rw [a2]; omega
        have bd2 : mR M 2601 ((pl D 99).getD pos 0) ≤ 1099511627775 := by
          obtain ⟨-, g2, -⟩ := N.2.1 pos (by omega)
          rcases g2 with ⟨g3, g4, g5⟩ | ⟨g3, p, b', e', ⟨g4, g5, g6⟩, -⟩
          · rw [g4]; omega
          · have := (W.2.1.2.1 99 (by decide) p (by omega)).2.1.2
            rw [g5]; omega
        rw [KL_X0_instance_8, i2, ifF (fun z => by have := (bI_le (by omega) (by omega)).mp z; omega), get, ob_some, ifT (Or.inr k14), ifT k14, ifT km, ifT ⟨bd2, bd⟩]
        have skip : ¬ Mtc σ b pos → KL_X0_instance_8 fu ((pl D 100).getD b 0) (nI j0) (nI j) (nI (pos + 1)) M = some (.inr ((pl D 99).getD n0 0), M) := fun nm => ih (pos + 1) j fu (by omega) (by omega) (by omega) hjj (fun j' q n q1 q2 q3 => by have := h1 j' q n q1 q2 q3; omega) (fun j' q q' n q1 q2 q3 => by
          have := h2 j' q q' n q1 q2 q3
          by_cases y : n = pos
          · rw [y] at q2; exact absurd q2 nm
          · omega)
        by_cases m1 : mR M 2601 ((pl D 99).getD pos 0) = mR M 3006 ((pl D 100).getD b 0)
        · rw [ifT m1, ifT k14, ifT km]
          by_cases m2 : mI M 2603 ((pl D 99).getD pos 0) = mI M 3000 ((pl D 100).getD b 0)
          · rw [ifT m2]
            have mm := mt.mp ⟨m1, m2⟩
            -- it is number j
            obtain ⟨nj, ⟨b1, b2, b3⟩, b4, b5⟩ := hB j (by omega)
            have g1 := h2 j (Nat.le_refl _) (by omega) nj b2 b4 b5
            have ej : nj = pos := by
              by_cases y : nj = pos
              · exact y
              · exfalso
                obtain ⟨x, x', x1, x2, x3, x4⟩ := mtc_lt FX0 hb b2 (show pos < nj by omega) b4 mm
                rw [b5] at x3
                have y1 := (bI_eq (by have := idxb j (by omega); omega) (by omega)).mp x3
                by_cases j00 : j = 0
                · have := b3 j00; omega
                · obtain ⟨nk, ⟨d1, d2, d3⟩, d4, d5⟩ := hB (j - 1) (by omega)
                  have g2 := h1 (j - 1) (by omega) nk d2 d4 d5
                  obtain ⟨y, y', v1, v2, v3, v4⟩ := mtc_lt FX0 hb (show pos < I by omega) g2 mm d4
                  rw [x4] at v3
                  rw [d5] at v4
                  have w1 := (bI_eq (by omega) (by omega)).mp v3
                  have w2 := (bI_eq (by have := idxb (j - 1) (by omega); omega) (by omega)).mp v4
                  by_cases zz : z = 0
                  · rw [ifT zz] at y1 w2; omega
                  · rw [ifF zz] at y1 w2; omega
            have jlt : j < j0 := by
              by_cases y : j = j0
              · have := (ord j0 j n0 nj hj (by omega) p2 b2 p4 b4 p5 b5).2 y
                omega
              · omega
            rw [ifF (fun y => by have := (bI_eq (by omega) (by omega)).mp y; omega), nI_addL, nm_eq, nI_addL, nm_eq]
            refine ih (pos + 1) (j + 1) fu (by omega) (by omega) (by omega) jlt (fun j' q n q1 q2 q3 => ?_) (fun j' q q' n q1 q2 q3 => ?_)
            · by_cases y : j' = j
              · rw [y] at q3
                have := (ord j j nj n (by omega) (by omega) b2 q1 b4 q2 b5 q3).2 rfl
                omega
              · have := h1 j' (by omega) n q1 q2 q3; omega
            · have := (ord j' j n nj q' (by omega) q1 b2 q2 b4 q3 b5).1 (by omega)
              omega
          · rw [ifF m2, nI_addL, nm_eq]
            exact skip (fun y => m2 (mt.mpr y).2)
        · rw [ifF m1, nI_addL, nm_eq]
          exact skip (fun y => m1 (mt.mpr y).1)
    unfold K_X0_instance
    rw [ifT km, hf, nm_eq, show (0 : Int32) = nI 0 from rfl, loop (n0 - f) f 0 FU (by omega) (by rw [show FU = G + 1 from hG]; omega) (Nat.le_refl _) (Nat.zero_le _) (fun j' q => absurd q (Nat.not_lt_zero _)) (fun j' q q' n q1 q2 q3 => ?_), obS_inr]
    obtain ⟨nz, ⟨d1, d2, d3⟩, d4, d5⟩ := hB 0 (by omega)
    have e0 := d3 rfl
    by_cases y : j' = 0
    · rw [y] at q3
      have := (ord 0 0 nz n (by omega) (by omega) d2 q1 d4 q2 d5 q3).2 rfl
      omega
    · have := (ord j' 0 n nz q' (by omega) q1 d2 q2 d4 q3 d5).1 (by omega)
      omega
  · -- the twin looks for the index
    have ib : inb (nI b) 96001 := inb_nI' (by omega) (by decide)
    have xb : ix (nI b) = b := ix_nI (by omega)
    have loop : ∀ (d pos fu : Nat), pos + d = n0 → d < fu → 1 ≤ pos → L_instanceOf_2 fu (nI b) (nI (if z = 0 then 0 else j0 + 1)) (nI pos) σ = some (.inr (nI n0), σ) := by
      intro d
      induction d with
      | zero =>
        intro pos fu hp hfu h1
        obtain ⟨fu, rfl⟩ : ∃ g, fu = g + 1 := ⟨fu - 1, by omega⟩
        have ep : pos = n0 := by omega
        have ip : inb (nI pos) 200 := inb_nI' (by omega) (by decide)
        have xp : ix (nI pos) = pos := ix_nI (by omega)
        rw [L_instanceOf_2, t2, ifF (fun z => by have := (bI_le (by omega) (by omega)).mp z; omega), ifF (show ¬ nI pos ≤ 0 from by rw [show (0 : Int32) = nI 0 from rfl, bI_le (by omega) (by decide)]; omega), ifT ip, ifT ib, xp, xb, ifT (by rw [ep]; exact p4.1), ifT ip, ifT ib, ifT (by rw [ep]; exact p4.2), ifT ip, ifT (by rw [ep]; exact p5), ep]
      | succ d ih =>
        intro pos fu hp hfu h1
        obtain ⟨fu, rfl⟩ : ∃ g, fu = g + 1 := ⟨fu - 1, by omega⟩
        have ip : inb (nI pos) 200 := inb_nI' (by omega) (by decide)
        have xp : ix (nI pos) = pos := ix_nI (by omega)
        have nx := ih (pos + 1) fu (by omega) (by omega) (by omega)
        rw [L_instanceOf_2, t2, ifF (fun z => by have := (bI_le (by omega) (by omega)).mp z; omega), ifF (show ¬ nI pos ≤ 0 from by rw [show (0 : Int32) = nI 0 from rfl, bI_le (by omega) (by decide)]; omega), ifT ip, ifT ib, xp, xb]
        by_cases m1 : tA σ 75 pos = tA σ 83 b
        · rw [ifT m1, ifT ip, ifT ib]
          by_cases m2 : tA σ 76 pos = tA σ 84 b
          · rw [ifT m2, ifT ip]
            by_cases m3 : tA σ 77 pos = nI (if z = 0 then 0 else j0 + 1)
            · exfalso
              have := (ord j0 j0 n0 pos hj hj p2 (by omega) p4 ⟨m1, m2⟩ p5 m3).2 rfl
              omega
            · rw [ifF m3, nI_addL, nm_eq]; exact nx
          · rw [ifF m2, nI_addL, nm_eq]; exact nx
        · rw [ifF m1, nI_addL, nm_eq]; exact nx
    have nx := loop (n0 - 1) 1 G (by omega) (by omega) (Nat.le_refl _)
    unfold F_instanceOf
    have st : L_instanceOf_2 (G + 1) (nI b) (nI (if z = 0 then 0 else j0 + 1)) 0 σ = L_instanceOf_2 G (nI b) (nI (if z = 0 then 0 else j0 + 1)) (nI 1) σ := by
      rw [L_instanceOf_2, t2, ifF (show ¬ nI I ≤ 0 from by rw [show (0 : Int32) = nI 0 from rfl, bI_le (by omega) (by decide)]; omega), ifT (by decide)]
      rfl
    rw [show FU = G + 1 from hG, st, nx, obS_inr]
theorem z_inst (hB1 : B ≤ 1280) (W : FW C B P mss fss D M σ) (FX : FlX z7 C P D mss M σ V I Bm) (hb : b < Bm) (hz9 : z ≤ 9) (hf : mI M 3005 ((pl D 100).getD b 0) = nI f) (hB : ∀ j, j < many z → ∃ n, (f ≤ n ∧ n < I ∧ (j = 0 → n = f)) ∧ Mtc σ b n ∧ tA σ 77 n = nI (if z = 0 then 0 else j + 1)) (hj : j0 < many z) : ∃ n0, n0 < I ∧ K_X0_instance ((pl D 100).getD b 0) (nI j0) M = some ((pl D 99).getD n0 0, M) ∧ F_instanceOf (nI b) (nI (if z = 0 then 0 else j0 + 1)) σ = some (nI n0, σ) := by
  obtain ⟨n0, a, b, c, -⟩ := z_instM hB1 W FX hb hz9 hf hB hj
  exact ⟨n0, a, b, c⟩
end FINST
