/-! Layer B: the flat model: faces are joined, both sides -/
set_option maxRecDepth 100000
section CONN
variable {zb : Nat} {C : PC} {D D' D1 D2 : FQ} {M M' M1 M2 M3 M0 : CM} {σ σ' σ1 σ2 σ0 s1 s8 : TS} {mss fss : List Nat} {B V I Bm K N K' N' E A Wn E' A' Wn' v l k x0 dc md X N0 Lp w d s o n i nf R a b n1 n2 f g h1 h2 j eq : Nat} {P T : Nat → Prop} {x3 x3' x y r : Int32} {z7 : Nat → Nat} {S : List Nat}
theorem n_dbl (n : Nat) : (2 : Int32) * nI n = nI (2 * n) := by
  show Int32.ofNat 2 * Int32.ofNat n = Int32.ofNat (2 * n)
  rw [← Int32.ofNat_mul]
theorem n_half : ∀ f, f < 400 → nI f / 2 = nI (f / 2) := by decide +kernel
/-- a reference was followed -/
theorem BS.f2 (h : BS zb z7 C B P mss fss V I Bm Lp x3 D M σ K N E A Wn) (F2 : F2o M M') (f : Ft [118, 119, 120] σ σ') : BS zb z7 C B P mss fss V I Bm Lp x3 D M' σ' K N E A Wn ∧ BTr V C P K N D M σ D M' σ' ∧ FTr 105 C P 106 K N 0 D M σ D M' σ' := by
  obtain ⟨Fs, T⟩ := h.1.f2 F2 f
  have T0 := T
  obtain ⟨t1, t2, t3, t4, t5, t6, ⟨t7, t8, t9⟩, t10⟩ := T
  refine ⟨⟨Fs, h.2.mv h.fw h.hV t3 (Nat.le_refl _) (Nat.le_refl _) t9 (fun t z => TB.bt (Or.inl ⟨rfl, rfl, rfl, rfl⟩) z) t2 (fun f _ => t7 f) t5 (by decide)⟩, ⟨t1, t2, t3, t4, fun v hv hl g hg => (h.fw.2.1.so3 (by decide) hl t9 (fun z => TB.bt (Or.inl ⟨rfl, rfl, rfl, rfl⟩) z (by
    have := (h.fw.2.1.1 98 (by decide)).2.2
    have e : flX 98 = 96 := rfl
    unfold BT tg; omega))).r g, fun k hk v => (t5 k (by
    have : ∀ k, k ∈ vkL → fbL.contains k = false := by decide
    exact this k hk)).2.2.1 v⟩, T0⟩
/-- instance n and its class -/
theorem BS.inst (h : BS zb z7 C B P mss fss V I Bm Lp x3 D M σ K N E A Wn) (hn : n < I) : ((pl D 99).getD n 0 ≠ 0 ∧ (pl D 99).getD n 0 ≤ 1099511627775 ∧ mk M ((pl D 99).getD n 0) = 14) ∧ mI M 2600 ((pl D 99).getD n 0) = nI n ∧ ((n = 0 ∧ mR M 2601 ((pl D 99).getD n 0) = 0 ∧ tA σ 75 n = -1) ∨ (∃ p, p < n ∧ 1 ≤ n ∧ mR M 2601 ((pl D 99).getD n 0) = (pl D 99).getD p 0 ∧ tA σ 75 n = nI p)) ∧ ∃ k, k < mss.length ∧ k < 24 ∧ mR M 2602 ((pl D 99).getD n 0) = mss.getD k 0 ∧ tA σ 74 n = nI k ∧ mk M (mss.getD k 0) = 10 ∧ mss.getD k 0 ≤ 1099511627775 ∧ ((mI M 1801 (mss.getD k 0) = 0 ∧ tA σ 44 k = 0) ∨ (mI M 1801 (mss.getD k 0) = 1 ∧ tA σ 44 k = 1)) := by
  have W := h.fw
  have hm := W.rm
  obtain ⟨q1, q2, q3⟩ := W.2.1.2.1 99 (by decide) n (by have := h.fx.1.1.2.1; omega)
  have q1 : mk M ((pl D 99).getD n 0) = 14 := q1
  obtain ⟨a1, a2, ⟨k, k1, k2, k3⟩, -⟩ := h.fx.1.2.1 n hn
  obtain ⟨c1, c2, -⟩ := W.1.2.2.2.2.2.1.2.1 k k1
  have cp := (W.1.2.2.2.2.2.1.1 _ c1.1.1).2.1
  have h24 := W.1.2.2.2.2.1.1.1
  refine ⟨⟨by omega, by omega, q1⟩, a1, ?_, k, k1, by omega, k2, k3, c1.1.2, by omega, c2⟩
  rcases a2 with q | ⟨q0, p, b, e, q1, -⟩
  · exact Or.inl q
  · exact Or.inr ⟨p, q1.1, q0, q1.2.1, q1.2.2⟩
theorem BS.i99 (h : BS zb z7 C B P mss fss V I Bm Lp x3 D M σ K N E A Wn) (hn : n < I) (hi : i < I) (e : (pl D 99).getD n 0 = (pl D 99).getD i 0) : n = i := by
  have := h.fx.1.1.2.1
  exact (h.fw.2.1.inj (by decide) (by decide) (by omega) (by omega) e).2
/-- one face -/
theorem z_face (hB1 : B ≤ 1280) (hi : i < I) (h : BS zb z7 C B P mss fss V I Bm Lp x3 D M σ K N E A Wn) (R : RfP C P M σ o x) :
    (∃ M' σ' w, K_X0_face ((pl D 99).getD i 0) o M = some (.inr w, M') ∧ F_faceOf x (nI i) σ = some (-1, σ') ∧ FfB C B P mss fss M M' σ σ' w) ∨
    ∃ M' σ' f, (f < 400 ∧ f / 2 < I ∧ cxF σ' f = nI i) ∧ K_X0_face ((pl D 99).getD i 0) o M = some (.inl (nI f), M') ∧ F_faceOf x (nI i) σ = some (nI f, σ') ∧ BS zb z7 C B P mss fss V I Bm Lp x3 D M' σ' K N E A Wn ∧ BTr V C P K N D M σ D M' σ' := by
  obtain ⟨q, hq, hq7, r1, r2, r3, ps, r4, r5, r6⟩ := R
  have I200 := h.fx.2.1.2.1
  unfold K_X0_face F_faceOf
  rw [ifT r2, hq]
  rcases z_follow hB1 h.fw h.fx h.1.2.2.2.1 h.h0 hi r5 r4 r6 with ⟨M', σ', w, a1, a2, a3, a4⟩ | ⟨M', σ', a1, a2, a3, a4, a5⟩
  · left
    have b0 := a3.2.1.2.2.1
    refine ⟨M', σ', w, by rw [a1, obS_inr], ?_, a3, ⟨N, h.hl.2, by rw [(a4 126 rfl).1]; exact h.1.2.2.1.2.2.1.1⟩, ⟨E, h.2.2.1.1.2.2.1, by rw [(a4 143 rfl).1]; exact h.2.2.1.1.2.1⟩, by rw [(a4 171 rfl).1]; exact h.2.2.2.2.2.2.2.2.1⟩
    rw [a2, ob_some, t_isBad1 b0, ob_some, ifF (show ¬ (1 : Int32) = 0 by decide)]
  · obtain ⟨h', bt, -⟩ := h.f2 a3 a4
    have h0 := h'.h0
    rw [a1, obS_inl, nm_eq, a2, ob_some, t_isBad0 h0, ob_some, ifT (rfl : (0 : Int32) = 0)]
    obtain ⟨b1, b2, b3⟩ := h'.bad (x4 := 26) (by decide)
    have bk : mk (wM M' 26 0) (mn M') = 7 := wM_k M' 26 0
    have bad := b3.pre bt.2.2.2.1
    have neg : ∀ n : Nat, n < 400 → ¬ nI n < 0 := fun n hn z => by
      rw [nI_ltL (by omega) (by decide)] at z; exact absurd z (Nat.not_lt_zero _)
    rcases a5 with ⟨v, v1, v2, v3, v4⟩ | ⟨n', v1, v2, v3, v4, v5⟩
    · left
      have v96 := h.hV.2
      have le0 : (0 : Int32) ≤ nI v := by rw [show (0 : Int32) = nI 0 from rfl, bI_le (by decide) (by omega)]; omega
      refine ⟨_, badT σ' 26, _, ?_, ?_, bad⟩
      · rw [v3, ifT (rfl : (0 : Nat) = 0), b1, ob_some, ifT bk]
      · rw [v4]
        by_cases z : tI σ' 118 < 0
        · rw [ifT z, b2, ob_some]
        · rw [ifF z, ifT le0, b2, ob_some]
    · obtain ⟨⟨o1, o2, o3⟩, i1, i2, k, k1, k24, k2, k3, k4, k5, k6⟩ := h'.inst v1
      obtain ⟨⟨p1, p2, p3⟩, -⟩ := h'.inst hi
      have in118 : inb (nI n') 200 := inb_nI' (by omega) (by decide)
      have xn : ix (nI n') = n' := ix_nI (by omega)
      rw [v3, v4, v5, ifF o1, ifT o3, k2, ifT k4, ifF (neg n' (by omega)), ifF (show ¬ (0 : Int32) ≤ -1 by decide), ifT in118, xn, k3, ifT (inb_nI' (by omega) (by decide)), ix_nI (by omega)]
      rcases k6 with ⟨k6, k7⟩ | ⟨k6, k7⟩
      · left
        refine ⟨_, badT σ' 26, _, ?_, ?_, bad⟩
        · rw [ifT k6, b1, ob_some, ifT bk]
        · rw [k7, ifF (show ¬ (0 : Int32) = 1 by decide), b2, ob_some]
      · rw [k6, ifF (show ¬ (1 : Int32) = 0 by decide), ifT o3, k7, ifT (rfl : (1 : Int32) = 1), ifT in118]
        rcases i2 with ⟨e0, e1, e2⟩ | ⟨p, e0, e00, e1, e2⟩
        · left
          have ne : ¬ (-1 : Int32) = nI i := fun z => neg i (by omega) (by rw [← z]; decide)
          refine ⟨_, badT σ' 26, _, ?_, ?_, bad⟩
          · rw [e1, ifT ⟨by decide, p2⟩, ifF (fun z => p1 z.symm), ifT o3, ifT (rfl : (0 : Nat) = 0), b1, ob_some, ifT bk]
          · rw [e2, ifF ne, ifT in118, ifT (show (-1 : Int32) ≤ 0 by decide), b2, ob_some]
        · obtain ⟨⟨u1, u2, u3⟩, -, i3, -⟩ := h'.inst (n := p) (by omega)
          have xp : ix (nI p) = p := ix_nI (by omega)
          rw [e1, e2, ifT ⟨u2, p2⟩]
          by_cases ep : p = i
          · right
            refine ⟨M', σ', 2 * n', ⟨by omega, by omega, by unfold cxF; rw [ifT (by omega), show 2 * n' / 2 = n' by omega, e2, ep]⟩, ?_, ?_, h', bt⟩
            · rw [ep, ifT rfl, ifT o3, i1, n_dbl]
            · rw [ep, ifT rfl, n_dbl]
          · have nep : ¬ (pl D 99).getD p 0 = (pl D 99).getD i 0 := fun z => ep (h'.i99 (by omega) hi z)
            have nep' : ¬ nI p = nI i := fun z => ep ((bI_eq (by omega) (by omega)).mp z)
            rw [ifF nep, ifF nep', ifT o3, ifF u1, ifT o3, ifT u3, ifT in118]
            rcases i3 with ⟨f0, f1, f2⟩ | ⟨pp, f0, f00, f1, f2⟩
            · left
              refine ⟨_, badT σ' 26, _, ?_, ?_, bad⟩
              · rw [f1, ifT ⟨by decide, p2⟩, ifF (fun z => p1 z.symm), b1, ob_some, ifT bk]
              · rw [f0, ifT (show nI 0 ≤ 0 by decide), b2, ob_some]
            · obtain ⟨⟨w1, w2, w3⟩, -⟩ := h'.inst (n := pp) (by omega)
              have np0 : ¬ nI p ≤ 0 := fun z => by
                rw [show (0 : Int32) = nI 0 from rfl, bI_le (by omega) (by decide)] at z; omega
              rw [f1, ifT ⟨w2, p2⟩, ifF np0, ifT in118, ifT (inb_nI' (by omega) (by decide)), xp, f2]
              by_cases epp : pp = i
              · right
                refine ⟨M', σ', 2 * n' + 1, ⟨by omega, by omega, by unfold cxF; rw [ifF (by omega), show (2 * n' + 1) / 2 = n' by omega, e2, xp, f2, epp]⟩, ?_, ?_, h', bt⟩
                · rw [epp, ifT rfl, ifT o3, i1, n_dbl, nI_addL]
                · rw [epp, ifT rfl, n_dbl, nI_addL]
              · have npp : ¬ (pl D 99).getD pp 0 = (pl D 99).getD i 0 := fun z => epp (h'.i99 (by omega) hi z)
                have npp' : ¬ nI pp = nI i := fun z => epp ((bI_eq (by omega) (by omega)).mp z)
                left
                refine ⟨_, badT σ' 26, _, ?_, ?_, bad⟩
                · rw [ifF npp, b1, ob_some, ifT bk]
                · rw [ifF npp', b2, ob_some]
/-- the head of a face's set -/
theorem z_head (h : JnX M σ) : ∀ f, f < 400 → ∃ p, p ≤ f ∧ K_X0_top (nI f) M = some (nI p, M) ∧ F_headOf (nI f) σ = some (nI p, σ) ∧ SmF σ p f ∧ (p = f ↔ tA σ 155 f = nI f) := by
  have main : ∀ (b f : Nat), f ≤ b → f < 400 → ∃ p, p ≤ f ∧ (SmF σ p f ∧ (p = f ↔ tA σ 155 f = nI f)) ∧ ∀ n, f < n → KL_X0_top_2 n (nI f) M = some (nI p, M) ∧ L_headOf_2 n (nI f) σ = some (nI p, σ) := by
    intro b
    induction b with
    | zero =>
      intro f hf hf4
      obtain ⟨p, p1, p2, p3, p4⟩ := h f hf4
      have e : p = f := by omega
      refine ⟨f, Nat.le_refl _, ⟨⟨rfl, rfl⟩, fun _ => by rw [p2, e], fun _ => rfl⟩, fun n hn => ?_⟩
      obtain ⟨n, rfl⟩ : ∃ g, n = g + 1 := ⟨n - 1, by omega⟩
      have i4 : inb (nI f) 400 := inb_nI' hf4 (by decide)
      refine ⟨?_, ?_⟩
      · unfold KL_X0_top_2
        rw [ifT i4, ix_nI (by omega), p1, e, ifT rfl]
      · unfold L_headOf_2
        rw [ifT i4, ix_nI (by omega), p2, e, ifT rfl]
    | succ b ih =>
      intro f hf hf4
      obtain ⟨p, p1, p2, p3, p4⟩ := h f hf4
      have i4 : inb (nI f) 400 := inb_nI' hf4 (by decide)
      by_cases e : p = f
      · refine ⟨f, Nat.le_refl _, ⟨⟨rfl, rfl⟩, fun _ => by rw [p2, e], fun _ => rfl⟩, fun n hn => ?_⟩
        obtain ⟨n, rfl⟩ : ∃ g, n = g + 1 := ⟨n - 1, by omega⟩
        refine ⟨?_, ?_⟩
        · unfold KL_X0_top_2
          rw [ifT i4, ix_nI (by omega), p1, e, ifT rfl]
        · unfold L_headOf_2
          rw [ifT i4, ix_nI (by omega), p2, e, ifT rfl]
      · obtain ⟨q, q1, ⟨qs, -⟩, q2⟩ := ih p (by omega) (by omega)
        refine ⟨q, by omega, ⟨qs.tr p4, fun z => by omega, fun z => absurd ((bI_eq (by omega) (by omega)).mp (p2.symm.trans z)) e⟩, fun n hn => ?_⟩
        obtain ⟨n, rfl⟩ : ∃ g, n = g + 1 := ⟨n - 1, by omega⟩
        have ne : ¬ nI p = nI f := fun z => e ((bI_eq (by omega) (by omega)).mp z)
        obtain ⟨q3, q4⟩ := q2 n (by omega)
        refine ⟨?_, ?_⟩
        · unfold KL_X0_top_2
          rw [ifT i4, ix_nI (by omega), p1, ifF ne, ifT i4, nm_eq]; exact q3
        · unfold L_headOf_2
          rw [ifT i4, ix_nI (by omega), p2, ifF ne, ifT i4, nm_eq]; exact q4
  intro f hf
  obtain ⟨p, p1, ps, p2⟩ := main f f (Nat.le_refl _) hf
  have hFU : 400 < FU := by unfold FU; decide
  obtain ⟨q1, q2⟩ := p2 FU (by omega)
  refine ⟨p, p1, ?_, ?_, ps⟩
  · unfold K_X0_top; rw [q1, ob_some]
  · unfold F_headOf; rw [q2, ob_some]
/-- two sets become one -/
theorem BS.jn (h : BS zb z7 C B P mss fss V I Bm Lp x3 D M σ K N E A Wn) (hg : g ≤ f ∧ f < 400) (hsm : SmF σ g f) : BS zb z7 C B P mss fss V I Bm Lp x3 D (mwA M 115 f (nI g)) (tsA σ 155 f (nI g)) K N E A Wn ∧ BTr V C P K N D M σ D (mwA M 115 f (nI g)) (tsA σ 155 f (nI g)) := by
  have W := h.fw
  have hV := h.hV
  obtain ⟨M', hM⟩ : ∃ q, q = mwA M 115 f (nI g) := ⟨_, rfl⟩
  obtain ⟨σ', hσ⟩ : ∃ q, q = tsA σ 155 f (nI g) := ⟨_, rfl⟩
  rw [← hM, ← hσ]
  have F : Fz (fun o => o = 115) M M' := by rw [hM]; exact Fz.rf.mwA (fun _ => rfl)
  have rr : ∀ g o, mR M' g o = mR M g o := fun g o => by rw [hM]; rfl
  have ii : ∀ g o, mI M' g o = mI M g o := fun g o => by rw [hM]; rfl
  have ft : Ft [155] σ σ' := by rw [hσ]; exact (Ft.rf _ σ).p_tsA rfl
  obtain ⟨W', vz, -⟩ := W.w2 F (fun o _ z => Or.inl (Or.inr ⟨by omega, by omega, by rw [z]; decide⟩)) (by rw [hM]; exact ⟨rfl, rfl⟩) (fun o => ⟨rr _ _, rr _ _, by rw [hM]; rfl⟩) (fun o => rr _ _) (ii _ _) (fun q _ => rr _ _) (fun q _ => ii _ _) ft (by decide)
  have fq : Fq D (fun t => t = 115) M M' := F.mono (fun o ho z => by rw [z, tgo_s (by decide)])
  obtain ⟨Fs', bt⟩ := h.1.bw ⟨rfl, rfl⟩ W' vz fq (fun t z => by rw [z]; unfold TW tg; omega) (fun k hk => ⟨fun f _ => ii _ _, fun g hg => rr _ _⟩) (Dx.rf D M) ⟨fun f _ => ii _ _, fun f => rr _ _⟩ ⟨rfl, rfl⟩ ft (by decide) (by decide) (by decide)
  refine ⟨⟨Fs', ?_⟩, bt⟩
  have nk := bt.2.2.1
  obtain ⟨-, bv, ⟨b1, b5⟩, ⟨c1, c5⟩, ⟨d1, d5⟩, j1, j2, j3, j4⟩ := h
  refine ⟨fun u hu => ?_, ⟨⟨(ii _ _).trans b1.1, ((ft 143 rfl).1).trans b1.2.1, b1.2.2⟩, fun k hk => ?_⟩, ⟨⟨(ii _ _).trans c1.1, ((ft 152 rfl).1).trans c1.2.1, c1.2.2⟩, fun k hk => ?_⟩, ⟨⟨(ii _ _).trans d1.1, ((ft 148 rfl).1).trans d1.2.1, d1.2.2⟩, fun k hk => ?_⟩, ⟨fun u hu => ?_, by rw [(ft 130 rfl).1]; exact j1.2.1, j1.2.2.mv ⟨ii 32 1, ii 41 1, ii 43 1⟩ (fun j => by rw [hM]; rfl) (fun _ _ => rfl) (Nat.le_refl _) ft (by decide)⟩, fun z => (ii _ _).trans (j2 z), ((ft 161 rfl).1).trans j3, ((ft 171 rfl).1).trans j4.1, fun zz => (j4.2 zz).ft nk.n4 (Nat.le_refl _) (Nat.le_refl _) ft (by decide)⟩
  · obtain ⟨x1, x2, x3⟩ := bv u hu
    exact ⟨x1.mv nk (Nat.le_refl _) (Nat.le_refl _) (rr _ _) ((ft 158 rfl).2.2.1 u), x2.mv nk (Nat.le_refl _) (Nat.le_refl _) (rr _ _) ((ft 159 rfl).2.2.1 u), x3.mv (fun g _ => ii _ _) ⟨(ft 104 rfl).2.2.1 u, (ft 160 rfl).2.2.1 u⟩⟩
  · exact (b5 k hk).mv nk (Nat.le_refl _) (Nat.le_refl _) (fun g _ => rr _ _) ⟨(ft 141 rfl).2.2.1 k, (ft 142 rfl).2.2.1 k⟩
  · exact (c5 k hk).mv nk (Nat.le_refl _) (Nat.le_refl _) (fun g _ => ii _ _) (rr _ _) (fun g hg => (ft g (by rcases hg with rfl | rfl | rfl <;> rfl)).2.2.1 k)
  · exact (d5 k hk).mv nk (Nat.le_refl _) (Nat.le_refl _) (Nat.le_refl _) (fun g _ => ii _ _) (rr _ _) (fun g hg => (ft g (by rcases hg with rfl | rfl | rfl <;> rfl)).2.2.1 k)
  · by_cases q : u = f
    · exact ⟨g, by rw [hM, q]; exact if_pos ⟨rfl, rfl⟩, by rw [hσ, tA_tsA, ifT ⟨rfl, q⟩], by omega, by rw [q]; exact hsm.mv (ft 74 rfl).2.2.1 (ft 75 rfl).2.2.1⟩
    · obtain ⟨p, p1, p2, p3, p4⟩ := j1.1 u hu
      have e1 : mA M' 115 u = mA M 115 u := by rw [hM]; exact if_neg (fun z => q z.2)
      exact ⟨p, by rw [e1]; exact p1, by rw [hσ, tA_tsA, ifF (fun z => q z.2)]; exact p2, p3, p4.mv (ft 74 rfl).2.2.1 (ft 75 rfl).2.2.1⟩
end CONN
