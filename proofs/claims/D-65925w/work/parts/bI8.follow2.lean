/-! Layer B: the flat model: a reference is followed to its end, both sides -/
set_option maxRecDepth 100000
section FOLLOW2
variable {C : PC} {D D' D2 : FQ} {M M' M1 M2 M3 : CM} {σ σ' σ1 σ2 s : TS} {mss fss ps : List Nat} {B V I Bm b c e f z w q Lp L n j p lr x : Nat} {P T : Nat → Prop} {v v' x2 x3 x4 : Int32} {z7 : Nat → Nat} {S : List Nat}
/-- a member, or the inner one for it -/
theorem z_memIn (W : FW C B P mss fss D M σ) (FX : FlX z7 C P D mss M σ V I Bm) (hb : b < Bm) : ∃ c e, c < Bm ∧ (tA σ 84 c = nI e ∧ e < 480) ∧ tA σ 52 e &&& 16 = 0 ∧ (∀ rec lr j p, KJ_X0_follow_52_15 rec lr (nI j) p ((pl D 100).getD b 0) M = KJ_X0_follow_84_15 rec lr (nI j) p ((pl D 100).getD c 0) M) ∧ ∀ rec q, J_resolve_52_20 rec (nI q) (nI b) σ = J_resolve_93_20 rec (nI q) (nI c) σ := by
  obtain ⟨N, ⟨l1, l2, l3, l4⟩, -, -, mb⟩ := FX
  have l100 := N.1.2.2
  obtain ⟨m1, m2, m3⟩ := W.2.1.2.1 100 (by decide) b (by omega)
  have m1 : mk M ((pl D 100).getD b 0) = 16 := m1
  have n0 : ¬ (pl D 100).getD b 0 = 0 := by have := m2.1; omega
  obtain ⟨-, o1, o2⟩ := mb b hb
  obtain ⟨nb, e, eo, w, -, ⟨a4, a5, a6⟩, -, -, -, -, a15⟩ := N.2.2.1 b hb
  have e480 := W.e480 a5
  have ib : inb (nI b) 96001 := inb_nI' (by omega) (by decide)
  have xb : ix (nI b) = b := ix_nI (by omega)
  have ie : inb (nI e) 481 := inb_nI' (by omega) (by decide)
  have xe : ix (nI e) = e := ix_nI (by omega)
  have p0 : (0 : Int32) ≤ nI b := by rw [show (0 : Int32) = nI 0 from rfl, bI_le (by decide) (by omega)]; omega
  have th : ∀ rec q, J_resolve_52_20 rec (nI q) (nI b) σ = if tA σ 52 e &&& 16 = 0 then J_resolve_93_20 rec (nI q) (nI b) σ else ob (F_innerOf (nI b) σ) fun r69 s68 => J_resolve_93_20 rec (nI q) r69 s68 := fun rec q => by
    unfold J_resolve_52_20
    rw [ifT p0, ifT ib, xb, a4, ifT ie, xe]
  by_cases q : tA σ 52 e &&& 16 = 0
  · have no : ¬ outT σ b := by
      rintro ⟨e', ⟨y1, y2⟩, y3⟩
      rw [a4] at y1
      have := (bI_eq (by omega) (by omega)).mp y1
      rw [← this] at y3
      exact y3 q
    refine ⟨b, e, hb, ⟨a4, e480⟩, q, fun rec lr j p => ?_, fun rec q' => by rw [th, ifT q]⟩
    unfold KJ_X0_follow_52_15
    rw [ifF n0, ifT m1, a15, ifT (o1 no)]
  · obtain ⟨c, e', c1, c2, c3, c4, c5, c6⟩ := o2 ⟨e, ⟨a4, e480⟩, q⟩
    have mc := (W.2.1.2.1 100 (by decide) c (by omega)).2.1.1
    obtain ⟨nc, e2, eo2, w2, -, ⟨d4, d5, d6⟩, ⟨d7, d8⟩, -⟩ := N.2.2.1 c c1
    have ee : e2 = e' := by
      have := W.e480 d5
      rw [c2] at d4
      exact ((bI_eq (by omega) (by omega)).mp d4).symm
    subst ee
    obtain ⟨-, x2⟩ := d8.ext_ d6
    refine ⟨c, e2, c1, ⟨c2, c3⟩, x2.resolve_left c4, fun rec lr j p => ?_, fun rec q' => by rw [th, ifF q, c6, ob_some]⟩
    unfold KJ_X0_follow_52_15
    rw [ifF n0, ifT m1, a15, c5, ifF (show ¬ (pl D 100).getD c 0 = 0 by omega), ifT m1]
theorem follow_loop (hB1 : B ≤ 1280) : ∀ (rest : List Nat) (j q n f g : Nat) (M : CM) (σ : TS), rest.length < f → rest.length < g → FW C B P mss fss D M σ → FlX z7 C P D mss M σ V I Bm → LpR C M σ Lp → tI σ 0 = 0 → n < I → LsP P M lr ps → j + rest.length = ps.length → (∀ i, i < rest.length → ps.getD (j + i) 0 = rest.getD i 0) → PhR P (tQ σ) (cm C) M σ rest q →
    (∃ M' σ' w y, KL_X0_follow_15 f lr ((pl D 99).getD n 0) (nI j) M = some (.inr (.inr w), M') ∧ L_resolve_20 g (nI n) (nI q) σ = some (y, σ') ∧ FfG C B P mss fss M M' σ σ' w ∧ Ft [0, 1, 118, 119, 120] σ σ') ∨
    (∃ M' σ' y, KL_X0_follow_15 f lr ((pl D 99).getD n 0) (nI j) M = some (.inl (), M') ∧ L_resolve_20 g (nI n) (nI q) σ = some (y, σ') ∧ F2o M M' ∧ Ft [118, 119, 120] σ σ' ∧ (rest = [] → M' = M ∧ σ' = σ) ∧ (rest ≠ [] → (∃ v, v < V ∧ mR M' 20 1 = (pl D 98).getD v 0 ∧ mR M' 21 1 = 0 ∧ tI σ' 119 = nI v) ∨ (∃ n', n' < I ∧ mR M' 20 1 = 0 ∧ mR M' 21 1 = (pl D 99).getD n' 0 ∧ tI σ' 118 = nI n' ∧ tI σ' 119 = tI σ 119)))
  | [], j, q, n, f, g, M, σ, hf, hg, W, FX, LP, h0, hn, hl, hj, hi, hq => by
    obtain ⟨f, rfl⟩ : ∃ k, f = k + 1 := ⟨f - 1, by omega⟩
    obtain ⟨g, rfl⟩ : ∃ k, g = k + 1 := ⟨g - 1, by omega⟩
    have hq : q = 0 := hq
    have hj : j = ps.length := hj
    refine Or.inr ⟨M, σ, .inl (), ?_, ?_, F2o.rf, Ft.rf _ _, fun _ => ⟨rfl, rfl⟩, fun z => absurd rfl z⟩
    · have := hl.1.2.2.1
      rw [KL_X0_follow_15, ifT hl.1.1, ls_size hl.1, ob_some, ifT ((bI_le (by omega) (by omega)).mpr (by omega))]
    · rw [L_resolve_20, hq, ifT (show nI 0 = 0 from rfl)]
  | p :: rest, j, q, n, f, g, M, σ, hf, hg, W, FX, LP, h0, hn, hl, hj, hi, hq => by
    have hlen : (p :: rest).length = rest.length + 1 := rfl
    rw [hlen] at hf hg hj
    obtain ⟨f, rfl⟩ : ∃ k, f = k + 1 := ⟨f - 1, by omega⟩
    obtain ⟨g, rfl⟩ : ∃ k, g = k + 1 := ⟨g - 1, by omega⟩
    obtain ⟨⟨q1, q2⟩, hp, q', q3, q4, hq'⟩ := hq
    have hm := W.rm
    have h167 := W.n167
    obtain ⟨hWN, h1280, hQ⟩ := W.wn hB1
    have ll := hl.1.2.2.1
    obtain ⟨N, ⟨l1, l2, l3, l4⟩, ⟨t1, t2, t3⟩, -, -⟩ := id FX
    have q7 : q < 7000 := by omega
    have iq : inb (nI q) 7000 := inb_nI' q7 (by decide)
    have xq : ix (nI q) = q := ix_nI (by omega)
    have nq0 : ¬ nI q = 0 := by rw [show (0 : Int32) = nI 0 from rfl, bI_eq (by omega) (by decide)]; omega
    have in0 : (0 : Int32) ≤ nI n := by rw [show (0 : Int32) = nI 0 from rfl, bI_le (by decide) (by omega)]; omega
    have k14 : mk M ((pl D 99).getD n 0) = 14 := (W.2.1.2.1 99 (by decide) n (by have := N.1.2.1; omega)).1
    have n14 : ¬ (pl D 99).getD n 0 = 0 := by have := (W.2.1.2.1 99 (by decide) n (by have := N.1.2.1; omega)).2.1.1; omega
    have gp : ps.getD j 0 = p := by
      have := hi 0 (by rw [hlen]; omega)
      rw [Nat.add_zero] at this; exact this
    have get := ls_get hl.1 (show j < ps.length by omega)
    rw [gp] at get
    obtain ⟨⟨p1, p2⟩, ⟨w1, b1, b2, b3, b4⟩, -⟩ := id hp
    have kh : KL_X0_follow_15 (f + 1) lr ((pl D 99).getD n 0) (nI j) M = ob (K_X14_member ((pl D 99).getD n 0) (nI w1) M) fun r17 M16 => KJ_X0_follow_52_15 (KL_X0_follow_15 f) lr (nI j) p r17 M16 := by
      rw [KL_X0_follow_15, ifT hl.1.1, ls_size hl.1, ob_some, ifF (fun z => by have := (bI_le (by omega) (by omega)).mp z; omega), ifT hl.1.1, get, ob_some, ifT (Or.inr p2), ifF n14, ifT p2, ifT k14, b1]
    have th : L_resolve_20 (g + 1) (nI n) (nI q) σ = ob (F_memberOf (nI n) (wc M w1) σ) fun r10 s9 => J_resolve_52_20 (L_resolve_20 g) (nI q) r10 s9 := by
      rw [L_resolve_20, ifF nq0, t_isBad0 h0, ob_some, ifT (rfl : (0 : Int32) = 0), ifT in0, ifT iq, xq, b4]
    have flt : ∀ (r : Int32), ¬ r = 0 → FfG C B P mss fss M (wM M r 0) σ (badT σ r) (mn M) ∧ Ft [0, 1, 118, 119, 120] σ (badT σ r) := fun r hr => ⟨(W.badG hr h0).2.2, (badT_f (σ := σ) (r := r)).mono (by decide)⟩
    rcases z_mem hB1 W N l2 l3 hn b3 with ⟨b, e1, e2, e3, e4⟩ | ⟨e3, e4⟩
    · obtain ⟨c, e, c1, c2, c3, c4, c5⟩ := z_memIn W FX e1
      rw [kh, e3, ob_some, c4, th, e4, ob_some, c5]
      obtain ⟨f0, z, d1, d2, d3, d4, d5⟩ := z_part hB1 W FX LP h0 c1 c2 c3 q7 hp
      rcases d5 with ⟨g1, g2⟩ | ⟨j0, g0, g1, g2⟩
      · left
        exact ⟨_, _, _, _, g1 _ _ _, g2 _, flt 27 (by decide)⟩
      · rw [g1, g2]
        have kc : mk M ((pl D 100).getD c 0) = 16 := (W.2.1.2.1 100 (by decide) c (by have := N.1.2.2; omega)).1
        have ie : inb (nI e) 481 := inb_nI' (by omega) (by decide)
        have xe : ix (nI e) = e := ix_nI (by omega)
        have ic : inb (nI c) 96001 := inb_nI' (by omega) (by decide)
        have xc : ix (nI c) = c := ix_nI (by omega)
        have k1 := W.k1
        have hm9 : many z ≤ 9 ∧ 1 ≤ many z := by unfold many; by_cases y : z = 0 <;> simp [y] <;> omega
        obtain ⟨s24, hs24⟩ : ∃ s, s = tsI σ 120 (tI σ 120 + 1) := ⟨_, rfl⟩
        have f24 : Ft [118, 119, 120] σ s24 := by rw [hs24]; exact (Ft.rf _ _).p_tsI rfl
        have h024 : tI s24 0 = 0 := by rw [(f24 0 rfl).1]; exact h0
        have m11 : ∀ k, (pl D 100).getD k 0 = 1 → k < (pl D 100).length → False := fun k h1 h2 => by
          have := (W.2.1.2.1 100 (by decide) k h2).2.1.1; omega
        rcases d4 with ⟨r1, r2⟩ | ⟨r1, r2, r3⟩
        · -- a number
          have i3004 : ¬ mI M 3004 ((pl D 100).getD c 0) = 0 := by rw [d3, ifT r1]; decide
          have vlt : f0 + j0 < V := by omega
          have get2 := ls_get (W.2.1.1 98 (by decide)).1 (show f0 + j0 < (pl D 98).length by have := N.1.1; omega)
          have k17 : mk M ((pl D 98).getD (f0 + j0) 0) = 17 := (W.2.1.2.1 98 (by decide) (f0 + j0) (by have := N.1.1; omega)).1
          obtain ⟨M1, hM1⟩ : ∃ N, N = msR M 20 1 ((pl D 98).getD (f0 + j0) 0) := ⟨_, rfl⟩
          obtain ⟨M2, hM2⟩ : ∃ N, N = msR M1 21 1 0 := ⟨_, rfl⟩
          have F1 : F2o M M1 := by rw [hM1]; exact F2o.wr_ (Or.inl rfl)
          have F2 : F2o M1 M2 := by rw [hM2]; exact F2o.wr_ (Or.inr rfl)
          have F12 := F1.tr F2
          have e21 : mR M2 21 1 = 0 := by rw [hM2, mR_msR, ifT ⟨rfl, rfl⟩]
          have e20 : mR M2 20 1 = (pl D 98).getD (f0 + j0) 0 := by rw [hM2, mR_msR, ifF (by omega), hM1, mR_msR, ifT ⟨rfl, rfl⟩]
          have kk : KJ_X0_follow_187_15 (KL_X0_follow_15 f) lr (nI j) ((pl D 100).getD c 0) (nI j0) M = KL_X0_follow_15 f lr 0 (nI (j + 1)) M2 := by
            unfold KJ_X0_follow_187_15 KJ_X0_follow_220_15
            rw [ifT kc, ifF i3004, ifT kc, d1.1, bI_add, get2, ob_some, ifT (Or.inr k17), ifT k1, nm_eq, ← hM1, ifT (by rw [(F1.2.2.2.2.1 _).1]; exact kc), F1.2.2.1, ifF i3004, nm_eq, ← hM2, e21, nm_eq, nI_addL, nm_eq]
          rw [kk]
          have tt : J_resolve_198_20 (L_resolve_20 g) (nI q) (nI c) (nI e) (nI z) (nI (if z = 0 then 0 else j0 + 1)) σ = if nI q' = 0 then some (.inr (), tsI s24 119 (nI (f0 + j0))) else ob (F_bad 26 0 s24) fun _ s38 => some (.inr (), s38) := by
            unfold J_resolve_198_20
            rw [nm_eq, ← hs24, ifT ie, xe, (f24 51 rfl).2.2.2, ifT (lg_eq.mpr r1), ifT iq, xq, (f24 33 rfl).2.2.1, q3]
            by_cases y : nI q' = 0
            · rw [ifT y, ifT y, ifT ic, xc, (f24 85 rfl).2.2.1, d1.2]
              by_cases zz : z = 0
              · have : j0 = 0 := by unfold many at g0; rw [ifT zz] at g0; omega
                rw [ifT (show nI z ≤ 0 by rw [zz]; decide), nm_eq, this, Int32.add_zero]; rfl
              · rw [ifF (show ¬ nI z ≤ 0 from by rw [show (0 : Int32) = nI 0 from rfl, bI_le (by omega) (by decide)]; omega), nm_eq, ifF zz, nI_subL _ _ (by show 1 ≤ j0 + 1; omega)]
                rw [show nI (j0 + 1 - OfNat.ofNat 1) = nI j0 from rfl, bI_add]
            · rw [ifF y, ifF y]
          rw [tt]
          have hl2 := hl.wz (F12.fw W f24 (by decide)).2 (fun _ z => z)
          cases rest with
          | nil =>
            right
            have e0 : q' = 0 := hq'
            have hj' : j + 1 = ps.length := hj
            obtain ⟨f, rfl⟩ : ∃ k, f = k + 1 := ⟨f - 1, by omega⟩
            refine ⟨M2, tsI s24 119 (nI (f0 + j0)), .inr (), ?_, by rw [ifT (by rw [e0]; rfl)], F12, f24.p_tsI rfl, fun z => absurd z (by intro z; cases z), fun _ => Or.inl ⟨f0 + j0, vlt, e20, e21, rfl⟩⟩
            rw [KL_X0_follow_15, ifT hl2.1.1, ls_size hl2.1, ob_some, ifT ((bI_le (by omega) (by omega)).mpr (by omega))]
          | cons p' rest =>
            left
            obtain ⟨⟨z1, z2⟩, hp', -⟩ := hq'
            have hlen2 : (p' :: rest).length = rest.length + 1 := rfl
            rw [hlen2] at hf hg hj
            obtain ⟨f, rfl⟩ : ∃ k, f = k + 1 := ⟨f - 1, by omega⟩
            have gp' : ps.getD (j + 1) 0 = p' := hi 1 (by rw [hlen, hlen2]; omega)
            have get' := ls_get hl2.1 (show j + 1 < ps.length by omega)
            rw [gp'] at get'
            have kp' : mk M2 p' = 9 := by rw [(F12.2.2.2.2.1 _).1]; exact hp'.1.2
            obtain ⟨W2, v2⟩ := F12.fw W f24 (by decide)
            obtain ⟨w1', w2', w3'⟩ := W2.badG (r := 26) (by decide) h024
            refine ⟨_, badT s24 26, _, .inr (), ?_, ?_, w3'.tr (F12.sg W f24 (by decide)), (f24.mono (by decide)).tr ((badT_f (σ := s24) (r := 26)).mono (by decide))⟩
            · rw [KL_X0_follow_15, ifT hl2.1.1, ls_size hl2.1, ob_some, ifF (fun z => by have := (bI_le (by omega) (by omega)).mp z; omega), ifT hl2.1.1, get', ob_some, ifT (Or.inr kp'), ifT (rfl : (0 : Nat) = 0)]
              unfold KJ_X0_follow_52_15
              rw [ifT (rfl : (0 : Nat) = 0), w1', ob_some, ifT (wM_k M2 26 0)]
            · rw [ifF (show ¬ nI q' = 0 from by rw [show (0 : Int32) = nI 0 from rfl, bI_eq (by omega) (by decide)]; omega), w2', ob_some]
        · -- an instance
          have i3004 : mI M 3004 ((pl D 100).getD c 0) = 0 := by rw [d3, ifF r1]
          obtain ⟨M1, hM1⟩ : ∃ N, N = msR M 20 1 0 := ⟨_, rfl⟩
          have F1 : F2o M M1 := by rw [hM1]; exact F2o.wr_ (Or.inl rfl)
          obtain ⟨W1, v1⟩ := F1.fw W f24 (by decide)
          have FX1 := F1.fx W FX f24 (by decide)
          obtain ⟨n', n1, n2, n3⟩ := z_inst (j0 := j0) hB1 W1 FX1 c1 d2.2 (by rw [F1.2.2.1]; exact d1.1) (fun j hj => by
            obtain ⟨k, k1, ⟨k2, k2'⟩, k3⟩ := r3 j hj
            exact ⟨k, k1, ⟨by rw [(f24 75 rfl).2.2.1, (f24 83 rfl).2.2.1]; exact k2, by rw [(f24 76 rfl).2.2.1, (f24 84 rfl).2.2.1]; exact k2'⟩, by rw [(f24 77 rfl).2.2.1]; exact k3⟩) g0
          obtain ⟨M2, hM2⟩ : ∃ N, N = msR M1 21 1 ((pl D 99).getD n' 0) := ⟨_, rfl⟩
          have F2 : F2o M1 M2 := by rw [hM2]; exact F2o.wr_ (Or.inr rfl)
          have F12 := F1.tr F2
          have e21 : mR M2 21 1 = (pl D 99).getD n' 0 := by rw [hM2, mR_msR, ifT ⟨rfl, rfl⟩]
          have e20 : mR M2 20 1 = 0 := by rw [hM2, mR_msR, ifF (by omega), hM1, mR_msR, ifT ⟨rfl, rfl⟩]
          obtain ⟨s30, hs30⟩ : ∃ s, s = tsI s24 118 (nI n') := ⟨_, rfl⟩
          have f30 : Ft [118, 119, 120] s24 s30 := by rw [hs30]; exact (Ft.rf _ _).p_tsI rfl
          have f03 := f24.tr f30
          have kk : KJ_X0_follow_187_15 (KL_X0_follow_15 f) lr (nI j) ((pl D 100).getD c 0) (nI j0) M = KL_X0_follow_15 f lr ((pl D 99).getD n' 0) (nI (j + 1)) M2 := by
            unfold KJ_X0_follow_187_15 KJ_X0_follow_220_15
            rw [ifT kc, ifT i3004, ifT k1, nm_eq, ← hM1, ifT (by rw [(F1.2.2.2.2.1 _).1]; exact kc), F1.2.2.1, ifT i3004, n2, ob_some, nm_eq, ← hM2, e21, nm_eq, nI_addL, nm_eq]
          have tt : J_resolve_198_20 (L_resolve_20 g) (nI q) (nI c) (nI e) (nI z) (nI (if z = 0 then 0 else j0 + 1)) σ = L_resolve_20 g (nI n') (nI q') s30 := by
            unfold J_resolve_198_20
            rw [nm_eq, ← hs24, ifT ie, xe, (f24 51 rfl).2.2.2, ifF (fun y => r1 (lg_eq.mp y)), n3, ob_some, nm_eq, ← hs30, ifT iq, xq, (f03 33 rfl).2.2.1, q3, nm_eq]
          rw [kk, tt]
          obtain ⟨W2, v2⟩ := F12.fw W f03 (by decide)
          have FX2 := F12.fx W FX f03 (by decide)
          have LP2 := LP.mv v2 (F12.2.2.1 _ _) (fun k => ⟨F12.2.2.2.2.2 _ _, F12.2.2.2.2.2 _ _⟩) f03 (by decide)
          have nx := follow_loop hB1 rest (j + 1) q' n' f g M2 s30 (by omega) (by omega) W2 FX2 LP2 (by rw [(f03 0 rfl).1]; exact h0) n1 (hl.wz v2 (fun _ z => z)) (by omega) (fun i hi' => by
            have := hi (i + 1) (by rw [hlen]; omega)
            rw [show j + (i + 1) = j + 1 + i by omega] at this
            exact this) (PhR.wz v2 (fun _ z => z) rest q' hq')
          rcases nx with ⟨M', σ', w', y', a1, a2, a3, a4⟩ | ⟨M', σ', y', a1, a2, a3, a4, a5, a6⟩
          · left
            exact ⟨M', σ', w', y', a1, a2, a3.tr (F12.sg W f03 (by decide)), (f03.mono (by decide)).tr a4⟩
          · right
            refine ⟨M', σ', y', a1, a2, F12.tr a3, f03.tr a4, fun z => absurd z (by intro z; cases z), fun _ => ?_⟩
            by_cases y : rest = []
            · obtain ⟨u1, u2⟩ := a5 y
              right
              refine ⟨n', n1, by rw [u1]; exact e20, by rw [u1]; exact e21, by rw [u2, hs30]; rfl, ?_⟩
              rw [u2, hs30, hs24]; rfl
            · rcases a6 y with u | ⟨n2', u1, u2, u3, u4, u5⟩
              · exact Or.inl u
              · refine Or.inr ⟨n2', u1, u2, u3, u4, ?_⟩
                rw [u5, hs30, hs24]; rfl
    · left
      refine ⟨_, badT σ 26, _, .inr (), ?_, ?_, flt 26 (by decide)⟩
      · rw [kh, e3, ob_some]
        unfold KJ_X0_follow_52_15
        rw [ifT (rfl : (0 : Nat) = 0), k_wrong (by omega) (by omega), ob_some, ifT (wM_k M 26 0)]
      · rw [th, e4, ob_some]
        unfold J_resolve_52_20
        rw [ifF (by decide), t_badT h0, ob_some]
end FOLLOW2
