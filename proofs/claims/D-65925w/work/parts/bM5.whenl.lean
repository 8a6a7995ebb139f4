/-! Layer B: the flat model: the actions of a when; a when, both sides -/
set_option maxRecDepth 100000
section WHENL
variable {zb zb' : Nat} {C : PC} {D D' D1 D2 : FQ} {M M' M1 M2 M3 M0 : CM} {σ σ' σ1 σ2 σ0 s1 s8 : TS} {mss fss : List Nat} {B V I Bm K N K' N' E A Wn E' A' A0 Wn' v l k x0 dc md X N0 Lp w d s o n i nf R a b n1 n2 f g h1 h2 j eq L E0 ow_ : Nat} {os : List Nat} {P T Y : Nat → Prop} {x2 x3 x3' x4 x y r kd : Int32} {z7 : Nat → Nat} {S : List Nat}
theorem when_lp (hB1 : B ≤ 1280) (hi : i < I) (hE : E0 ≤ 3000) : ∀ (t : List Nat) (j p kf tf : Nat) D M σ K N A, j + t.length = os.length → (∀ q, q < t.length → t.getD q 0 = os.getD (j + q) 0) → t.length < kf → t.length + 1 < tf → BS 2 z7 C B P mss fss V I Bm Lp 0 D M σ K N E A Wn → WhO D M σ V K N Wn A0 A → Wn < (pl D 113).length → (pl D 113).getD Wn 0 = ow_ → (P eq ∧ mk M eq = 13) → LsP P M (mR M 2406 eq) os → E0 ≤ tE σ → EqL (EqR C P M σ L d 1) L E0 σ t p →
    WO z7 C B P mss fss V I Bm Lp Wn A0 E D M σ K N A (KL_X0_when_104 kf ((pl D 99).getD i 0) eq ow_ (nI j) M) (L_when_69 tf (nI i) (nI Wn) (nI p) σ) := by
  intro t
  induction t with
  | nil =>
    intro j p kf tf D M σ K N A hj hg hk ht h wh hW how ke hl hE0 hq
    obtain ⟨kf, rfl⟩ : ∃ g, kf = g + 1 := ⟨kf - 1, by omega⟩
    obtain ⟨tf, rfl⟩ : ∃ g, tf = g + 1 := ⟨tf - 1, by omega⟩
    have hp : p = 0 := hq
    have hj : j = os.length := by simpa using hj
    have kl : mk M (mR M 2406 eq) = 22 := hl.1.1
    have ll := hl.1.2.2.1
    refine Or.inr ⟨D, M, σ, K, N, A, ?_, ?_, h, wh, ⟨Nat.le_refl _, Nat.le_refl _, Nat.le_refl _⟩, BTr.rf h.cn⟩
    · unfold KL_X0_when_104
      rw [ifT ke.2, ifT kl, ls_size hl.1, ob_some, ifT (show nI os.length ≤ nI j from (bI_le (by omega) (by omega)).mpr (by omega))]
    · unfold L_when_69
      rw [hp, ifT (show nI 0 = 0 from rfl)]
  | cons o t ih =>
    intro j p kf tf D M σ K N A hj hg hk ht h wh hW how ke hl hE0 hq
    obtain ⟨kf, rfl⟩ : ∃ g, kf = g + 1 := ⟨kf - 1, by omega⟩
    obtain ⟨tf, rfl⟩ : ∃ g, tf = g + 1 := ⟨tf - 1, by omega⟩
    have hj : j + (t.length + 1) = os.length := hj
    have hk : t.length + 1 < kf + 1 := hk
    have ht : t.length + 1 + 1 < tf + 1 := ht
    have W := h.fw
    have hm := W.rm
    have kl : mk M (mR M 2406 eq) = 22 := hl.1.1
    have ll := hl.1.2.2.1
    have eo : os.getD j 0 = o := by have := hg 0 (by show 0 < t.length + 1; omega); rw [Nat.add_zero] at this; exact this.symm
    have go := ls_get hl.1 (i := j) (by omega)
    rw [eo] at go
    obtain ⟨⟨q1, q2, q3⟩, Rq, nx, n1, n2, n3⟩ := hq
    have hd0 : ∃ d', d = d' + 1 := by
      rcases d with _ | d
      · exact absurd Rq (fun z => z)
      · exact ⟨d, rfl⟩
    obtain ⟨d', rfl⟩ := hd0
    have Rq0 := Rq
    obtain ⟨⟨e1, e2, e3, e4, e5⟩, Rq⟩ := Rq
    have ac : ((mI M 2400 o = 61 ∧ tA σ 66 p = 6) ∨ (mI M 2400 o = 28 ∧ tA σ 66 p = 7)) ∧ RfP C P M σ (mR M 2401 o) (tA σ 67 p) ∧ EqP C P M σ 0 (mR M 2402 o) (tA σ 68 p) := by
      rcases Rq with ⟨z, -⟩ | ⟨z, -⟩ | ⟨z, -⟩ | ⟨z, -⟩ | ⟨z, -⟩ | ⟨-, z⟩
      · exact absurd rfl z
      · exact absurd rfl z
      · exact absurd rfl z.1
      · exact absurd rfl z
      · exact absurd z (by decide)
      · exact z
    have ip : inb (nI p) 3000 := inb_nI' (by omega) (by decide)
    have xp : ix (nI p) = p := ix_nI (by omega)
    have np0 : ¬ nI p = 0 := fun z => by have := (bI_eq (b := 0) (by omega) (by decide)).mp z; omega
    obtain ⟨⟨c1, c2, c3, c4⟩, c5⟩ := h.2.2.2.1
    obtain ⟨recK, hrK⟩ : ∃ q, q = KL_X0_when_104 kf := ⟨_, rfl⟩
    obtain ⟨recT, hrT⟩ : ∃ q, q = L_when_69 tf := ⟨_, rfl⟩
    have ih' := fun D M σ K N A h1 h2 h3 h4 h5 h6 h7 h8 => ih (j + 1) nx kf tf D M σ K N A (by omega) (fun q hq => by
      have := hg (q + 1) (by show q + 1 < t.length + 1; omega)
      rw [show j + 1 + q = j + (q + 1) by omega, ← this]; rfl) (by omega) (by omega) h1 h2 h3 h4 h5 h6 h7 h8
    rw [← hrK, ← hrT] at ih'
    unfold KL_X0_when_104 L_when_69
    rw [ifT ke.2, ifT kl, ls_size hl.1, ob_some, ifF (show ¬ nI os.length ≤ nI j from fun z => by have := (bI_le (by omega) (by omega)).mp z; omega), ifT ke.2, ifT kl, go, ob_some, ifT (Or.inr e2), ifF np0, t_isBad0 h.h0, ob_some, ifT (rfl : (0 : Int32) = 0), c1, c2, ← hrK, ← hrT]
    by_cases hA : A = 200
    · obtain ⟨b1, b2, b3⟩ := h.bad (x4 := 24) (by decide)
      have bk : mk (wM M 24 0) (mn M) = 7 := wM_k M 24 0
      rw [ifT (show nI A = 200 by rw [hA]; rfl), ifT (show nI A = 200 by rw [hA]; rfl), b1, ob_some, ifT bk, b2, ob_some]
      exact Or.inl ⟨_, _, _, _, rfl, rfl, b3⟩
    · have nA : ¬ nI A = 200 := fun z => hA ((bI_eq (b := 200) (by omega) (by decide)).mp z)
      rw [ifF nA, ifF nA, ifT ip]
      obtain ⟨p1, p2, p3, p4, p5⟩ := al_plain (M := M) 21 5 (by decide)
      have hin : K_X22_init (mn M) (mnew M (flK 112) 0 5) = some ((), mnew M 21 0 5) := by
        unfold K_X22_init
        rw [ifT (show ¬ mn M = 0 by have := W.n167; omega)]
        rfl
      obtain ⟨D1, M1, e, nxx⟩ := pool_next (α := (Unit ⊕ (Unit ⊕ Nat)) × CM) W.2.1 W.n167 (l := 112) (R := A) (by decide) c4 (by show A < 200; omega) (fun _ => hin) p1 p2 ⟨p3, p4⟩ (Nat.le_refl _) (fun z => absurd z (by decide)) (fun z => absurd z (by decide)) p5 W.rN W.rS (fun M => KJ_X0_when_176_104 recK ((pl D 99).getD i 0) eq ow_ (nI j) o M)
      obtain ⟨h1, bt1, fq1⟩ := h.nx (by decide) (Or.inl ⟨rfl, rfl⟩) nxx
      have x113 := (W.2.1.1 113 (by decide)).2.2
      have y113 : flX 113 = 12 := rfl
      have e113 : (pl D1 113).getD Wn 0 = (pl D 113).getD Wn 0 := (bt1.2.1.1 113 Wn hW).2
      have sw : So M M1 ((pl D 113).getD Wn 0) := W.2.1.so3 (by decide) hW fq1 (fun z => by unfold tg at z; omega)
      have wh1 := wh.mv bt1.2.2.1 (Nat.le_refl _) (Nat.le_refl _) e113 ⟨sw.r _, sw.i _⟩ (by rw [sw.i]; exact wh.2.2.2.1) (Nat.le_refl A) ⟨rfl, rfl⟩ (wh.sm bt1.2.2.1.n4 (Nat.le_refl _) (Ft.rf [] σ) (by decide))
      have hW1 : Wn < (pl D1 113).length := (bt1.2.1.1 113 Wn hW).1
      have e99 : (pl D1 99).getD i 0 = (pl D 99).getD i 0 := (bt1.2.1.1 99 i (by have := h.fx.1.1.2.1; omega)).2
      have so := bt1.1.2.1.1 o e1
      have hA1 : A < (pl D1 112).length := nxx.2.1
      have ka : mk M1 ((pl D1 112).getD A 0) = 21 := (h1.fw.2.1.2.1 112 (by decide) A hA1).1
      have ko1 : P o ∧ mk M1 o = 13 := ⟨e1, by rw [so.k]; exact e2⟩
      have R1 := ac.2.1.wz bt1.1 (fun _ z => z)
      have R2 := ac.2.2.wz bt1.1 (fun _ z => z)
      rw [← so.r] at R1 R2
      have st := fun kd (hkd : (kd = 0 ∧ tA σ 66 p = 6) ∨ (kd = 1 ∧ tA σ 66 p = 7)) => act_209 (recK := recK) (recT := recT) (x3 := nI Wn) (j := j) (eq := eq) hB1 hi h1 ⟨by omega, hA1⟩ hW1 wh1 ko1 ⟨by omega, by omega⟩ hkd R1 R2 (fun D' M' σ' K' N' z1 z2 z3 z4 => by
        have zt := bt1.tr z4 (Nat.le_refl _) (Nat.le_refl _)
        have se := zt.1.2.1.1 eq ke.1
        have ez : (pl D' 99).getD i 0 = (pl D1 99).getD i 0 := (z4.2.1.1 99 i (by have := h1.fx.1.1.2.1; omega)).2
        have ew : (pl D' 113).getD Wn 0 = (pl D1 113).getD Wn 0 := (z4.2.1.1 113 Wn hW1).2
        have n70 : tA σ 70 p = nI nx := n1
        have := ih' D' M' σ' K' N' (A + 1) z1 z2 (z4.2.1.1 113 Wn hW1).1 (by rw [ew, e113]; exact how) ⟨ke.1, by rw [se.k]; exact ke.2⟩ (by rw [se.r]; exact hl.wz zt.1 (fun _ z => z)) (by have := zt.1.2.2.2.1.2.1.1; omega) (EqL.mv (Nat.le_refl _) (Nat.le_refl _) (fun n _ hn => (zt.1.2.2.2.1.2.1.2 n (by omega)).1 70 (by decide)) (fun o p _ hp h => EqR.wz zt.1 (fun _ z => z) _ 1 o p (by omega) h) t nx n3)
        rw [ez] at this
        rw [n70, e113, how]
        exact this)
      have fin : WO z7 C B P mss fss V I Bm Lp Wn A0 E D M σ K N A (KJ_X0_when_176_104 recK ((pl D 99).getD i 0) eq ow_ (nI j) o M1) (tAct recT (nI i) (nI Wn) (nI p) σ) := by
        refine WO.pre bt1 ⟨Nat.le_refl _, Nat.le_refl _, Nat.le_refl _⟩ ?_
        unfold KJ_X0_when_176_104
        rw [h1.2.2.2.1.1.1, nx_get nxx (by decide), ob_some, ifT (Or.inr ka), ifT ko1.2, so.i]
        rw [e99, e113, how] at st
        rcases ac.1 with ⟨k1, k2⟩ | ⟨k1, k2⟩
        · rw [k1, ifF (show ¬ (61 : Int32) = 28 by decide)]
          exact st 0 (Or.inl ⟨rfl, k2⟩)
        · rw [k1, ifT (rfl : (28 : Int32) = 28)]
          exact st 1 (Or.inr ⟨rfl, k2⟩)
      rw [← e] at fin
      exact fin
/-- a when -/
theorem z_when (hB1 : B ≤ 1280) (hi : i < I) (h : BS 1 z7 C B P mss fss V I Bm Lp 0 D M σ K N E A Wn) (ke : P eq ∧ mk M eq = 13) (hE : E0 ≤ 3000 ∧ E0 ≤ tE σ) {e p : Nat} (he : e < 3000 ∧ e < tE σ) (Ar : EqP C P M σ 1 (mR M 2401 eq) (tA σ 67 e)) (hl : LsP P M (mR M 2406 eq) os) (hp : tA σ 68 e = nI p) (hq : EqL (EqR C P M σ L d 1) L E0 σ os p) : BO (γ := Unit) (β := Unit) 1 z7 C B P mss fss V I Bm Lp 0 id D M σ K N E A Wn (K_X0_when ((pl D 99).getD i 0) eq M) (F_when (nI e) (nI i) σ) := by
  have W := h.fw
  have hm := W.rm
  obtain ⟨⟨d1, d2, d3, d4⟩, -⟩ := h.2.2.2.2.1
  have d1 : mI M 39 1 = nI Wn := d1
  have d2 : tI σ 148 = nI Wn := d2
  have d3 : Wn ≤ 12 := d3
  have ie : inb (nI e) 3000 := inb_nI' (by omega) (by decide)
  have xe : ix (nI e) = e := ix_nI (by omega)
  unfold K_X0_when F_when
  rw [d1, d2]
  by_cases hW : Wn = 12
  · obtain ⟨b1, b2, b3⟩ := h.bad (x4 := 24) (by decide)
    have bk : mk (wM M 24 0) (mn M) = 7 := wM_k M 24 0
    rw [ifT (show nI Wn = 12 by rw [hW]; rfl), ifT (show nI Wn = 12 by rw [hW]; rfl), b1, ob_some, ifT bk, b2, ob_some]
    exact Or.inl ⟨_, _, _, _, rfl, rfl, b3⟩
  · have nW : ¬ nI Wn = 12 := fun z => hW ((bI_eq (b := 12) (by omega) (by decide)).mp z)
    rw [ifF nW, ifF nW]
    obtain ⟨p1, p2, p3, p4, p5⟩ := al_plain (M := M) 20 6 (by decide)
    have hin : K_X21_init (mn M) (mnew M (flK 113) 0 6) = some ((), mnew M 20 0 6) := by
      unfold K_X21_init
      rw [ifT (show ¬ mn M = 0 by have := W.n167; omega)]
      rfl
    obtain ⟨D1, M1, ek, nxx⟩ := pool_next (α := (Unit ⊕ Nat) × CM) W.2.1 W.n167 (l := 113) (R := Wn) (by decide) d4 (by show Wn < 12; omega) (fun _ => hin) p1 p2 ⟨p3, p4⟩ (Nat.le_refl _) (fun z => absurd z (by decide)) (fun z => absurd z (by decide)) p5 W.rN W.rS (fun M => KJ_X0_when_45 ((pl D 99).getD i 0) eq M)
    obtain ⟨h1, bt1, fq1⟩ := h.nx (by decide) (Or.inr ⟨rfl, rfl⟩) nxx
    have hW1 : Wn < (pl D1 113).length := nxx.2.1
    obtain ⟨h2, bt2⟩ := h1.w39 (by omega)
    have b12 := bt1.tr bt2 (Nat.le_refl _) (Nat.le_refl _)
    obtain ⟨M2, hM2⟩ : ∃ q, q = msI M1 39 1 (nI (Wn + 1)) := ⟨_, rfl⟩
    obtain ⟨s2, hs2⟩ : ∃ q, q = tsI σ 148 (nI (Wn + 1)) := ⟨_, rfl⟩
    rw [← hM2, ← hs2] at h2 bt2 b12
    have e99 : (pl D1 99).getD i 0 = (pl D 99).getD i 0 := (b12.2.1.1 99 i (by have := h.fx.1.1.2.1; omega)).2
    have se := b12.1.2.1.1 eq ke.1
    have ke2 : mk M2 eq = 13 := by rw [se.k]; exact ke.2
    obtain ⟨oo, hoo⟩ : ∃ q, q = (pl D1 113).getD Wn 0 := ⟨_, rfl⟩
    have kw : mk M1 oo = 20 := by rw [hoo]; exact (h1.fw.2.1.2.1 113 (by decide) Wn hW1).1
    have Ar2 := Ar.wz b12.1 (fun _ z => z)
    have f2 : Ft tqS σ s2 := by rw [hs2]; exact (Ft.rf _ σ).p_tsI rfl
    rw [← se.r] at Ar2
    obtain ⟨n, d0, hn, hn9, Ar2⟩ := Ar2
    rw [W.1.2.1.2.1] at Ar2
    have iW : inb (nI Wn) 12 := inb_nI' (by omega) (by decide)
    have xW : ix (nI Wn) = Wn := ix_nI (by omega)
    have x113 := (h1.fw.2.1.1 113 (by decide)).2.2
    have y113 : flX 113 = 12 := rfl
    obtain ⟨kk, hkk⟩ : ∃ q : CM → Option ((Unit ⊕ Nat) × CM), q = fun M => KJ_X0_when_45 ((pl D 99).getD i 0) eq M := ⟨_, rfl⟩
    have main : BO (γ := Unit) (β := Unit) 1 z7 C B P mss fss V I Bm Lp 0 id D M σ K N E A Wn (KJ_X0_when_45 ((pl D 99).getD i 0) eq M1) (nm (nI Wn) fun v1 => nm (tsI σ 148 (nI Wn + 1)) fun s2 => if inb (nI e) 3000 then ob (F_build (tA s2 67 (ix (nI e))) (nI i) 0 1 s2) fun r5 s4 => if inb v1 12 then nm (tsA s4 145 (ix v1) r5) fun s9 => if inb v1 12 then nm (tsA s9 146 (ix v1) (tI s9 152)) fun s11 => if inb (nI e) 3000 then nm (tA s11 68 (ix (nI e))) fun v13 => obS (L_when_69 FU (nI i) v1 v13 s11) (fun r94 s88 => some (r94, s88)) fun q87 s88 => if inb v1 12 then if inb v1 12 then nm (tsA s88 147 (ix v1) ((tI s88 152) - (tA s88 146 (ix v1)))) fun s92 => some ((), s92) else none else none else none else none else none else none) := by
      refine BO.pre b12 ⟨Nat.le_refl _, Nat.le_refl _, Nat.le_refl _, Nat.le_refl _, Nat.le_refl _⟩ ?_
      have e67 : tA s2 67 e = nI n := by rw [(f2 67 rfl).2.2.1]; exact hn
      have m39 : mI M1 39 1 = nI Wn := h1.2.2.2.2.1.1.1
      unfold KJ_X0_when_45
      rw [nm_eq, nI_addL, nm_eq, ← hs2, ifT ie, xe, e67, m39, nx_get nxx (by decide), ob_some, ← hoo, ifT (Or.inr kw), m39, show nI Wn + 1 = nI (Wn + 1) from nI_addL Wn 1, nm_eq, ← hM2, ifT ke2, ← e99]
      rcases z_flatten hB1 hi h2.1 (Nat.le_refl _) Ar2 with ⟨M3, s3, w, y, b1, b2, b3, b4, b5⟩ | ⟨D3, M3, s3, K3, N3, a, n', b1, b2, b3, ⟨b4, b5⟩, b6, b7, b8⟩
      · have f := fS_F_build _ _ _ _ _ _ _ b2
        have g : FfB C B P mss fss M2 M3 s2 s3 w := ⟨b3, b5, ⟨E, h2.2.2.1.1.2.2.1, by rw [(f 143 rfl).1]; exact h2.2.2.1.1.2.1⟩, by rw [(f 171 rfl).1]; exact h2.2.2.2.2.2.2.2.2.1⟩
        rw [b1, obS_inr, b2, ob_some, ifT iW, xW, nm_eq, ifT iW, nm_eq, ifT ie, nm_eq]
        obtain ⟨s4, hs4⟩ : ∃ q, q = tsA (tsA s3 145 Wn y) 146 Wn (tI (tsA s3 145 Wn y) 152) := ⟨_, rfl⟩
        have f4 : Ft [145, 146] s3 s4 := by rw [hs4]; exact ((Ft.rf _ s3).p_tsA rfl).p_tsA rfl
        have g4 := g.tws f4 (by decide) (by decide) ⟨rfl, rfl⟩ ⟨rfl, rfl, rfl⟩
        rw [← hs4]
        have lb : L_when_69 FU (nI i) (nI Wn) (tA s4 68 e) s4 = some (.inl (), s4) := by
          obtain ⟨G, hG, -⟩ := FUg
          rw [hG]
          unfold L_when_69
          by_cases z : tA s4 68 e = 0
          · rw [ifT z]
          · rw [ifF z, t_isBad1 g4.ne, ob_some, ifF (show ¬ (1 : Int32) = 0 by decide)]
        rw [lb, obS_inl, ifT iW, ifT iW, nm_eq]
        exact Or.inl ⟨M3, _, w, (), rfl, rfl, g4.tws (S := [147]) ((Ft.rf _ s4).p_tsA rfl) (by decide) (by decide) ⟨rfl, rfl⟩ ⟨rfl, rfl, rfl⟩⟩
      · obtain ⟨t1, t2, t3, t4, t5, t6, ⟨t7, t8, t9⟩, t10, t11, t12⟩ := b6
        have bx := h2.2.mv h2.fw h2.hV t3 b4 b5 t9 (fun t z => TB.bt (Or.inl ⟨rfl, rfl, rfl, rfl⟩) z) t2 (fun f _ => t7 f) t5 (by decide)
        have bt3 : BTr V C P K N D1 M2 s2 D3 M3 s3 := ⟨t1, t2, t3, t4, fun v hv hl g hg => (h2.fw.2.1.so3 (by decide) hl t9 (fun z => TB.bt (Or.inl ⟨rfl, rfl, rfl, rfl⟩) z (by
          have := (h2.fw.2.1.1 98 (by decide)).2.2
          have e : flX 98 = 96 := rfl
          unfold BT tg; omega))).r g, fun k hk v => (t5 k (by
          have : ∀ k, k ∈ vkL → fbL.contains k = false := by decide
          exact this k hk)).2.2.1 v⟩
        have h3 : BS 2 z7 C B P mss fss V I Bm Lp 0 D3 M3 s3 K3 N3 E A Wn := ⟨b3, bx⟩
        refine BO.pre bt3 ⟨b4, b5, Nat.le_refl _, Nat.le_refl _, Nat.le_refl _⟩ ?_
        have p113 : pl D3 113 = pl D1 113 := t11 113 (by decide) (by decide)
        have hW3 : Wn < (pl D3 113).length := by rw [p113]; exact hW1
        have kw3 : mk M3 oo = 20 := by
          have := (h3.fw.2.1.2.1 113 (by decide) Wn hW3).1
          rw [p113, ← hoo] at this; exact this
        obtain ⟨M4, hM4⟩ : ∃ q, q = msI (msI (msR M3 3800 oo a) 3802 oo (nI A)) 3803 oo (nI A) := ⟨_, rfl⟩
        obtain ⟨s4, hs4⟩ : ∃ q, q = tsA (tsA s3 145 Wn (nI n')) 146 Wn (nI A) := ⟨_, rfl⟩
        have f4 : Ft tqS s3 s4 := by rw [hs4]; exact ((Ft.rf _ s3).p_tsA rfl).p_tsA rfl
        have i37 : mI M3 37 1 = nI A := h3.2.2.2.1.1.1
        have i152 : tI s3 152 = nI A := h3.2.2.2.1.1.2.1
        have oo1 : oo ≠ 1 := by have := (h3.fw.2.1.2.1 113 (by decide) Wn hW3).2.1.1; rw [p113, ← hoo] at this; omega
        obtain ⟨h4, bt4⟩ := h3.wo (M' := M4) (σ' := s4) (by decide) (Or.inr ⟨rfl, Nat.le_refl Wn⟩) hW3 (by
          rw [hM4, p113, ← hoo]
          exact (((Fz.rf (X := fun o => o = oo)).msR (fun _ => rfl)).msI (fun _ => rfl)).msI (fun _ => rfl)) (by rw [hM4]; exact ⟨rfl, rfl⟩) (fun q => by
          rw [hM4, mR_msI, mR_msI, mR_msR, ifF (by omega), mR_msI, mR_msI, mR_msR, ifF (by omega)]; exact ⟨rfl, rfl, rfl⟩) (fun q => by rw [hM4, mR_msI, mR_msI, mR_msR, ifF (by omega)]) f4 (by rw [hs4]; exact ⟨rfl, rfl⟩) (fun g hg k hk => by rw [hs4, tA_tsA, ifF (by omega), tA_tsA, ifF (by omega)]) (fun g hg k hk => by rw [hs4, tA_tsA, ifF (by omega), tA_tsA, ifF (by omega)])
        have sm3 : Sm 141 142 s3 N3 N E A Wn := ((h.sm (by decide)).mv (σ' := s2) b12.2.2.1.n4 (Nat.le_refl _) (Nat.le_refl _) (fun k _ => ⟨(f2 141 rfl).2.2.1 k, (f2 142 rfl).2.2.1 k⟩) (fun k _ => by rw [hs2, tA_tsI]) (fun k _ => by rw [hs2, tA_tsI])).ft t3.n4 b5 (Nat.le_refl _) t5 (by decide)
        have sm4 : Sm 141 142 s4 N3 N3 E A (Wn + 1) := by
          obtain ⟨z, z1, z2⟩ := b8
          exact sm3.addW bt4.2.2.1.n4 (fun k _ => ⟨(f4 141 rfl).2.2.1 k, (f4 142 rfl).2.2.1 k⟩) (fun k _ => by rw [hs4, tA_tsA, ifF (by omega), tA_tsA, ifF (by omega)]) (fun k hk => by rw [hs4, tA_tsA, ifF (by omega), tA_tsA, ifF (by omega)]) (by rw [hs4, tA_tsA, ifF (by omega), tA_tsA, ifT ⟨rfl, rfl⟩]) z1 (by omega) ⟨z1.lt.1, by
            have N1 := h3.1.2.2.1.2.2.1
            have ax := h3.1.2.2.1.2.1.2.2.1
            have := z1.lt.1
            omega⟩
        have wh4 : WhO D3 M4 s4 V K3 N3 Wn A A := by
          unfold WhO
          rw [p113, ← hoo]
          refine ⟨⟨n', by rw [hs4, tA_tsA, ifF (by omega), tA_tsA, ifT ⟨rfl, rfl⟩], ?_⟩, by rw [hM4, mI_msI, ifF (by omega), mI_msI, ifT ⟨rfl, rfl⟩], by rw [hs4, tA_tsA, ifT ⟨rfl, rfl⟩], by rw [hM4, mI_msI, ifT ⟨rfl, rfl⟩], Nat.le_refl A, E, ⟨(f4 143 rfl).1.trans h3.2.2.1.1.2.1, h3.2.2.1.1.2.2.1⟩, sm4⟩
          have e : mR M4 3800 oo = a := by rw [hM4, mR_msI, mR_msI, mR_msR, ifT ⟨rfl, rfl⟩]
          rw [e]
          exact NdR.mv bt4.2.2.1 (Nat.le_refl _) (Nat.le_refl _) (Nat.le_refl V) 100 100 1 _ _ (Nat.le_refl _) b7
        have ztot := (b12.tr bt3 (Nat.le_refl _) (Nat.le_refl _)).tr bt4 b4 b5
        have se4 := ztot.1.2.1.1 eq ke.1
        have kw4 : mk M4 oo = 20 := by rw [hM4]; exact kw3
        have e68 : tA s4 68 e = nI p := by
          rw [(f4 68 rfl).2.2.1, (t5 68 rfl).2.2.1, (f2 68 rfl).2.2.1]; exact hp
        have e99b : (pl D3 99).getD i 0 = (pl D1 99).getD i 0 := (bt3.2.1.1 99 i (by have := h1.fx.1.1.2.1; omega)).2
        rw [b1, obS_inl, ifT kw3, nm_eq, mk_msR, ifT kw3, mI_msR, i37, nm_eq, mk_msI, mk_msR, ifT kw3, mI_msI, ifF (fun z => absurd z.1 (by decide)), mI_msR, i37, nm_eq, ← hM4, b2, ob_some, ifT iW, xW, nm_eq, ifT iW, tI_tsA, i152, nm_eq, ← hs4, ifT ie, e68, nm_eq]
        refine BO.pre bt4 ⟨Nat.le_refl _, Nat.le_refl _, Nat.le_refl _, Nat.le_refl _, Nat.le_refl _⟩ ?_
        have llen := hl.1.2.2.1
        have hFU : 1000002 < FU := by unfold FU; decide
        have lp := when_lp (os := os) (E0 := E0) (L := L) (d := d) (ow_ := oo) hB1 hi hE.1 os 0 p FU FU D3 M4 s4 K3 N3 A (by omega) (fun q _ => by rw [Nat.zero_add]) (by omega) (by omega) h4 wh4 hW3 (by rw [p113, hoo]) ⟨ke.1, by rw [se4.k]; exact ke.2⟩ (by rw [se4.r]; exact hl.wz ztot.1 (fun _ z => z)) (by have := ztot.1.2.2.2.1.2.1.1; omega) (EqL.mv (Nat.le_refl _) (Nat.le_refl _) (fun n _ hn => (ztot.1.2.2.2.1.2.1.2 n (by omega)).1 70 (by decide)) (fun o p _ hp h => EqR.wz ztot.1 (fun _ z => z) _ 1 o p (by omega) h) os p hq)
        rw [e99b] at lp
        rw [show nI 0 = (0 : Int32) from rfl] at lp
        rcases lp with ⟨M5, s5, w, y, l1, l2, l3⟩ | ⟨D5, M5, s5, K5, N5, A5, l1, l2, h5, wh5, ⟨l3, l4, l5⟩, bt5⟩
        · rw [l1, obS_inr, l2]
          rcases y with y | y
          · rw [obS_inl, ifT iW, ifT iW, nm_eq]
            exact Or.inl ⟨M5, _, w, (), rfl, rfl, l3.tws (S := [147]) ((Ft.rf _ s5).p_tsA rfl) (by decide) (by decide) ⟨rfl, rfl⟩ ⟨rfl, rfl, rfl⟩⟩
          · rw [obS_inr]
            exact Or.inl ⟨M5, s5, w, (), rfl, rfl, l3⟩
        · have hW5 : Wn < (pl D5 113).length := (bt5.2.1.1 113 Wn hW3).1
          obtain ⟨w1, w2, w3, w4, w5, E5, ⟨w6, w7⟩, w8⟩ := wh5
          have eE : E5 = E := (bI_eq (by omega) (by have := h5.2.2.1.1.2.2.1; omega)).mp (w6.symm.trans h5.2.2.1.1.2.1)
          rw [eE] at w8
          obtain ⟨h6, bt6⟩ := h5.wend (m := A5 - A) hW5 ⟨w1, A, w2, w3, w4, by omega⟩ w8
          have em : tI s5 152 - tA s5 146 Wn = nI (A5 - A) := by
            rw [h5.2.2.2.1.1.2.1, w3, nI_sub w5]
          rw [l1, obS_inl, l2, obS_inl, ifT iW, ifT iW, em, nm_eq]
          exact Or.inr ⟨D5, M5, _, K5, N5, E, A5, Wn + 1, (), (), rfl, rfl, h6, ⟨l3, l4, Nat.le_refl _, l5, Nat.le_succ _⟩, bt5.tr bt6 l3 l4⟩
    rw [← ek] at main
    exact main
end WHENL
