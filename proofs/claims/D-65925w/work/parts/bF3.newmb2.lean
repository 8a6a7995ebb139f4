/-! Layer B: the flat model: a member is made, both sides -/
set_option maxRecDepth 100000
theorem px_ge (b : Nat → Int32) : ∀ n, by8 (b 0) ≤ px b 0 (n + 1)
  | 0 => by show by8 (b 0) ≤ 0 * 256 + by8 (b 0); omega
  | n + 1 => by
    have := px_ge b n
    show _ ≤ px b 0 (n + 1) * 256 + _
    omega
theorem nm_ne0 {v : Int64} (h : nmOK v) : v ≠ 0 := by
  obtain ⟨⟨n, b, h1, h2, h3, h4, rfl⟩, -⟩ := h
  have hu := u64_pk b 0 n h2
  obtain ⟨n, rfl⟩ : ∃ n', n = n' + 1 := ⟨n - 1, by omega⟩
  have h5 := px_ge b n
  have h6 := (ch_by8 (h3 0 (by omega))).2.1
  intro z
  rw [z] at hu
  have : u64 (0 : Int64) = 0 := by decide
  omega
theorem wc_ne0 {M : CM} {m L w : Nat} (W : WN M m L) (h1 : 38 ≤ w) (h2 : w < 38 + m) : wc M w ≠ 0 := by
  unfold wc
  rw [ifF (by omega)]
  exact nm_ne0 (W.2.2.2.2.2.2.2.2.1 (w - 38) (by omega))
/-- numbers below N, each once -/
theorem pig : ∀ (N : Nat) (l : List Nat), l.Nodup → (∀ x, x ∈ l → x < N) → l.length ≤ N
  | 0, l, _, h => by
    cases l with
    | nil => exact Nat.le_refl _
    | cons a l => exact absurd (h a List.mem_cons_self) (Nat.not_lt_zero _)
  | N + 1, l, hn, h => by
    have h1 := pig N (l.erase N) (hn.erase N) (fun x hx => by
      have h2 := (hn.mem_erase_iff).mp hx
      have := h x h2.2
      omega)
    by_cases q : N ∈ l
    · rw [List.length_erase_of_mem q] at h1; omega
    · rw [List.erase_of_not_mem q] at h1; omega
section NEWMB2
variable {C C' : PC} {D D' D2 : FQ} {M M' M1 M2 : CM} {σ σ' σ0 σ2 : TS} {mss fss xs bs qs os : List Nat} {B l k n o m u w Q I I' L V V' Bm Bm' b v r R E E' cr i k0 fr e eo fl z env kk tf cb : Nat} {P P' X T : Nat → Prop} {S S' : List Nat} {a : Nat × Nat × Nat} {A W W1 W2 : List (Nat × Nat × Nat)} {ks : List (Nat × Nat)} {x : Int64}
/-- whose the writes are when member Bm of instance i is made -/
def TmB (i Bm t : Nat) : Prop := t = 1 ∨ t = 100 ∨ t = tg 100 Bm ∨ t = tg 201 i ∨ t = tg 202 i
theorem InR.up (h : InR C P D mss M σ Bm n) (hn : tA σ 83 Bm ≠ nI n) : InR C P D mss M σ (Bm + 1) n := by
  obtain ⟨a1, a2, a3, bs, b1, b2, b3, b4, b5, b6⟩ := h
  refine ⟨a1, ?_, a3, bs, b1, fun b hb => ⟨Nat.lt_succ_of_lt (b2 b hb).1, (b2 b hb).2⟩, b3, b4, fun b hb e => ?_, b6⟩
  · rcases a2 with q | ⟨q0, p, b, e, q1, ⟨q4, q5⟩, q9⟩
    · exact Or.inl q
    · exact Or.inr ⟨q0, p, b, e, q1, ⟨Nat.lt_succ_of_lt q4, q5⟩, q9⟩
  · rcases Nat.lt_succ_iff_lt_or_eq.mp hb with q | q
    · exact b5 b q e
    · rw [q] at e; exact absurd e hn
theorem z_newMem (hB1 : B ≤ 1280) (F : FiS C B P mss fss D M σ V I Bm (cr + 1) R E) (hi : i < I) (he : ElR C P M σ eo e) (h58 : e < ix (tI σ 58)) (h57 : tA σ 57 e = 0) :
    (∃ M' σ' w, (∀ cf x3 x4 x5, KB_X0_element cf ((pl D 99).getD i 0) eo x3 x4 x5 M = some (.inr w, M')) ∧ (∀ cf' y, B_makeMember cf' (nI i) (nI e) y σ = some ((), σ')) ∧ FfO C B P mss fss TFf fiS [15, 16, 17, 18, 31] D D M M' σ σ' w) ∨
    ∃ D' M', (∀ cf x3 x4 x5, KB_X0_element cf ((pl D 99).getD i 0) eo x3 x4 x5 M = ob (K_X11_is eo 9 M') fun r41 M40 => if r41 = 0 then elB cf ((pl D 99).getD i 0) eo ((pl D' 100).getD Bm 0) x3 x4 x5 M40 else ob (K_J2_add 102 ((pl D' 100).getD Bm 0) M40) fun _ M111 => some (.inl (), M111)) ∧ (∀ cf' y, B_makeMember cf' (nI i) (nI e) y σ = J_makeMember_116 cf' (nI i) (nI e) y (nI Bm) (if tB σ 51 e = 0 then 1 else 0) (mbT σ i e Bm)) ∧ FiS C B P mss fss D' M' (mbT σ i e Bm) V I (Bm + 1) cr R E ∧ Wz C C P M M' σ (mbT σ i e Bm) ∧ Dx D D' M ∧ (∀ r, r < R → RwS D M D' M' r ∧ hit D' M' r = hit D M r) ∧ Fq D (TmB i Bm) M M' ∧ O1 [17] M M' ∧ (mR M' 3003 ((pl D' 100).getD Bm 0) = eo ∧ mI M' 3001 ((pl D' 100).getD Bm 0) = mI M 2002 eo ∧ mI M' 3002 ((pl D' 100).getD Bm 0) = tA σ 53 e ∧ mI M' 3000 ((pl D' 100).getD Bm 0) = mI M 2003 eo) ∧ (∃ os : List Nat, pl D' 102 = (os.map fun b => (pl D' 100).getD b 0) ∧ os.Pairwise (· < ·) ∧ ∀ b, b ∈ os → b < Bm ∧ outT (mbT σ i e Bm) b) ∧ ∀ n, n < I → tA (mbT σ i e Bm) 75 n = nI i → ¬ tA (mbT σ i e Bm) 76 n = nI e := by
  have W := F.1
  have h167 := W.n167
  have hm := W.rm
  obtain ⟨⟨l1, l2, l3, l4⟩, l98, l99, l100, l101⟩ := F.lens
  obtain ⟨⟨L, WN0⟩, h1280, hQ⟩ := F.wn hB1
  obtain ⟨⟨pe, ke, pu⟩, hMs, hE⟩ := he
  rcases hE with ⟨-, z, -⟩ | ⟨y0, y1, ⟨w, y2, y3, y4, y5⟩, ⟨z, y6, y7, y8⟩, ⟨fl, y9, y10, y11⟩, y12, y13, y14⟩
  · rw [h57] at z; exact absurd z (by decide)
  obtain ⟨E0, e1, e2⟩ := W.1.2.2.2.2.2.2.1
  have he480 : e < 480 := by
    rw [e1, ix_nI (by have := W.1.2.2.2.2.1.1.1; omega)] at h58
    have := W.1.2.2.2.2.1.1.1
    omega
  have he' : ElR C P M σ eo e := ⟨⟨pe, ke, pu⟩, hMs, Or.inr ⟨y0, y1, ⟨w, y2, y3, y4, y5⟩, ⟨z, y6, y7, y8⟩, ⟨fl, y9, y10, y11⟩, y12, y13, y14⟩⟩
  obtain ⟨N1, N2, N3, N4⟩ := F.2.1
  have hIn := N2 i hi
  obtain ⟨a1, a2, a3, bs, b1, b2, b3, b4, b5, b6⟩ := hIn
  have kio : mk M ((pl D 99).getD i 0) = 14 := (W.2.1.2.1 99 (by decide) i (by omega)).1
  have kmb : ∀ b, b < Bm → mk M ((pl D 100).getD b 0) = 16 ∧ 167 ≤ (pl D 100).getD b 0 := fun b hb => ⟨(W.2.1.2.1 100 (by decide) b (by omega)).1, (W.2.1.2.1 100 (by decide) b (by omega)).2.1.1⟩
  have h58' : ∀ x, x < ix (tI σ 58) → x < 480 := fun x hx => by
    rw [e1, ix_nI (by have := W.1.2.2.2.2.1.1.1; omega)] at hx
    have := W.1.2.2.2.2.1.1.1
    omega
  have hbe : ∀ b, b ∈ bs → mk M ((pl D 100).getD b 0) = 16 ∧ b < 96001 ∧ ∃ e wb, tA σ 84 b = nI e ∧ e < 481 ∧ mI M 3000 ((pl D 100).getD b 0) = nI wb ∧ wb < 38 + cm C ∧ tB σ 50 e = wc M wb := fun b hb => by
    obtain ⟨n, e, eo, w, -, ⟨q1, q2, -⟩, -, ⟨q3, q4, q5, q6⟩, -⟩ := N3 b (b2 b hb).1
    exact ⟨(kmb b (b2 b hb).1).1, by have := (b2 b hb).1; omega, e, w, q1, by have := h58' e q2; omega, q3, q5, q6⟩
  have i200 : i < 200 := by omega
  have hz := z_member (σ := σ) (C := C) (w := w) (n := i) (mo := fun b => (pl D 100).getD b 0) kio rfl b1 i200 b3 hbe b4 WN0 h1280 y4
  have s17 := F.2.2.1.2.2
  have hcr := F.2.2.2.1
  rcases hz with ⟨b, q1, q2, q3, q4⟩ | ⟨q1, q3, q4⟩
  · -- its name stands there already
    obtain ⟨c1, c2, c3⟩ := W.bad (r := 3) (by decide) F.g0
    refine Or.inl ⟨_, _, _, fun cf x3 x4 x5 => ?_, fun cf' y => ?_, c3.mono (fun _ z => z) (by decide) (by decide)⟩
    · unfold KB_X0_element
      rw [ifT ke, ifT kio, y2, q3, ob_some, ifF (show ¬ (pl D 100).getD b 0 = 0 from by have := (kmb b (b2 b q1).1).2; omega), c1, ob_some, ifT (wM_k M 3 0)]
    · unfold B_makeMember
      have b96 := (hbe b q1).2.1
      rw [ifT (inb_nI' (by omega) (by decide)), ix_nI (by omega), y5, q4, ob_some, ifF (show ¬ nI b < 0 from by rw [nI_ltL (by omega) (by decide)]; exact Nat.not_lt_zero _), c2, ob_some]
  · -- it's new
    obtain ⟨g, g1, g2, g3, g4⟩ := hcr
    have hBm : Bm < 20000 := by omega
    obtain ⟨D1, M1, d1, d2, d3, d4, d5, d6, d7, d8, d9⟩ := k_newMember W.2.1 h167 s17.1 l100 hBm W.rN W.rS
    have n1 := d6.1
    have fq1 : Fq D (fun t => t = 1 ∨ t = 100) M M1 := d6.mono (fun o ho y => by
      rcases y with y | y | y
      · rw [y, tgo_s (by decide)]; exact Or.inl rfl
      · rw [y, tgo_s (by decide)]; exact Or.inr rfl
      · exact Or.inr ((W.2.1.1 100 (by decide)).2.1.tg (by omega) ho y))
    obtain ⟨hk1, hk2, hk3⟩ := d2.2.1 100 (by decide) Bm d3
    obtain ⟨mo, hmo⟩ : ∃ mo, mo = (pl D1 100).getD Bm 0 := ⟨_, rfl⟩
    rw [← hmo] at d1 hk1 hk2 hk3
    have hk1 : mk M1 mo = 16 := hk1
    obtain ⟨io, hio⟩ : ∃ io, io = (pl D 99).getD i 0 := ⟨_, rfl⟩
    have e99 : (pl D1 99).getD i 0 = io := by rw [d5 99 (by decide), hio]
    have p167 := W.p167 pe
    have so1 : ∀ o, o < mn M → 167 ≤ o → ow D o ≠ 1 → ow D o ≠ 100 → So M M1 o := fun o h1 h2 h3 h4 => fq1.so ⟨h2, h1⟩ rfl (fun y => by rcases y with y | y <;> omega)
    have peM : eo < mn M := (W.1.2.2.2.2.2.1.nx pe).1.2
    have ow0 : ow D eo = 0 := W.2.2.1 eo (Or.inr (Or.inl pe)) peM p167
    have se : So M M1 eo := so1 eo peM p167 (by omega) (by omega)
    obtain ⟨i1, i2, i3⟩ := W.2.1.2.1 99 (by decide) i (by omega)
    rw [← hio] at i1 i2 i3
    have si : So M M1 io := so1 io i2.2 i2.1 (by rw [i3]; unfold tg; omega) (by rw [i3]; unfold tg; omega)
    obtain ⟨lo, hlo⟩ : ∃ lo, lo = mR M 2605 io := ⟨_, rfl⟩
    rw [← hio] at b1
    rw [← hlo] at b1
    obtain ⟨⟨ys, j1, j2⟩, j3, j4, j5⟩ := W.2.1.2.2.2.1 i (by omega)
    rw [← hio, ← hlo] at j1 j3 j4 j5
    have sl : So M M1 lo := so1 lo j3.2 j3.1 (by rw [j4]; unfold tg; omega) (by rw [j4]; unfold tg; omega)
    have sla : mR M 4201 lo ≠ 4398046511104 → So M M1 (mR M 4201 lo) := fun z => by
      rcases j1.lt with q | q
      · exact absurd q z
      · exact so1 _ q (j5 z).1.2 (by rw [(j5 z).1.1]; unfold tg; omega) (by rw [(j5 z).1.1]; unfold tg; omega)
    have L1 : Ls M1 lo (bs.map fun b => (pl D 100).getD b 0) := b1.kp n1 (fun o ho => d6.k ho) sl sla
    -- its fields
    obtain ⟨ty, hty⟩ : ∃ ty, ty = mI M 2002 eo := ⟨_, rfl⟩
    obtain ⟨rl, hrl⟩ : ∃ rl : Int32, rl = if ty = 12 then 1 else 0 := ⟨_, rfl⟩
    obtain ⟨M2, hM2⟩ : ∃ N, N = mbW M1 mo eo io (nI w) (nI z) ty rl := ⟨_, rfl⟩
    have F2 : Fz (fun o => o = mo) M1 M2 := by rw [hM2]; exact mbW_f
    have v2 := mbW_v (M := M1) (mo := mo) (eo := eo) (io := io) (w := nI w) (z := nI z) (ty := ty) (x3 := rl)
    rw [← hM2] at v2
    obtain ⟨⟨m1, m2, m3, m4, m5, m6, m7⟩, m8, m9, m10⟩ := v2
    have P2 : PoW D1 M2 := d2.wr (by omega) (l := 100) (k := Bm) (by decide) d3 (by rw [← hmo]; exact F2) (fun z => absurd z (by decide)) (fun z => absurd z (by decide)) (fun o h1 h2 => by omega)
    have rm2 := rm_same (D := D1) (M := M1) (M' := M2) ⟨m9, m10⟩ (fun o => ⟨(m8 o).2.2.1, (m8 o).2.2.2.1, (m8 o).2.1⟩)
    have tgm : ow D1 mo = tg 100 Bm := hk3
    have nloMo : lo ≠ mo := fun z => by
      have h1 : ow D1 lo = tg 201 i := by rw [d4.2 lo j3.2]; exact j4
      rw [z, tgm] at h1; unfold tg at h1; omega
    have nlaMo : mR M 4201 lo ≠ 4398046511104 → mR M 4201 lo ≠ mo := fun y z => by
      rcases j1.lt with q | q
      · exact absurd q y
      · have h1 : ow D1 (mR M 4201 lo) = tg 202 i := by rw [d4.2 _ q]; exact (j5 y).1.1
        rw [z, tgm] at h1; unfold tg at h1; omega
    have neMo : eo ≠ mo := fun z => by
      have h1 : ow D1 eo = 0 := by rw [d4.2 _ peM]; exact ow0
      rw [z, tgm] at h1; unfold tg at h1; omega
    have niMo : io ≠ mo := fun z => by
      have h1 : ow D1 io = tg 99 i := by rw [d4.2 _ i2.2]; exact i3
      rw [z, tgm] at h1; unfold tg at h1; omega
    have lo1 : mR M1 2605 io = lo := by rw [si.r]; exact hlo.symm
    have la1 : mR M1 4201 lo = mR M 4201 lo := sl.r _
    have L2 : Ls M2 lo (bs.map fun b => (pl D 100).getD b 0) := L1.kp F2.1 (fun o ho => F2.k ho) (F2.so (by omega) nloMo) (fun z => by
      rw [la1] at z ⊢
      rcases j1.lt with q | q
      · exact absurd q z
      · exact F2.so (by omega) (nlaMo z))
    have so2i : So M1 M2 io := F2.so (by omega) niMo
    have so2e : So M1 M2 eo := F2.so (by omega) neMo
    have len480 : (bs.map fun b => (pl D 100).getD b 0).length < 480 := by
      rw [List.length_map]
      have hnd : (bs.map fun b => ix (tA σ 84 b)).Nodup := by
        unfold List.Nodup
        refine List.pairwise_map.mpr (List.Pairwise.imp_of_mem (fun {b c} hb hc hne => ?_) b6)
        intro z
        obtain ⟨-, -, e', wb, c1, c2, c3, c4, c5⟩ := hbe b hb
        obtain ⟨-, -, e2', wb2, g1', g2', g3', g4', g5'⟩ := hbe c hc
        rw [c1, g1', ix_nI (by omega), ix_nI (by omega)] at z
        rw [z, g5'] at c5
        have := (wc_inj WN0 g4' c4).mp c5
        exact Nat.ne_of_lt hne (b4 b c hb hc (by rw [c3, g3', this]))
      have hne : e ∉ (bs.map fun b => ix (tA σ 84 b)) := fun h => by
        obtain ⟨b, hb, hbx⟩ := List.mem_map.mp h
        obtain ⟨-, -, e', wb, c1, c2, c3, c4, c5⟩ := hbe b hb
        rw [c1, ix_nI (by omega)] at hbx
        rw [hbx, y5] at c5
        have := (wc_inj WN0 y4 c4).mp c5
        exact q1 b hb (by rw [c3, this])
      have := pig 480 (e :: bs.map fun b => ix (tA σ 84 b)) (List.nodup_cons.mpr ⟨hne, hnd⟩) (fun x hx => by
        rcases List.mem_cons.mp hx with g | g
        · omega
        · obtain ⟨b, hb, hbx⟩ := List.mem_map.mp g
          obtain ⟨n', e', eo', w', -, ⟨c1, c2, -⟩, -⟩ := N3 b (b2 b hb).1
          rw [c1, ix_nI (by have := h58' e' c2; omega)] at hbx
          have := h58' e' c2
          omega)
      rw [List.length_cons, List.length_map] at this
      omega
    have mo2 : mo < mn M2 := by omega
    obtain ⟨D3, M3, t1, t2, t3, t4, t5, t6, t7, t8⟩ := inst_add (k := i) P2 (by omega) (by rw [d5 99 (by decide)]; omega) (by rw [e99, so2i.r, lo1]) L2 len480 (x := mo) (Or.inl ⟨mo2, by rw [(m8 mo).1, hk1]; decide, by rw [(m8 mo).1, hk1]; decide⟩) (by rw [rm2.1]; have := W.rN; omega) (by rw [rm2.2]; have := W.rS; omega)
    have p3 : pl D3 = pl D1 := t4
    have e3mo : (pl D3 100).getD Bm 0 = mo := by rw [p3]; exact hmo.symm
    have bn : mn M2 ≤ 601024 := by
      have h1 := W.rN
      have h2 : mn M2 ≤ rmN D1 M2 := Nat.le_add_right _ _
      rw [rm2.1] at h2; omega
    have ela : ∀ o, o < mn M2 → o = mR M2 4201 lo → ow D1 o = tg 202 i ∧ 167 ≤ o ∧ o ≠ mo ∧ o < mn M := fun o ho z => by
      rw [(m8 lo).2.2.2.1, la1] at z
      have q : mR M 4201 lo ≠ 4398046511104 := by omega
      have q2 : mR M 4201 lo < mn M := by
        rcases j1.lt with g | g
        · exact absurd g q
        · exact g
      rw [z]
      exact ⟨by rw [d4.2 _ q2]; exact (j5 q).1.1, (j5 q).1.2, nlaMo q, q2⟩
    have owlo : ow D1 lo = tg 201 i := by rw [d4.2 lo j3.2]; exact j4
    have s3 : ∀ o, o < mn M2 → o ≠ lo → (o = mR M2 4201 lo → False) → So M2 M3 o := fun o ho h1 h2 => t6.so ho (fun y => by
      rcases y with y | y
      · exact h1 y
      · exact h2 y)
    have s3mo : So M2 M3 mo := s3 mo mo2 (fun z => nloMo z.symm) (fun z => (ela mo mo2 z).2.2.1 rfl)
    have s31 : So M2 M3 1 := s3 1 (by omega) (by omega) (fun z => by have := (ela 1 (by omega) z).2.1; omega)
    have s3io : So M2 M3 io := s3 io (by omega) (fun z => by
      have h1 : ow D1 io = tg 99 i := by rw [d4.2 _ i2.2]; exact i3
      rw [z, owlo] at h1; unfold tg at h1; omega) (fun z => by
      have h1 : ow D1 io = tg 99 i := by rw [d4.2 _ i2.2]; exact i3
      rw [(ela io (by omega) z).1] at h1; unfold tg at h1; omega)
    have s3e : So M2 M3 eo := s3 eo (by omega) (fun z => by
      have h1 : ow D1 eo = 0 := by rw [d4.2 _ peM]; exact ow0
      rw [z, owlo] at h1; unfold tg at h1; omega) (fun z => by
      have h1 : ow D1 eo = 0 := by rw [d4.2 _ peM]; exact ow0
      rw [(ela eo (by omega) z).1] at h1; unfold tg at h1; omega)
    have fq2 : Fq D1 (TmB i Bm) M1 M2 := F2.mono (fun o ho y => by
      rw [y, hmo, d2.tv (by decide) d3]; exact Or.inr (Or.inr (Or.inl rfl)))
    have fq3 : Fq D1 (TmB i Bm) M2 M3 := t6.mono (fun o ho y => by
      rcases y with y | y
      · rw [y, tgo_d (by omega), owlo]; exact Or.inr (Or.inr (Or.inr (Or.inl rfl)))
      · have h1 := ela o ho y
        rw [tgo_d h1.2.1, h1.1]; exact Or.inr (Or.inr (Or.inr (Or.inr rfl))))
    have fq : Fq D (TmB i Bm) M M3 := (fq1.mono (fun t y => by unfold TmB; omega)).tr (fq2.tr fq3 (Dx.rf D1 M1)) d4
    have dx : Dx D D3 M := d4.tr t5 (by omega)
    have oo : O1 [17] M M3 := (d7.tr (O1.so (F2.so (by omega) (by omega)))).tr (O1.so s31)
    have hrm : rmN D3 M3 ≤ rmN D M ∧ rmS D3 M3 ≤ rmS D M := by rw [rm2.1] at t7; rw [rm2.2] at t8; omega
    have tTF : ∀ t, TmB i Bm t → TFf t := fun t y => by unfold TmB tg at y; unfold TFf; omega
    have ff := mbT_f (σ := σ) (i := i) (e := e) (b := Bm)
    obtain ⟨vv1, vv2, vv3⟩ := mbT_v (σ := σ) (i := i) (e := e) (b := Bm)
    obtain ⟨W3, v3⟩ := W.mv (fq.mono tTF) oo (by decide) t2 dx hrm ff (by decide)
    obtain ⟨K1, K2, K3, K4⟩ := F.2.1.kpx2 (i0 := i) W.2.1 fq (fun t y => by
      unfold TmB at y
      refine ⟨fun v hv => ?_, fun n hn => ⟨?_, fun hne => ?_⟩⟩ <;> unfold tg at * <;> omega) (fun b hb => by
      have s := W.2.1.so3 (k := b) (l := 100) (by decide) (by omega) fq (fun z => by unfold TmB tg at z; omega)
      exact ⟨fun f _ _ => s.i f, fun f => s.r f⟩) v3 dx (fun f hf n hn => by
        simp only [List.mem_cons, List.not_mem_nil, or_false] at hf
        rcases hf with rfl | rfl | rfl | rfl <;> exact (ff _ rfl).2.2.1 n) (fun n hn hne => vv3 n hne) (fun f hf b hb => vv2 f (by simp only [List.mem_cons, List.not_mem_nil, or_false] at hf ⊢; omega) b (by omega)) (fun f hf v hv => by
        simp only [List.mem_cons, List.not_mem_nil, or_false] at hf
        rcases hf with rfl | rfl | rfl | rfl | rfl | rfl | rfl | rfl | rfl | rfl <;> exact (ff _ rfl).2.2.1 v)
    have hE3 := v3.2.2.2.1.2.2.2
    obtain ⟨ha3, hb3⟩ := hE3.2 e h58
    have e99' : (pl D3 99).getD i 0 = io := by rw [p3]; exact e99
    have eb : ∀ b, b < Bm → (pl D3 100).getD b 0 = (pl D 100).getD b 0 := fun b hb => (dx.1 100 b (by omega)).2
    have hn3000 : ∀ b, b < Bm → mI M3 3000 ((pl D3 100).getD b 0) = mI M 3000 ((pl D 100).getD b 0) := fun b hb => by
      rw [eb b hb]
      exact (W.2.1.so3 (k := b) (l := 100) (by decide) (by omega) fq (fun z => by unfold TmB tg at z; omega)).i _
    have new3000 : mI M3 3000 ((pl D3 100).getD Bm 0) = nI w := by rw [e3mo, s3mo.i, m1]
    have nMb : MbA C P D3 M3 (mbT σ i e Bm) I Bm := by
      refine ⟨i, e, eo, w, ⟨hi, by rw [e3mo, s3mo.r, m6, e99'], vv1.2.1⟩, ⟨vv1.2.2.1, by have := hE3.1; omega, by rw [ha3 57 (by decide)]; exact h57⟩, ⟨by rw [e3mo, s3mo.r, m3], he'.wz v3 (fun _ z => z) h58⟩, ⟨new3000, y3, y4, by rw [hb3 50 (by decide), v3.2.2.1.2 w y4]; exact y5⟩, ?_, ?_, by rw [e3mo, s3mo.r, m7]⟩
      · rw [e3mo, s3mo.i, m2, ha3 53 (by decide), y7]
      · rw [e3mo, s3mo.i, m5, hb3 51 (by decide), hrl]
        rcases y12 with ⟨c1, c2⟩ | ⟨w2, c1, c2, c3, c4⟩
        · rw [ifT (show ty = 12 from by rw [hty]; exact c1), ifT c2]
        · rw [ifF (show ¬ ty = 12 from fun z => by
            rw [hty, c1, show (12 : Int32) = nI 12 from rfl, bI_eq (by omega) (by decide)] at z; omega), ifF (show ¬ tB σ 51 e = 0 from by rw [c4]; exact wc_ne0 WN0 c2 c3)]
    have N3' : FIn C P D3 mss M3 (mbT σ i e Bm) V I (Bm + 1) := by
      refine ⟨⟨K1.1, K1.2.1, by rw [p3]; omega⟩, fun n hn => ?_, fun b hb => ?_, K4⟩
      · by_cases q : n = i
        · subst q
          obtain ⟨⟨f1, f2, f3⟩, -⟩ := K2 n hn
          have len := b1.2.2.1
          refine ⟨f1, ?_, f3, bs ++ [Bm], ?_, fun b hb => ?_, ?_, fun b c hb hc ee => ?_, fun b hb ee => ?_, ?_⟩
          · rcases f2 with q | ⟨q0, p, b, e, q1, ⟨q4, q5⟩, q9⟩
            · exact Or.inl q
            · exact Or.inr ⟨q0, p, b, e, q1, ⟨Nat.lt_succ_of_lt q4, q5⟩, q9⟩
          · rw [e99', s3io.r, so2i.r, lo1, List.map_append, List.map_congr_left (g := fun b => (pl D 100).getD b 0) (fun b hb => eb b (b2 b hb).1)]
            show Ls M3 lo ((bs.map fun b => (pl D 100).getD b 0) ++ [(pl D3 100).getD Bm 0])
            rw [e3mo]; exact t3
          · rcases List.mem_append.mp hb with g | g
            · exact ⟨by have := (b2 b g).1; omega, by rw [vv2 83 (by decide) b (by have := (b2 b g).1; omega)]; exact (b2 b g).2⟩
            · rw [List.mem_singleton.mp g]; exact ⟨Nat.lt_succ_self _, vv1.2.1⟩
          · rw [List.reverse_append]
            show ChR _ (Bm :: bs.reverse) _
            refine ⟨vv1.2.2.2.2.2.2, ?_⟩
            rw [vv1.2.2.2.2.2.1]
            exact b3.mv _ _ (fun b hb => vv2 87 (by decide) b (by have := (b2 b (List.mem_reverse.mp hb)).1; omega))
          · rcases List.mem_append.mp hb with g | g <;> rcases List.mem_append.mp hc with g' | g'
            · rw [hn3000 b (b2 b g).1, hn3000 c (b2 c g').1] at ee
              exact b4 b c g g' ee
            · rw [List.mem_singleton.mp g', new3000, hn3000 b (b2 b g).1] at ee
              exact absurd ee (q1 b g)
            · rw [List.mem_singleton.mp g, new3000, hn3000 c (b2 c g').1] at ee
              exact absurd ee.symm (q1 c g')
            · rw [List.mem_singleton.mp g, List.mem_singleton.mp g']
          · rcases Nat.lt_succ_iff_lt_or_eq.mp hb with g | g
            · rw [vv2 83 (by decide) b (by omega)] at ee
              exact List.mem_append_left _ (b5 b g ee)
            · rw [g]; exact List.mem_append_right _ List.mem_cons_self
          · refine List.pairwise_append.mpr ⟨b6, List.pairwise_singleton _ _, fun b hb c hc => ?_⟩
            rw [List.mem_singleton.mp hc]
            exact (b2 b hb).1
        · refine ((K2 n hn).2 q).up ?_
          rw [vv1.2.1]
          intro z
          have := (bI_eq (a := i) (b := n) (by omega) (by omega)).mp z
          omega
      · rcases Nat.lt_succ_iff_lt_or_eq.mp hb with g | g
        · exact K3 b g
        · rw [g]; exact nMb
    obtain ⟨-, -, ⟨⟨u1, u2, u3⟩, ⟨u4, u5, u6⟩, u7, u8⟩, -, ⟨r1, r2⟩, ⟨x1, x2⟩, os, o1, o2, o3, o4⟩ := F
    have mp : (os.map fun b => (pl D3 100).getD b 0) = os.map fun b => (pl D 100).getD b 0 := List.map_congr_left (fun b hb => eb b (o4 b hb).1)
    have L102 : pl D3 102 = pl D 102 := by rw [p3]; exact d5 102 (by decide)
    have oT : ∀ b, b ∈ os → outT (mbT σ i e Bm) b := fun b hb => (o4 b hb).2.mv (vv2 84 (by decide) b (by have := (o4 b hb).1; omega)) (ff 52 rfl).2.2.1
    refine Or.inr ⟨D3, M3, fun cf x3 x4 x5 => ?_, fun cf' y => ?_, ⟨W3, N3', ⟨⟨by rw [oo.1 15 rfl]; exact u1, by rw [(ff 107 rfl).1]; exact u2, u3⟩, ⟨by rw [oo.1 16 rfl]; exact u4, by rw [(ff 82 rfl).1]; exact u5, u6⟩, ?_, vv1.1⟩, ⟨g, by rw [oo.1 31 rfl]; exact g1, by rw [(ff 132 rfl).1]; exact g2, g3, by omega⟩, ⟨by rw [oo.1 18 rfl]; exact r1, by rw [p3, d5 101 (by decide)]; exact r2⟩, ⟨by rw [(ff 93 rfl).1]; exact x1, by rw [(ff 0 rfl).1]; exact x2⟩, os, ?_, ?_, o3, fun b hb => ⟨Nat.lt_succ_of_lt (o4 b hb).1, oT b hb⟩⟩, v3, dx, fun r hr => RwS.fq W.2.1 (by omega) dx fq (fun y => by unfold TmB tg at y; omega), fq, oo, ?_, ⟨os, by rw [mp, L102]; exact o2, o3, fun b hb => ⟨(o4 b hb).1, oT b hb⟩⟩, fun n hn h1 h2 => ?_⟩
    · rw [e3mo, ← hio]
      exact k_newMb (w := nI w) (z := nI z) (ty := ty) (M1 := M1) (M3 := M3) (lo := lo) ke (by rw [hio]; exact kio) y2 (by rw [hio]; exact q3) d1 ⟨by rw [se.k]; exact ke, hk1, by rw [si.k, hio]; exact kio⟩ ⟨by rw [se.i]; exact y2, by rw [se.i]; exact y6, by rw [se.i]; exact hty.symm⟩ ⟨lo1, L1.1⟩ neMo (by rw [← hrl, ← hM2]; exact t1) (by rw [s3e.k, so2e.k, se.k]; exact ke)
    · exact t_newMb (by omega) i200 (by omega) (by rw [y5]; exact q4) s17.2
    · rw [s31.i, (F2.so (o := 1) (by omega) (by omega)).i]; exact d8
    · rw [mp, ← o2, ← L102]
      exact (W3.2.1.1 102 (by decide)).1
    · rw [mp, L102]; exact o2
    · rw [e3mo]
      exact ⟨by rw [s3mo.r, m3], by rw [s3mo.i, m4]; exact hty, by rw [s3mo.i, m2, y7], by rw [s3mo.i, m1, y2]⟩
    · rw [(ff 75 rfl).2.2.1] at h1
      rw [(ff 76 rfl).2.2.1] at h2
      obtain ⟨-, g2, -⟩ := N2 n hn
      rcases g2 with ⟨g3, g4, g5⟩ | ⟨g3, p, b', e', ⟨g4, g5, g6⟩, ⟨g7, g8, g9, g10, g11⟩, -⟩
      · rw [g5] at h1
        have h3 : nI i < 0 := by rw [← h1]; decide
        rw [nI_ltL (by omega) (by decide)] at h3
        exact absurd h3 (Nat.not_lt_zero _)
      · rw [g6] at h1
        have e1 := (bI_eq (a := p) (b := i) (by omega) (by omega)).mp h1
        rw [e1] at g8
        have e2 : tA σ 84 b' = nI e := by rw [g9, ← g10]; exact h2
        have hb' := b5 b' g7 g8
        obtain ⟨-, -, e3, wb, c1, c2, c3, c4, c5⟩ := hbe b' hb'
        rw [e2] at c1
        have e4 := (bI_eq (a := e) (b := e3) (by omega) (by omega)).mp c1
        rw [← e4, y5] at c5
        have := (wc_inj WN0 y4 c4).mp c5
        exact q1 b' hb' (by rw [c3, this])
end NEWMB2
