/-! Layer B: the flat model: the loops over members and their instances -/
set_option maxRecDepth 100000
section ALL2
variable {zb zb' : Nat} {C : PC} {D D' D1 D2 : FQ} {M M' M1 M2 M3 M0 : CM} {σ σ' σ1 σ2 σ0 s1 s8 : TS} {mss fss : List Nat} {B V I Bm K N K' N' E A Wn E' A' A0 Wn' v l x0 dc md X N0 Lp Lp' w d s i nf R a f h1 h2 eq L : Nat} {os : List Nat} {P T Y : Nat → Prop} {x2 x3 x3' x4 x y r kd : Int32} {z7 : Nat → Nat} {S : List Nat}
variable {cfK : Nat → CM → Option ((Unit ⊕ Nat) × CM)} {cfT : Int32 → TS → Option (Unit × TS)}
/-- what a member is, for the loops -/
theorem BS.mb (h : BS zb z7 C B P mss fss V I Bm Lp x3 D M σ K N E A Wn) {b : Nat} (hb : b < Bm) : (mk M ((pl D 100).getD b 0) = 16 ∧ mk M (mR M 3003 ((pl D 100).getD b 0)) = 11) ∧ ∃ e, (tA σ 84 b = nI e ∧ e < 480) ∧ mI M 3004 ((pl D 100).getD b 0) = (if tB σ 51 e = 0 then 1 else 0) ∧ K_X11_is (mR M 3003 ((pl D 100).getD b 0)) 9 M = some (if ¬ tA σ 52 e &&& 16 = 0 then 1 else 0, M) ∧ (¬ tB σ 51 e = 0 → tA σ 52 e &&& 16 = 0 → ∃ z f, mI M 3002 ((pl D 100).getD b 0) = nI z ∧ tA σ 53 e = nI z ∧ z ≤ 9 ∧ mI M 3005 ((pl D 100).getD b 0) = nI f ∧ ∀ j, j < many z → ∃ n, (f ≤ n ∧ n < I ∧ (j = 0 → n = f)) ∧ Mtc σ b n ∧ tA σ 77 n = nI (xo z j)) := by
  have W := h.fw
  obtain ⟨E58, e58, e59⟩ := W.1.2.2.2.2.2.2.1
  have m24 := W.1.2.2.2.2.1.1.1
  have km : mk M ((pl D 100).getD b 0) = 16 := (W.2.1.2.1 100 (by decide) b (by have := h.fx.1.1.2.2; omega)).1
  obtain ⟨n, e, eo, w, ⟨a1, a2, a3⟩, ⟨a4, a5, a6⟩, ⟨a7, a8⟩, ⟨a9, a10, a11, a12⟩, a13, a14, a15⟩ := h.fx.1.2.2.1 b hb
  have e480 : e < 480 := by rw [e58, ix_nI (by omega)] at a5; omega
  have a8' := a8
  obtain ⟨⟨p1, p2, p3⟩, -, el⟩ := a8
  refine ⟨⟨km, by rw [a7]; exact p2⟩, e, ⟨a4, e480⟩, a14, ?_, fun h51 h52 => ?_⟩
  · rw [a7]
    rcases el with ⟨f1, f2, -⟩ | ⟨f1, f2, f3, f4, ⟨fl, g1, g2, g3⟩, -⟩
    · rw [a6] at f2; exact absurd f2 (by decide)
    · refine is_bit p2 ?_
      have := (pf_bits fl g1 4 (by decide)).1
      rw [g2, g3]
      exact this
  · obtain ⟨q1, -, -⟩ := h.fx.2.2.2.2 b hb
    obtain ⟨e', ⟨r1, r2⟩, r3⟩ := q1
    have ee : e' = e := by
      rw [a4] at r1
      rw [e58, ix_nI (by omega)] at r2
      exact ((bI_eq (by omega) (by omega)).mp r1).symm
    rw [ee] at r3 r1
    rcases r3 with ⟨t1, -⟩ | ⟨-, f, z, ⟨t2, t3⟩, ⟨t4, t5⟩, t6⟩
    · exact absurd h52 t1
    · rcases t6 with ⟨t7, -⟩ | ⟨-, -, t8, -⟩
      · exact absurd t7 h51
      · refine ⟨z, f, by rw [a13]; exact t4, t4, t5, t2, fun j hj => ?_⟩
        obtain ⟨n', u1, u2, u3, u4⟩ := t8 j hj
        exact ⟨n', u1, ⟨u2, by rw [u3, a4]⟩, u4⟩
/-- instances of a member, one after another -/
theorem in_lp {m : Nat} {dp : Nat → Nat} (hB1 : B ≤ 1280) (ih : AlH z7 C B P mss fss V I Bm m dp cfK cfT) {n b z e kn : Nat} {kx : Int32} {kk : Unit → CM → Option ((Unit ⊕ (Unit ⊕ Nat)) × CM)} (hn : n < I) (hm : 13 - dp n < m + 1) (hz9 : z ≤ 9) : ∀ (t j c f f' : Nat) D M σ K N E A Wn, j + t = many z → t < f → I - c < f' → DpI dp σ I → BS 1 z7 C B P mss fss V I Bm 0 0 D M σ K N E A Wn → (b < Bm ∧ tA σ 83 b = nI n) → (tA σ 84 b = nI e ∧ e < 480) → ¬ tB σ 51 e = 0 → tA σ 52 e &&& 16 = 0 → tA σ 53 e = nI z → II σ I n b z j c →
    (∀ D' M' σ' K' N' E' A' Wn' c' f'', BS 1 z7 C B P mss fss V I Bm 0 0 D' M' σ' K' N' E' A' Wn' → (K ≤ K' ∧ N ≤ N' ∧ E ≤ E' ∧ A ≤ A' ∧ Wn ≤ Wn') → BTr V C P K N D M σ D' M' σ' → II σ' I n b z (many z) c' → I - c' < f'' → BO (γ := Unit) (β := Unit) 1 z7 C B P mss fss V I Bm 0 0 Sum.inr D' M' σ' K' N' E' A' Wn' (kk () M') (L_collect_2 cfT f'' (nI n) (nI c') σ')) →
    BO (γ := Unit) (β := Unit) 1 z7 C B P mss fss V I Bm 0 0 Sum.inr D M σ K N E A Wn (obS (KL_X0_all_28 cfK f kn kx ((pl D 100).getD b 0) (nI j) M) (fun r45 M41 => some (.inr r45, M41)) kk) (L_collect_2 cfT f' (nI n) (nI c) σ) := by
  intro t
  induction t with
  | zero =>
    intro j c f f' D M σ K N E A Wn hj hf hf' hdp h hb he h51 h52 h53 hI hk
    obtain ⟨f, rfl⟩ : ∃ g, f = g + 1 := ⟨f - 1, by omega⟩
    obtain ⟨⟨k1, k2⟩, e', ⟨e1, e2⟩, e3, e4, e5⟩ := h.mb hb.1
    have ee : e' = e := (bI_eq (by omega) (by omega)).mp (e1.symm.trans he.1)
    rw [ee] at e3 e4 e5
    obtain ⟨z', f0, z1, z2, z3, z4, z5⟩ := e5 h51 h52
    have ez : z' = z := (bI_eq (by omega) (by omega)).mp (z2.symm.trans h53)
    rw [ez] at z1
    have hm9 : many z ≤ 9 := by
      unfold many
      by_cases y : z = 0
      · rw [ifT y]; omega
      · rw [ifF y]; omega
    rw [ifF (show ¬ ¬ tA σ 52 e &&& 16 = 0 from fun z => z h52)] at e4
    rw [ifF h51] at e3
    have jm : j = many z := by omega
    unfold KL_X0_all_28
    rw [ifT k1, e3, ifT (rfl : (0 : Int32) = 0), ifT k1, ifT k2, e4, ob_some, ifT (rfl : (0 : Int32) = 0), ifT k1, k_many k1 z1 hz9, ob_some, ifT (show nI (many z) ≤ nI j from (bI_le (by omega) (by omega)).mpr (by omega)), obS_inl]
    exact hk D M σ K N E A Wn c f' h ⟨Nat.le_refl _, Nat.le_refl _, Nat.le_refl _, Nat.le_refl _, Nat.le_refl _⟩ (BTr.rf h.cn) (by rw [← jm]; exact hI) hf'
  | succ t iht =>
    intro j c f f' D M σ K N E A Wn hj hf hf' hdp h hb he h51 h52 h53 hI hk
    obtain ⟨f, rfl⟩ : ∃ g, f = g + 1 := ⟨f - 1, by omega⟩
    obtain ⟨⟨k1, k2⟩, e', ⟨e1, e2⟩, e3, e4, e5⟩ := h.mb hb.1
    have ee : e' = e := (bI_eq (by omega) (by omega)).mp (e1.symm.trans he.1)
    rw [ee] at e3 e4 e5
    obtain ⟨z', f0, z1, z2, z3, z4, z5⟩ := e5 h51 h52
    have ez : z' = z := (bI_eq (by omega) (by omega)).mp (z2.symm.trans h53)
    rw [ez] at z1 z5
    have hm9 : many z ≤ 9 := by
      unfold many
      by_cases y : z = 0
      · rw [ifT y]; omega
      · rw [ifF y]; omega
    rw [ifF (show ¬ ¬ tA σ 52 e &&& 16 = 0 from fun z => z h52)] at e4
    rw [ifF h51] at e3
    have I200 := h.fx.2.1.2.1
    obtain ⟨q, q1, q2, -, q3, q4⟩ := z_instM hB1 h.fw h.fx hb.1 hz9 z4 z5 (j0 := j) (by omega)
    obtain ⟨c1, c2, c3⟩ := hI.next hB1 h.fw h.fx hn hb ⟨e, he.2, he.1, h53, hz9⟩ (by omega) ⟨q1, q3, q4⟩
    have sk := t_colS (cfT := cfT) (n := n) h.h0 h.fx.2.2.1.2.1 I200 (q - c) c f' (by omega) (by omega) (fun q' g1 g2 => c2 q' g1 (by omega))
    rw [show c + (q - c) = q by omega] at sk
    obtain ⟨g', hg'⟩ : ∃ g, f' - (q - c) = g + 1 := ⟨f' - (q - c) - 1, by omega⟩
    rw [sk, hg']
    have q75 : tA σ 75 q = nI n := by rw [q3.1]; exact hb.2
    have nq : n < q := by
      obtain ⟨-, -, -, -, -, -, g6, -⟩ := kid_key h.fx hn ⟨q1, q75⟩
      exact g6
    have dq := (hdp q q1).2 n nq q75
    obtain ⟨recT, hrT⟩ : ∃ g, g = L_collect_2 cfT g' := ⟨_, rfl⟩
    unfold KL_X0_all_28 L_collect_2
    rw [ifT k1, e3, ifT (rfl : (0 : Int32) = 0), ifT k1, ifT k2, e4, ob_some, ifT (rfl : (0 : Int32) = 0), ifT k1, k_many k1 z1 hz9, ob_some, ifF (show ¬ nI (many z) ≤ nI j from fun z => by have := (bI_le (by omega) (by omega)).mp z; omega), q2, ob_some, obS_nest, h.fx.2.2.1.2.1, ifF (show ¬ nI I ≤ nI q from fun z => by have := (bI_le (by omega) (by omega)).mp z; omega), t_isBad0 h.h0, ob_some, ifT (rfl : (0 : Int32) = 0), ifT (inb_nI' (by omega) (by decide)), ix_nI (by omega), ifT q75, ← hrT]
    have := ih q D M σ K N E A Wn q1 (by have := (hdp q q1).1; omega) hdp h
    refine this.seq (fun _ _ => rfl) (fun M' σ' w y g => ?_) (fun D' M' σ' K' N' E' A' Wn' r y h' le bt => ?_)
    · obtain ⟨g'', rfl⟩ : ∃ g, g' = g + 1 := ⟨g' - 1, by omega⟩
      exact ⟨(), σ', by rw [nm_eq, hrT, t_colB g.ne], g⟩
    · have vk := bt.2.2.2.2.2
      have fg := bt.2.2.2.1.2.2.1
      have eb : (pl D' 100).getD b 0 = (pl D 100).getD b 0 := (bt.2.1.1 100 b (by have := h.fx.1.1.2.2; omega)).2
      have hdp' : DpI dp σ' I := fun n' hn' => ⟨(hdp n' hn').1, fun p hp z => (hdp n' hn').2 p hp (by rw [vk 75 (by decide)] at z; exact z)⟩
      have go := iht (j + 1) (q + 1) f g' D' M' σ' K' N' E' A' Wn' (by omega) (by omega) (by omega) hdp' h' ⟨hb.1, by rw [vk 83 (by decide)]; exact hb.2⟩ ⟨by rw [vk 84 (by decide)]; exact he.1, he.2⟩ (by rw [(fg 51 rfl).2.2.2]; exact h51) (by rw [(fg 52 rfl).2.2.1]; exact h52) (by rw [(fg 53 rfl).2.2.1]; exact h53) (c3.vk vk) (fun D2 M2 σ2 K2 N2 E2 A2 Wn2 c' f'' h2 le2 bt2 i2 hf2 => hk D2 M2 σ2 K2 N2 E2 A2 Wn2 c' f'' h2 (by omega) (bt.tr bt2 le.1 le.2.1) i2 hf2)
      rw [eb] at go
      rw [nm_eq, nm_eq, nI_addL, nI_addL, hrT]
      exact go
end ALL2
