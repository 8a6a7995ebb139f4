/-! Layer B: the flat model: all equations, both sides -/
set_option maxRecDepth 100000
section ALL3
variable {zb zb' : Nat} {C : PC} {D D' D1 D2 : FQ} {M M' M1 M2 M3 M0 : CM} {σ σ' σ1 σ2 σ0 s1 s8 : TS} {mss fss : List Nat} {B V I Bm K N K' N' E A Wn E' A' A0 Wn' v l x0 dc md X N0 Lp Lp' w d s i nf R a f h1 h2 eq L : Nat} {os : List Nat} {P T Y : Nat → Prop} {x2 x3 x3' x4 x y r kd : Int32} {z7 : Nat → Nat} {S : List Nat}
variable {cfK : Nat → CM → Option ((Unit ⊕ Nat) × CM)} {cfT : Int32 → TS → Option (Unit × TS)}
theorem Mbs.gap {n b : Nat} {pre t : List Nat} (m : Mbs σ Bm n (pre ++ b :: t)) : b < Bm ∧ tA σ 83 b = nI n ∧ (b < t.headD Bm ∧ t.headD Bm ≤ Bm) ∧ ∀ b', b < b' → b' < t.headD Bm → b' < Bm → ¬ tA σ 83 b' = nI n := by
  obtain ⟨m1, -, m3, m4⟩ := m
  obtain ⟨q1, q2⟩ := m1 b (List.mem_append_right _ List.mem_cons_self)
  obtain ⟨p1, p2, p3⟩ := List.pairwise_append.mp m4
  obtain ⟨p4, p5⟩ := List.pairwise_cons.mp p2
  refine ⟨q1, q2, ?_, fun b' h1 h2 h3 h4 => ?_⟩
  · cases t with
    | nil => exact ⟨q1, Nat.le_refl _⟩
    | cons c t =>
      refine ⟨p4 c List.mem_cons_self, ?_⟩
      have := (m1 c (List.mem_append_right _ (List.mem_cons_of_mem _ List.mem_cons_self))).1
      show c ≤ Bm
      omega
  · rcases List.mem_append.mp (m3 b' h3 h4) with g | g
    · have := p3 b' g b List.mem_cons_self; omega
    · rcases List.mem_cons.mp g with g | g
      · omega
      · cases t with
        | nil => exact absurd g List.not_mem_nil
        | cons c t =>
          have h2 : b' < c := h2
          rcases List.mem_cons.mp g with g | g
          · omega
          · have := (List.pairwise_cons.mp p5).1 b' g; omega
theorem mem_lp {m : Nat} {dp : Nat → Nat} (hB1 : B ≤ 1280) (ih : AlH z7 C B P mss fss V I Bm m dp cfK cfT) {n : Nat} {bs : List Nat} (hn : n < I) (hm : 13 - dp n < m + 1) : ∀ (t pre : List Nat) (c f f' : Nat) D M σ K N E A Wn, bs = pre ++ t → t.length < f → I - c < f' → DpI dp σ I → BS 1 z7 C B P mss fss V I Bm 0 0 D M σ K N E A Wn → Mbs σ Bm n bs → OI σ I n (t.headD Bm) c →
    BO (γ := Unit) (β := Unit) 1 z7 C B P mss fss V I Bm 0 0 Sum.inr D M σ K N E A Wn (KL_X0_all_2 cfK f ((pl D 99).getD n 0) (nI pre.length) M) (L_collect_2 cfT f' (nI n) (nI c) σ) := by
  intro t
  induction t with
  | nil =>
    intro pre c f f' D M σ K N E A Wn hbs hf hf' hdp h m hI
    obtain ⟨f, rfl⟩ : ∃ g, f = g + 1 := ⟨f - 1, by omega⟩
    have l := h.mbl hn m
    obtain ⟨⟨o1, o2, o3⟩, -⟩ := h.inst hn
    have I200 := h.fx.2.1.2.1
    have h82 := h.fx.2.2.1.2.1
    have hlen : (bs.map fun b => (pl D 100).getD b 0).length = pre.length := by rw [List.length_map, hbs, List.append_nil]
    have ll := l.2.2.1
    refine Or.inr ⟨D, M, σ, K, N, E, A, Wn, (), (), ?_, ?_, h, ⟨Nat.le_refl _, Nat.le_refl _, Nat.le_refl _, Nat.le_refl _, Nat.le_refl _⟩, BTr.rf h.cn⟩
    · unfold KL_X0_all_2
      rw [ifT o3, ifT l.1, ls_size l, ob_some, hlen, ifT (show nI pre.length ≤ nI pre.length from (bI_le (by omega) (by omega)).mpr (Nat.le_refl _))]
    · have fin : ∀ c f', I ≤ c → c ≤ 1000000 → 0 < f' → L_collect_2 cfT f' (nI n) (nI c) σ = some ((), σ) := fun c f' h1 h2 h3 => by
        obtain ⟨f', rfl⟩ : ∃ g, f' = g + 1 := ⟨f' - 1, by omega⟩
        unfold L_collect_2
        rw [h82, ifT ((bI_le (by omega) (by omega)).mpr h1)]
      by_cases q : c ≤ I
      · rw [t_colS (cfT := cfT) (n := n) h.h0 h82 I200 (I - c) c f' (by omega) (by omega) (fun q g1 g2 g3 => by
          have kq : Kid σ I n q := ⟨by omega, g3⟩
          obtain ⟨b', e, x, ⟨k1, k2, k3⟩, k4, -⟩ := kid_key h.fx hn kq
          have := (hI.2 q kq).mpr ⟨b', k1, k2, by rw [k3, k4]⟩
          omega)]
        exact fin _ _ (by omega) (by omega) (by omega)
      · exact fin c f' (by omega) (by have := hI.1; omega) (by omega)
  | cons b t iht =>
    intro pre c f f' D M σ K N E A Wn hbs hf hf' hdp h m hI
    obtain ⟨f, rfl⟩ : ∃ g, f = g + 1 := ⟨f - 1, by omega⟩
    have hf : t.length + 1 < f + 1 := hf
    have l := h.mbl hn m
    obtain ⟨⟨o1, o2, o3⟩, -⟩ := h.inst hn
    have I200 := h.fx.2.1.2.1
    have hlen : (bs.map fun b => (pl D 100).getD b 0).length = pre.length + (t.length + 1) := by rw [List.length_map, hbs, List.length_append]; rfl
    have ll := l.2.2.1
    rw [hlen] at ll
    have get := ls_get l (i := pre.length) (by omega)
    have eg : (bs.map fun b => (pl D 100).getD b 0).getD pre.length 0 = (pl D 100).getD b 0 := by
      rw [hbs, List.map_append]
      have : pre.length = (pre.map fun b => (pl D 100).getD b 0).length + 0 := by rw [List.length_map]; rfl
      rw [this, getD_app_r]; rfl
    rw [eg] at get
    obtain ⟨g1, g2, g3, g4⟩ := Mbs.gap (by rw [← hbs]; exact m)
    obtain ⟨⟨k1, k2⟩, e, ⟨e1, e2⟩, e3, e4, e5⟩ := h.mb g1
    have hFU : 100 < FU := by unfold FU; decide
    have hpre : (pre ++ [b]).length = pre.length + 1 := by rw [List.length_append]; rfl
    obtain ⟨recK, hrK⟩ : ∃ g, g = KL_X0_all_2 cfK f := ⟨_, rfl⟩
    have gap : ∀ b', b < b' → b' < t.headD Bm → ¬ tA σ 83 b' = nI n := fun b' a1 a2 => g4 b' a1 a2 (by omega)
    have nxt : ∀ D' M' σ' K' N' E' A' Wn' c' f'', BS 1 z7 C B P mss fss V I Bm 0 0 D' M' σ' K' N' E' A' Wn' → BTr V C P K N D M σ D' M' σ' → OI σ' I n (t.headD Bm) c' → I - c' < f'' → BO (γ := Unit) (β := Unit) 1 z7 C B P mss fss V I Bm 0 0 Sum.inr D' M' σ' K' N' E' A' Wn' (nm (nI pre.length + 1) fun v43 => recK ((pl D 99).getD n 0) v43 M') (L_collect_2 cfT f'' (nI n) (nI c') σ') := fun D' M' σ' K' N' E' A' Wn' c' f'' h' bt oi hf2 => by
      have vk := bt.2.2.2.2.2
      have e99 : (pl D' 99).getD n 0 = (pl D 99).getD n 0 := (bt.2.1.1 99 n (by have := h.fx.1.1.2.1; omega)).2
      have hdp' : DpI dp σ' I := fun n' hn' => ⟨(hdp n' hn').1, fun p hp z => (hdp n' hn').2 p hp (by rw [vk 75 (by decide)] at z; exact z)⟩
      have := iht (pre ++ [b]) c' f f'' D' M' σ' K' N' E' A' Wn' (by rw [hbs, List.append_assoc]; rfl) (by omega) hf2 hdp' h' (m.vk vk) oi
      rw [hpre, e99, ← hrK] at this
      rw [nI_addL, nm_eq]
      exact this
    have hI : OI σ I n b c := hI
    have okc := g3
    unfold KL_X0_all_2
    rw [ifT o3, ifT l.1, ls_size l, ob_some, hlen, ifF (show ¬ nI (pre.length + (t.length + 1)) ≤ nI pre.length from fun z => by have := (bI_le (by omega) (by omega)).mp z; omega), ifT o3, ifT l.1, get, ob_some, ifT (Or.inr k1), ← hrK]
    by_cases h51 : tB σ 51 e = 0
    · have k28 : KL_X0_all_28 cfK FU ((pl D 99).getD n 0) (nI pre.length) ((pl D 100).getD b 0) 0 M = some (.inl (), M) := by
        obtain ⟨G, hG, -⟩ := FUg
        rw [hG]
        unfold KL_X0_all_28
        rw [ifT k1, e3, ifT h51, ifF (show ¬ (1 : Int32) = 0 by decide)]
      rw [k28, obS_inl]
      exact nxt D M σ K N E A Wn c f' h (BTr.rf h.cn) (hI.skip hB1 h.fw h.fx hn ⟨e1, e2⟩ (Or.inl h51) okc gap) hf'
    · by_cases h52 : tA σ 52 e &&& 16 = 0
      · obtain ⟨z, f0, z1, z2, z3, z4, z5⟩ := e5 h51 h52
        have hm9 : many z ≤ 9 := by
          unfold many
          by_cases y : z = 0
          · rw [ifT y]; omega
          · rw [ifF y]; omega
        exact in_lp (z := z) (e := e) (b := b) (kk := fun _ M41 => nm (nI pre.length + 1) fun v43 => recK ((pl D 99).getD n 0) v43 M41) hB1 ih hn hm z3 (many z) 0 c FU f' D M σ K N E A Wn (Nat.zero_add _) (by omega) hf' hdp h ⟨g1, g2⟩ ⟨e1, e2⟩ h51 h52 z2 hI.ii (fun D' M' σ' K' N' E' A' Wn' c' f'' h' le bt ii hf2 => by
          have vk := bt.2.2.2.2.2
          have fg := bt.2.2.2.1.2.2.1
          exact nxt D' M' σ' K' N' E' A' Wn' c' f'' h' bt (ii.oi hB1 h'.fw h'.fx hn ⟨g1, by rw [vk 83 (by decide)]; exact g2⟩ ⟨e, e2, by rw [vk 84 (by decide)]; exact e1, by rw [(fg 53 rfl).2.2.1]; exact z2, z3⟩ okc (fun b' a1 a2 => by rw [vk 83 (by decide)]; exact gap b' a1 a2)) hf2)
      · have k28 : KL_X0_all_28 cfK FU ((pl D 99).getD n 0) (nI pre.length) ((pl D 100).getD b 0) 0 M = some (.inl (), M) := by
          obtain ⟨G, hG, -⟩ := FUg
          rw [hG]
          rw [ifT h52] at e4
          unfold KL_X0_all_28
          rw [ifT k1, e3, ifF h51, ifT (rfl : (0 : Int32) = 0), ifT k1, ifT k2, e4, ob_some, ifF (show ¬ (1 : Int32) = 0 by decide)]
        rw [k28, obS_inl]
        exact nxt D M σ K N E A Wn c f' h (BTr.rf h.cn) (hI.skip hB1 h.fw h.fx hn ⟨e1, e2⟩ (Or.inr h52) okc gap) hf'
end ALL3
