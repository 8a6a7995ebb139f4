/-! Layer B: the flat model: all equations of all instances -/
set_option maxRecDepth 100000
section ALL4
variable {zb zb' : Nat} {C : PC} {D D' D1 D2 : FQ} {M M' M1 M2 M3 M0 : CM} {σ σ' σ1 σ2 σ0 s1 s8 : TS} {mss fss : List Nat} {B V I Bm K N K' N' E A Wn E' A' A0 Wn' v l x0 dc md X N0 Lp Lp' w d s i nf R a f h1 h2 eq L : Nat} {os : List Nat} {P T Y : Nat → Prop} {x2 x3 x3' x4 x y r kd : Int32} {z7 : Nat → Nat} {S : List Nat}
theorem al_all {dp : Nat → Nat} (hB1 : B ≤ 1280) : ∀ (m kf tf : Nat), m ≤ kf → m ≤ tf → AlH z7 C B P mss fss V I Bm m dp (KG_X0_all kf) (G_collect tf) := by
  intro m
  induction m with
  | zero => intro kf tf _ _ n D M σ K N E A Wn hn hm; exact absurd hm (Nat.not_lt_zero _)
  | succ m ih =>
    intro kf tf hkf htf n D M σ K N E A Wn hn hm hdp h
    obtain ⟨kf, rfl⟩ : ∃ g, kf = g + 1 := ⟨kf - 1, by omega⟩
    obtain ⟨tf, rfl⟩ : ∃ g, tf = g + 1 := ⟨tf - 1, by omega⟩
    obtain ⟨bs, m1, l⟩ := h.mbs hn
    have I200 := h.fx.2.1.2.1
    have I1 := h.fx.2.1.2.2.2.1
    have ll := l.2.2.1
    rw [List.length_map] at ll
    have hFU : 1000002 < FU := by unfold FU; decide
    have oi : OI σ I n (bs.headD Bm) 1 := by
      refine ⟨⟨Nat.le_refl _, by decide⟩, fun q hq => ⟨fun g => ?_, fun ⟨b', v1, v2, v3⟩ => ?_⟩⟩
      · obtain ⟨-, -, -, -, -, -, g6, -⟩ := kid_key h.fx hn hq
        omega
      · exfalso
        obtain ⟨b, e, x, ⟨k1, k2, k3⟩, k4, -⟩ := kid_key h.fx hn hq
        have bB : b' < Bm := by
          cases bs with
          | nil => exact v1
          | cons c t =>
            have v1 : b' < c := v1
            have := (m1.1 c List.mem_cons_self).1
            omega
        have hb' := m1.2.2.1 b' bB v2
        cases bs with
        | nil => exact absurd hb' List.not_mem_nil
        | cons c t =>
          have v1 : b' < c := v1
          rcases List.mem_cons.mp hb' with g | g
          · omega
          · have := (List.pairwise_cons.mp m1.2.2.2).1 b' g; omega
    have lp := mem_lp (cfK := KG_X0_all kf) (cfT := G_collect tf) (bs := bs) hB1 (ih kf tf (by omega) (by omega)) hn hm bs [] 1 FU FU D M σ K N E A Wn rfl (by omega) (by omega) hdp h m1 oi
    show BO 1 z7 C B P mss fss V I Bm 0 0 id D M σ K N E A Wn (KB_X0_all (KG_X0_all kf) ((pl D 99).getD n 0) M) (B_collect (G_collect tf) (nI n) σ)
    unfold KB_X0_all B_collect
    refine BO.seq lp (fun _ _ => rfl) (fun M' σ' w y g => ⟨(), σ', by rw [t_isBad1 g.ne, ob_some, ifF (show ¬ (1 : Int32) = 0 by decide)], g⟩) (fun D' M' σ' K' N' E' A' Wn' r y h' le bt => ?_)
    have e99 : (pl D' 99).getD n 0 = (pl D 99).getD n 0 := (bt.2.1.1 99 n (by have := h.fx.1.1.2.1; omega)).2
    obtain ⟨⟨o1, o2, o3⟩, -, -, k, k1, k24, k2, k3, -⟩ := h'.inst hn
    obtain ⟨dp', ex⟩ := h'.fx.2.1.2.2.2.2.2.1
    obtain ⟨-, -, k', g, x1, x2, x3⟩ := ex n hn
    have ek : k' = k := by
      have k2h : k' < 24 := by
        cases g with
        | zero => exact x2.elim
        | succ g => exact x2.1
      rw [k3] at x1
      exact ((bI_eq (by omega) (by omega)).mp x1).symm
    rw [ek] at x2
    have go := z_of hB1 g 40 40 k n D' M' σ' K' N' E' A' Wn' (by omega) (by omega) x2 k1 hn h'
    rw [← e99, ifT o3, t_isBad0 h'.h0, ob_some, ifT (rfl : (0 : Int32) = 0), ifT (inb_nI' (by omega) (by decide)), ix_nI (by omega), k3, k2]
    refine BO.seq (hd := fun w M => some (.inr w, M)) go (fun _ _ => rfl) (fun M3 σ3 w y g => ⟨(), σ3, rfl, g⟩) (fun D3 M3 σ3 K3 N3 E3 A3 Wn3 r y h3 le3 bt3 => ?_)
    exact Or.inr ⟨D3, M3, σ3, K3, N3, E3, A3, Wn3, (), (), rfl, rfl, h3, ⟨Nat.le_refl _, Nat.le_refl _, Nat.le_refl _, Nat.le_refl _, Nat.le_refl _⟩, BTr.rf h3.cn⟩
/-- the equations of all instances -/
theorem z_all (hB1 : B ≤ 1280) (h : BS 1 z7 C B P mss fss V I Bm 0 0 D M σ K N E A Wn) : BO (γ := Unit) (β := Unit) 1 z7 C B P mss fss V I Bm 0 0 id D M σ K N E A Wn (K_X0_all ((pl D 99).getD 0 0) M) (F_collect 0 σ) := by
  have I1 := h.fx.2.1.2.2.2.1
  obtain ⟨dp, ex⟩ := h.fx.2.1.2.2.2.2.2.1
  exact al_all (dp := dp) hB1 14 40 40 (by decide) (by decide) 0 D M σ K N E A Wn (by omega) (by have := (ex 0 (by omega)).1; omega) (fun n hn => ⟨(ex n hn).1, fun p hp z => (ex n hn).2.1 p hp z⟩) h
end ALL4
