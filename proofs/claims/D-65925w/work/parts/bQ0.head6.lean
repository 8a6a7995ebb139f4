/-! Layer B: the flat model: its head, both sides, to the start of its building -/
set_option maxRecDepth 100000
section HEAD6
variable {C : PC} {D D' D1 D2 : FQ} {M M' M1 M2 M3 : CM} {σ σ' s σ1 σ2 σ3 σ5 : TS} {mss fss os : List Nat} {B V I Bm k g o w tf R E : Nat} {P : Nat → Prop} {x1 : Int32} {T : Nat → Prop} {S : List Nat} {z7 : Nat → Nat}
theorem z_head1 (hB1 : B ≤ 1280) (W : FW C B P mss fss D M σ) (hk : k < mss.length) (h0 : tI σ 0 = 0) (h171 : tI σ 171 = 0) (h43 : mI M 43 1 = tI σ 156) :
    (∃ M' σ' w, K_X0_flatten (mss.getD k 0) M = some (.inr w, M') ∧ F_makeFlat (nI k) σ = some ((), σ') ∧ FfB C B P mss fss M M' σ σ' w) ∨
    ∃ D' M' σ' V I Bm z7, K_X0_flatten (mss.getD k 0) M = kF2 M' ∧ F_makeFlat (nI k) σ = ob (L_makeFlat_280 FU 0 σ') (fun _ s101 => J_makeFlat_344 s101) ∧ BS 0 z7 C B P mss fss V I Bm 0 1 D' M' σ' 0 1 0 0 0 ∧ tA σ' 74 0 = nI k ∧ (tI σ' 140 = nI 0 ∧ tI σ' 154 = nI 0) ∧ SgX M M' σ σ' ∧ Wz C C P M M' σ σ' := by
  obtain ⟨D1, M1, a1, a2, F1, C1, H1, S1, v1⟩ := z_head0 W hk h0 h171 h43
  obtain ⟨σ1, hσ1⟩ : ∃ q, q = tF0 (nI k) σ := ⟨_, rfl⟩
  rw [← hσ1] at a2 F1 C1 H1 S1 v1
  have n1 := F1.1.n167
  obtain ⟨gf, hgf⟩ := fu1
  have t171 := H1.2.2.2.2.2.1 171 (by decide)
  have t143 := H1.2.2.2.2.2.1 143 (by decide)
  have t126 := H1.2.2.2.2.2.2.1.1
  rcases z_root hB1 D1 M1 σ1 0 1 0 0 0 0 0 0 0 0 [] [] k F1 C1 hk with ⟨D2, M2, σ2, w, b1, b2, b3⟩ | ⟨D2, M2, σ2, V, I, Bm, b1, b2, b3⟩
  · left
    have b1' : K_X0_elements ((pl D1 99).getD 0 0) (mss.getD k 0) 0 0 1 M1 = some (.inr w, M2) := b1
    have b2' : F_fill 0 (nI k) 1 σ1 = some ((), σ2) := b2
    have g := b3.fb n1 t126 t143 t171
    obtain ⟨s', c1, c2⟩ := t_202b (g.pre S1) (t_fillV b2' F1.2.2.1.1.2.1 (Nat.zero_le _))
    refine ⟨M2, s', w, ?_, ?_, c2⟩
    · rw [a1, kF1, b1', obS_inr]
    · rw [a2, tF1, b2', ob_some, hgf, t_158b g.ne, ob_some, c1]
  · have b1' : K_X0_elements ((pl D1 99).getD 0 0) (mss.getD k 0) 0 0 1 M1 = some (.inl (), M2) := b1
    have b2' : F_fill 0 (nI k) 1 σ1 = some ((), σ2) := b2
    obtain ⟨F2, ⟨y1, y2, y3⟩, s2, hp2, mb2, ⟨nw, vo, nc, cn⟩, -, ex⟩ := b3
    have f2 := s2.2.2.2.2.2.1
    have n2 := F2.1.n167
    obtain ⟨⟨l1, l2, l3, -⟩, -, -, l100, -⟩ := F2.lens
    have H2 : HdF k M2 σ2 := H1.mv n1 s2.2.2.2.1 (fun t z => by unfold TsF tg at z; omega) s2.2.2.2.2.1 f2 (s2.2.2.2.2.2.2.1 74 (by decide) 0 (by decide))
    have S2 : SgX M1 M2 σ1 σ2 := SgX.mk1 (fun o h1 h2 => Fz.so s2.2.2.2.1 (by omega) (fun z => by
      rw [tgo_s (by omega)] at z
      unfold TsF tg at z
      omega)) (fun f hf => (s2.2.2.2.2.1.mono (S' := fgO) (by decide)).1 f hf) (f2.mono (by decide))
    obtain ⟨os, L1, L2, L3, L4⟩ := F2.2.2.2.2.2.2
    have h02 : tI σ2 0 = 0 := F2.2.2.2.2.2.1.2
    have h480 : ix (tI σ2 58) ≤ 480 := by
      obtain ⟨E0, e1, e2⟩ := F2.1.1.2.2.2.2.2.2.1
      have h24 := F2.1.1.2.2.2.2.1.1.1
      rw [e1, ix_nI (by omega)]
      omega
    have hc : ∀ x, 0 ≤ x → x < Bm → outT σ2 x → x ∈ os := fun x _ hx ho => by
      obtain ⟨e, ⟨e1, e2⟩, q⟩ := (mb2 x (Nat.zero_le _) hx).1
      obtain ⟨e', ⟨p1, p2⟩, p3⟩ := ho
      rcases q with ⟨-, -, -, -, q⟩ | ⟨q, -⟩
      · rw [L2, List.mem_map] at q
        obtain ⟨b, hb, he⟩ := q
        have := (F2.1.2.1.inj (l := 100) (l' := 100) (by decide) (by decide) (by have := (L4 b hb).1; omega) (by omega) he).2
        rw [← this]; exact hb
      · rw [e1] at p1
        rw [(bI_eq (by omega) (by omega)).mp p1] at q
        exact absurd q p3
    have hFU : Bm < FU := by
      have : 20000 < FU := by unfold FU; decide
      omega
    rcases outs_loop hB1 l2 l3 l1 h02 F2.2.2.1.2.2.2 L2 Bm 0 FU FU M2 (fun _ => 0) [] os (Nat.zero_add _) hFU hFU F2.1 F2.2.1 rfl L3 (fun x hx => ⟨Nat.zero_le _, L4 x hx⟩) hc with ⟨M3, σ3, w, c1, c2, c3⟩ | ⟨M3, z7, c1, c2, W3, N3, v3, q3, o3, i3, r3, -, z3⟩
    · left
      have g := c3.fb n2 H2.2.2.2.2.2.2.1.1 (H2.2.2.2.2.2.1 143 (by decide)) (H2.2.2.2.2.2.1 171 (by decide))
      have c2' : L_makeFlat_158 FU 0 σ2 = some ((), σ3) := c2
      have c1' : KL_X0_findOuters_2 FU 0 M2 = some (.inr (.inr w), M3) := c1
      obtain ⟨s', e1, e2⟩ := t_202b (g.pre (S1.tr S2)) ⟨V, l1, by rw [(fS_L_makeFlat_158 _ _ _ _ _ c2' 107 rfl).1]; exact F2.2.2.1.1.2.1⟩
      refine ⟨M3, s', w, ?_, ?_, e2⟩
      · rw [a1, kF1, b1', obS_inl, K_X0_findOuters, c1', obS_inr, obS_inr]
      · rw [a2, tF1, b2', ob_some, c2', ob_some, e1]
    · right
      have c2' : L_makeFlat_158 FU 0 σ2 = some ((), σ2) := c2
      have c1' : KL_X0_findOuters_2 FU 0 M2 = some (.inl (), M3) := c1
      have h74 : tA σ2 74 0 = nI k := H2.2.2.2.2.2.2.2.2
      have H3 : HdF k M3 σ2 := H2.mv n2 q3 (fun t z => by unfold T100 tg at z; omega) (o3.mono (by decide)) (Ft.rf _ _) rfl
      have S3 : SgX M2 M3 σ2 σ2 := SgX.mk1 (fun o h1 h2 => Fz.so q3 (by omega) (fun z => by
        rw [tgo_s (by omega)] at z
        unfold T100 tg at z
        omega)) (fun f hf => o3.1 f rfl) (Ft.rf _ _)
      obtain ⟨zx, FX⟩ := z_flx W3 F2 N3 v3 i3 r3 y2 (exs_all h74 ex (by decide) nw l2) vo (nc.all h74 (by decide) cn) (fun b hb => (mb2 b (Nat.zero_le _) hb).1) (fun x hx => z3 x (Nat.zero_le _) hx)
      obtain ⟨σ5, e1, e2, e3, e4⟩ := z_bs0 W3 FX (fun v hv => by
        obtain ⟨u1, u2, u3, u4, u5⟩ := (F2.2.1.2.2.2 v hv).2.2.2.2.2.2.2 rfl
        exact ⟨(r3 _ _ (by decide)).trans u1, (r3 _ _ (by decide)).trans u2, (i3 _ _).trans u3, (i3 _ _).trans u4, (i3 _ _).trans u5⟩) H3 h02
      refine ⟨D2, M3, σ5, V, I, Bm, zx, ?_, ?_, e3, by rw [(e2 74 rfl).2.2.1]; exact h74, ⟨(e2 140 rfl).1.trans (H3.2.2.2.2.2.1 140 (by decide)), (e2 154 rfl).1.trans (H3.2.2.2.2.2.1 154 (by decide))⟩, ((S1.tr S2).tr S3).tr (SgX.tw e2 (by decide)), ((v1.tr s2.1 (fun _ z => z)).tr v3 (fun _ z => z)).tr e4 (fun _ z => z)⟩
      · rw [a1, kF1, b1', obS_inl, K_X0_findOuters, c1', obS_inl, obS_inl]
      · rw [a2, tF1, b2', ob_some, c2', ob_some, e1]
end HEAD6
