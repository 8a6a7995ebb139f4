/-! Layer B: the flat model: relations are numbered, lists on both sides -/
set_option maxRecDepth 100000
/-- numbers given so far: q; nodes that have one: S -/
def NQ (D : FQ) (K : Nat) (M : CM) (σ : TS) (q : Nat) (S : Nat → Prop) : Prop := (mI M 41 1 = nI q ∧ tI σ 154 = nI q ∧ q ≤ 24) ∧ (∀ j, j < q → ∃ k, S k ∧ mX M 114 j = (pl D 106).getD k 0 ∧ tA σ 153 j = nI (k + 1) ∧ mI M 3403 ((pl D 106).getD k 0) = nI j ∧ tA σ 162 (k + 1) = nI j) ∧ ∀ k, S k → k < K ∧ ∃ j, j < q ∧ mI M 3403 ((pl D 106).getD k 0) = nI j ∧ tA σ 162 (k + 1) = nI j ∧ tA σ 153 j = nI (k + 1)
/-- a step of numbering -/
def BTn (V : Nat) (C : PC) (P : Nat → Prop) (K N : Nat) (D : FQ) (M : CM) (σ : TS) (D' : FQ) (M' : CM) (σ' : TS) : Prop := Wz C C P M M' σ σ' ∧ Dx D D' M ∧ NdKn D M σ D' M' σ' 106 K N ∧ SgX M M' σ σ' ∧ VK V D M σ M' σ'
section NUMBER5
variable {zb : Nat} {fx : Int32} {C : PC} {D : FQ} {M M' M1 M2 : CM} {σ σ' σ1 σ2 σ0 s s' s1 s2 s3 : TS} {mss fss : List Nat} {B V I Bm Lp K N E A Wn v l k h h1 h2 n p q c1 c2 c3 tf a : Nat} {L L1 L2 L3 : List Nat} {x x2 x3 y r : Int32} {S S' : Nat → Prop} {P : Nat → Prop} {z7 : Nat → Nat}
theorem BTr.wk {D' : FQ} (h : BTr V C P K N D M σ D' M' σ') : BTn V C P K N D M σ D' M' σ' := ⟨h.1, h.2.1, h.2.2.1.wk, h.2.2.2⟩
theorem BTn.tr {D1 D2 : FQ} {K' N' : Nat} (h : BTn V C P K N D M σ D1 M1 σ1) (g : BTn V C P K' N' D1 M1 σ1 D2 M2 σ2) (hK : K ≤ K') (hN : N ≤ N') : BTn V C P K N D M σ D2 M2 σ2 := ⟨h.1.tr g.1 (fun _ z => z), h.2.1.tr g.2.1 h.1.1.1, h.2.2.1.tr g.2.2.1 hK hN, h.2.2.2.1.tr g.2.2.2.1, fun v hv hl f hf => by
  have e := h.2.1.1 98 v hl
  have := g.2.2.2.2.1 v hv e.1 f hf
  rw [e.2] at this
  exact this.trans (h.2.2.2.2.1 v hv hl f hf), fun k hk v => (g.2.2.2.2.2 k hk v).trans (h.2.2.2.2.2 k hk v)⟩
theorem BS.nas (h : BS zb z7 C B P mss fss V I Bm Lp x3 D M σ K N E A Wn) (hk : k < K) (hro : mI M 3400 ((pl D 106).getD k 0) ∈ rlO) (f : Ft [139, 153, 154, 162] σ σ') (hs : ∃ q, (mI (kAs D k M) 41 1 = nI q ∧ tI σ' 154 = nI q ∧ q ≤ 24) ∧ ∀ j, j < q → ∃ k', k' < K ∧ mX (kAs D k M) 114 j = (pl D 106).getD k' 0 ∧ tA σ' 153 j = nI (k' + 1)) : BS zb z7 C B P mss fss V I Bm Lp x3 D (kAs D k M) σ' K N E A Wn ∧ BTn V C P K N D M σ D (kAs D k M) σ' := by
  have W := h.fw
  have hV := h.hV
  have hl := h.hl
  obtain ⟨q1, q2, q3⟩ := W.2.1.2.1 106 (by decide) k (by omega)
  have hl6 := (W.2.1.1 106 (by decide)).2.2
  have e6 : flX 106 = 12000 := rfl
  obtain ⟨M', hM⟩ : ∃ q, q = kAs D k M := ⟨_, rfl⟩
  rw [← hM]
  have ii : ∀ g o, ¬ (g = 41 ∧ o = 1) → ¬ (g = 3403 ∧ o = (pl D 106).getD k 0) → mI M' g o = mI M g o := fun g o z1 z2 => by
    rw [hM]; unfold kAs
    rw [mI_msI, ifF z1]
    show mI (msI M 3403 ((pl D 106).getD k 0) (mI M 41 1)) g o = _
    rw [mI_msI, ifF z2]
  have rr : ∀ g o, mR M' g o = mR M g o := fun g o => by rw [hM]; rfl
  have aa : ∀ o j, mA M' o j = mA M o j := fun o j => by rw [hM]; rfl
  have F : Fz (fun o => o = 1 ∨ o = 114 ∨ o = (pl D 106).getD k 0) M M' := by
    rw [hM]
    exact (((Fz.rf (X := fun o => o = 1 ∨ o = 114 ∨ o = (pl D 106).getD k 0)).msI (fun _ => Or.inr (Or.inr rfl))).mwX (fun _ => Or.inr (Or.inl rfl))).msI (fun _ => Or.inl rfl)
  have t6 : tg 106 k < tg 107 0 ∧ tg 106 0 ≤ tg 106 k := by unfold tg; omega
  obtain ⟨W', v, -⟩ := W.w2 F (fun o _ z => by
    rcases z with z | z | z
    · exact Or.inl (Or.inl (by omega))
    · exact Or.inl (Or.inr ⟨by omega, by omega, by rw [z]; decide⟩)
    · right
      rw [z, q3]
      exact ⟨q2.1, by unfold tg; omega, fun j => by unfold tg; omega⟩) (by rw [hM]; exact ⟨rfl, rfl⟩) (fun o => ⟨rr _ _, rr _ _, by rw [hM]; rfl⟩) (fun o => rr _ _) (ii _ _ (by decide) (fun z => absurd z.1 (by decide))) (fun q _ => rr _ _) (fun q hq => by
      have : ∀ q, q ∈ bfI → q.1 ≠ 41 ∧ q.1 ≠ 3403 := by decide +kernel
      exact ii _ _ (fun z => (this q hq).1 z.1) (fun z => (this q hq).2 z.1)) f (by decide)
  have fq : Fq D (fun t => t = 1 ∨ t = 114 ∨ t = tg 106 k) M M' := F.mono (fun o ho z => by
    rcases z with z | z | z
    · rw [z, tgo_s (by decide)]; exact Or.inl rfl
    · rw [z, tgo_s (by decide)]; exact Or.inr (Or.inl rfl)
    · rw [z, W.2.1.tv (by decide) (by omega)]; exact Or.inr (Or.inr rfl))
  have FX' := h.fx.kp W fq (fun t z => by unfold TV; unfold tg at *; omega) (fun j hj => by
    have s := W.2.1.so3 (k := j) (l := 98) (by decide) (by omega) fq (fun z => by unfold tg at z; omega)
    exact ⟨fun f _ => s.i f, fun f _ => s.r f⟩) v (Dx.rf D M) f (by decide) ⟨ii _ _ (by decide) (fun z => absurd z.1 (by decide)), ii _ _ (by decide) (fun z => absurd z.1 (by decide))⟩
  have nk : NdKn D M σ D M' σ' 106 K N := ⟨fun j hj => ⟨rfl, fun g hg => ii _ _ (fun z => by rw [z.1] at hg; exact absurd hg (by decide)) (fun z => by rw [z.1] at hg; exact absurd hg (by decide)), fun g _ => rr _ _, fun q => ii _ _ (fun z => absurd z.1 (by decide)) (fun z => q (by rw [z.2]; exact hro))⟩, fun g hg n _ => (f g (by
    simp only [List.mem_cons, List.not_mem_nil, or_false] at hg
    rcases hg with rfl | rfl | rfl | rfl | rfl <;> rfl)).2.2.1 n, fun v => (f 94 rfl).2.2.1 v⟩
  have sg : SgX M M' σ σ' := SgX.mk1 (fun o h1 h2 => Fz.so fq (by have := W.n167; omega) (fun z => by
    rw [tgo_s (by omega)] at z
    unfold tg at z; omega)) (fun g hg => ii _ _ (fun z => by rw [z.1] at hg; exact absurd hg (by decide)) (fun z => by have := q2.1; omega)) (f.mono (by decide))
  have i1 : ∀ g, g ≠ 41 → mI M' g 1 = mI M g 1 := fun g hg => ii _ _ (fun z => hg z.1) (fun z => by have := q2.1; omega)
  have hc : Ct32 D K M' σ' := by
    obtain ⟨⟨c, c1, c2, c3⟩, c4, -⟩ := h.2.2.2.2.2.1.2.2
    exact ⟨⟨c, (i1 32 (by decide)).trans c1, ((f 133 rfl).1).trans c2, c3⟩, (i1 43 (by decide)).trans (c4.trans (f 156 rfl).1.symm), by rw [hM]; exact hs⟩
  have Fs' := h.1.mv0 W' FX' v fq (fun t z => by unfold tg at z; omega) (i1 24 (by decide)) (rr _ _) rfl rfl f (by decide)
  refine ⟨⟨Fs', h.2.mvcn hc W hV nk (Nat.le_refl _) (Nat.le_refl _) fq (fun t z z2 => by unfold BT0 at z2; unfold tg at z z2; omega) (Dx.rf D M) (fun g hg => i1 g (fun z => by rw [z] at hg; exact absurd hg (by decide))) f (by decide)⟩, v, Dx.rf D M, nk, sg, fun v hv _ g hg => rr _ _, fun g hg v => (f g (by
    have : ∀ k, k ∈ vkL → ([139, 153, 154, 162] : List Nat).contains k = false := by decide
    exact this g hg)).2.2.1 v⟩
theorem mX_kAs (j : Nat) : mX (kAs D k M) 114 j = if j = ix (mI M 41 1) then (pl D 106).getD k 0 else mX M 114 j := by
  show (if (114 : Nat) = 114 ∧ j = ix (mI M 41 1) then (pl D 106).getD k 0 else mX M 114 j) = _
  by_cases q : j = ix (mI M 41 1)
  · rw [ifT ⟨rfl, q⟩, ifT q]
  · rw [ifF (fun z => q z.2), ifF q]
theorem NQ.as (g : NQ D K M σ q S) (W : FW C B P mss fss D M σ0) (hl : K ≤ (pl D 106).length) (hk : k < K) (hq : q < 24) (hnk : ¬ S k) : NQ D K (kAs D k M) (tAs k σ) (q + 1) (fun j => S j ∨ j = k) := by
  obtain ⟨⟨g1, g2, g3⟩, g4, g5⟩ := g
  have xq : ix (nI q) = q := ix_nI (by omega)
  have o1 : (pl D 106).getD k 0 ≠ 1 := by have := (W.2.1.2.1 106 (by decide) k (by omega)).2.1; omega
  have e3 : ∀ j, j < K → mI (kAs D k M) 3403 ((pl D 106).getD j 0) = if j = k then nI q else mI M 3403 ((pl D 106).getD j 0) := fun j hj => by
    unfold kAs
    rw [mI_msI, ifF (fun z => absurd z.1 (by decide))]
    show mI (msI M 3403 ((pl D 106).getD k 0) (mI M 41 1)) 3403 _ = _
    rw [mI_msI, g1]
    by_cases z : j = k
    · rw [ifT ⟨rfl, by rw [z]⟩, ifT z]
    · rw [ifF (fun y => z (W.2.1.inj (by decide) (by decide) (by omega) (by omega) y.2).2), ifF z]
  have e4 : ∀ j, tA (tAs k σ) 162 j = if j = k + 1 then nI q else tA σ 162 j := fun j => by
    show tA (tsA (tsA σ 162 (k + 1) (tI σ 154)) 153 (ix (tI σ 154)) (nI (k + 1))) 162 j = _
    rw [tA_tsA, ifF (by omega), tA_tsA, g2]
    by_cases z : j = k + 1
    · rw [ifT ⟨rfl, z⟩, ifT z]
    · rw [ifF (fun y => z y.2), ifF z]
  have e5 : ∀ j, tA (tAs k σ) 153 j = if j = q then nI (k + 1) else tA σ 153 j := fun j => by
    show tA (tsA (tsA σ 162 (k + 1) (tI σ 154)) 153 (ix (tI σ 154)) (nI (k + 1))) 153 j = _
    rw [tA_tsA, g2, xq]
    by_cases z : j = q
    · rw [ifT ⟨rfl, z⟩, ifT z]
    · rw [ifF (fun y => z y.2), ifF z, tA_tsA, ifF (by omega)]
  refine ⟨⟨?_, as_154 g2, by omega⟩, fun j hj => ?_, fun j hj => ?_⟩
  · unfold kAs
    rw [mI_msI, ifT ⟨rfl, rfl⟩, g1]; exact nI_addL q 1
  · rw [mX_kAs, g1, xq, e5]
    by_cases z : j = q
    · exact ⟨k, Or.inr rfl, by rw [ifT z], by rw [ifT z], by rw [e3 k hk, ifT rfl, z], by rw [e4, ifT rfl, z]⟩
    · rw [ifF z, ifF z]
      obtain ⟨k', u1, u2, u3, u4, u5⟩ := g4 j (by omega)
      have ne : ¬ k' = k := fun y => hnk (y ▸ u1)
      exact ⟨k', Or.inl u1, u2, u3, by rw [e3 k' (g5 k' u1).1, ifF ne]; exact u4, by rw [e4, ifF (by omega)]; exact u5⟩
  · by_cases z : j = k
    · exact ⟨by omega, q, by omega, by rw [e3 j (by omega), ifT z], by rw [e4, ifT (by omega)], by rw [e5, ifT rfl, z]⟩
    · rcases hj with hj | hj
      · obtain ⟨u1, c, u2, u3, u4, u5⟩ := g5 j hj
        exact ⟨u1, c, by omega, by rw [e3 j u1, ifF z]; exact u3, by rw [e4, ifF (by omega)]; exact u4, by rw [e5, ifF (by omega)]; exact u5⟩
      · exact absurd hj z
theorem NQ.fr (g : NQ D K M σ q S) (f : Ft [139] σ σ') : NQ D K M σ' q S := ⟨⟨g.1.1, by rw [(f 154 rfl).1]; exact g.1.2.1, g.1.2.2⟩, fun j hj => by
  obtain ⟨k, a, b, c, d, e⟩ := g.2.1 j hj
  exact ⟨k, a, b, ((f 153 rfl).2.2.1 j).trans c, d, ((f 162 rfl).2.2.1 _).trans e⟩, fun k hk => by
  obtain ⟨a, j, b, c, d, e⟩ := g.2.2 k hk
  exact ⟨a, j, b, c, ((f 162 rfl).2.2.1 _).trans d, ((f 153 rfl).2.2.1 j).trans e⟩⟩
theorem tNum_bad (h0 : tI s 0 ≠ 0) (h4 : tI s 154 = 24) : ∀ L, tNum L s = s
  | [] => rfl
  | k :: L => by
    unfold tNum
    rw [ifT h4]
    have : bdT s = s := by unfold bdT; rw [ifF h0]
    rw [this]; exact tNum_bad h0 h4 L
/-- a list of relations gets its numbers -/
theorem z_knum : ∀ (L : List Nat) (M : CM) (σ : TS) (q : Nat) (S : Nat → Prop), (∀ k, k ∈ L → (k < K ∧ mI M 3400 ((pl D 106).getD k 0) ∈ rlO) ∧ ¬ S k) → L.Pairwise (· ≠ ·) → BS zb z7 C B P mss fss V I Bm Lp x3 D M σ K N E A Wn → NQ D K M σ q S →
    (∃ M' w, kNum D L M = some (.inr w, M') ∧ FfB C B P mss fss M M' σ (tNum L σ) w ∧ tI (tNum L σ) 154 = 24) ∨
    ∃ M' q', kNum D L M = some (.inl (), M') ∧ BS zb z7 C B P mss fss V I Bm Lp x3 D M' (tNum L σ) K N E A Wn ∧ BTn V C P K N D M σ D M' (tNum L σ) ∧ NQ D K M' (tNum L σ) q' (fun j => S j ∨ j ∈ L)
  | [], M, σ, q, S, _, _, h, g => Or.inr ⟨M, q, rfl, h, (BTr.rf h.cn).wk, g.1, fun j hj => by
    obtain ⟨k', u1, u2⟩ := g.2.1 j hj
    exact ⟨k', Or.inl u1, u2⟩, fun k hk => by
    rcases hk with hk | hk
    · exact g.2.2 k hk
    · exact absurd hk List.not_mem_nil⟩
  | k :: L, M, σ, q, S, hL, pw, h, g => by
    obtain ⟨⟨hk, hro⟩, hnk⟩ := hL k List.mem_cons_self
    obtain ⟨pw1, pw2⟩ := List.pairwise_cons.mp pw
    unfold kNum tNum
    by_cases z : q = 24
    · have e1 : mI M 41 1 = 24 := by rw [g.1.1, z]; rfl
      have e2 : tI σ 154 = 24 := by rw [g.1.2.1, z]; rfl
      obtain ⟨b1, b2, b3⟩ := h.bad (x4 := 24) (by decide)
      have eb : bdT σ = badT σ 24 := by unfold bdT; rw [ifT h.h0]
      have e4 : tI (badT σ 24) 154 = 24 := by rw [(badT_f 154 rfl).1]; exact e2
      rw [ifT e1, b1, ob_some, ifT b3.1.2.1.1, ifT e2, eb, tNum_bad (badT_ne (by decide)) e4]
      exact Or.inl ⟨_, _, rfl, b3, e4⟩
    · have hq : q < 24 := by have := g.1.2.2; omega
      have e1 : ¬ mI M 41 1 = 24 := by rw [g.1.1]; exact fun y => z ((bI_eq (b := 24) (by omega) (by decide)).mp y)
      have e2 : ¬ tI σ 154 = 24 := by rw [g.1.2.1]; exact fun y => z ((bI_eq (b := 24) (by omega) (by decide)).mp y)
      rw [ifF e1, ifF e2, ifT (by rw [g.1.1]; exact inb_nI' hq (by decide))]
      have g' := g.as h.fw h.hl.1 hk hq hnk
      have m0 : NuM M (kAs D k M) := NuM.as ⟨fun _ => rfl, fun _ => rfl, fun _ _ => rfl⟩
      obtain ⟨h', bt⟩ := h.nas hk hro (as_f (k := k) |>.mono (by decide) : Ft [139, 153, 154, 162] σ (tAs k σ)) ⟨_, g'.1, fun j hj => by
        obtain ⟨k', u1, u2, u3, -⟩ := g'.2.1 j hj
        exact ⟨k', (g'.2.2 k' u1).1, u2, u3⟩⟩
      rcases z_knum L _ _ _ _ (fun j hj => ⟨⟨(hL j (List.mem_cons_of_mem _ hj)).1.1, by rw [m0.2.1]; exact (hL j (List.mem_cons_of_mem _ hj)).1.2⟩, fun y => y.elim (hL j (List.mem_cons_of_mem _ hj)).2 (fun y => pw1 j hj y.symm)⟩) pw2 h' g' with ⟨M', w, a1, a2, a3⟩ | ⟨M', q', a1, a2, a3, a4⟩
      · exact Or.inl ⟨M', w, a1, a2.pre bt.2.2.2.1, a3⟩
      · refine Or.inr ⟨M', q', a1, a2, bt.tr a3 (Nat.le_refl _) (Nat.le_refl _), a4.1, fun j hj => ?_, fun j hj => a4.2.2 j ?_⟩
        · obtain ⟨k', u1, u2⟩ := a4.2.1 j hj
          refine ⟨k', ?_, u2⟩
          rcases u1 with (u1 | u1) | u1
          · exact Or.inl u1
          · exact Or.inr (by rw [u1]; exact List.mem_cons_self)
          · exact Or.inr (List.mem_cons_of_mem _ u1)
        rcases hj with hj | hj
        · exact Or.inl (Or.inl hj)
        · rcases List.mem_cons.mp hj with hj | hj
          · exact Or.inl (Or.inr hj)
          · exact Or.inr hj
end NUMBER5
