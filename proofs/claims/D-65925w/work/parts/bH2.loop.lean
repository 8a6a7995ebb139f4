/-! Layer B: the flat model: all elements of a class, both sides -/
set_option maxRecDepth 100000
/-- what elements leave, in instance i -/
def ElL (C : PC) (B : Nat) (P : Nat → Prop) (mss fss : List Nat) (V I Bm cr R E i fr : Nat) (W : List (Nat × Nat × Nat)) (k d e r : Nat) (D D' : FQ) (M M' : CM) (σ σ' : TS) (V' I' Bm' : Nat) : Prop := FiS C B P mss fss D' M' σ' V' I' Bm' cr R E ∧ (V ≤ V' ∧ I ≤ I' ∧ Bm ≤ Bm') ∧ SqM C P V I Bm R E i D D' M M' σ σ' ∧ HitP D D' M M' σ' Bm Bm' i fr R W ∧ (∀ b, Bm ≤ b → b < Bm' → MbC D' mss M' σ' V' I' b ∧ ∃ n, tA σ' 83 b = nI n ∧ n < I' ∧ (n = i ∨ I ≤ n)) ∧ (NwI σ' I I' i d ∧ VoS σ' V V' Bm Bm' ∧ NwC σ' V V' I I' ∧ CnL σ' i V V' (12 - d) e r) ∧ HasL σ' Bm Bm' i k d e r
section LOOP2
variable {C C' : PC} {D D' D1 D2 : FQ} {M M' M1 M2 : CM} {σ σ' σ0 σ1 σ2 σ4 s : TS} {mss fss xs bs qs os es : List Nat} {B l k n o m u w Q I I' I1 I2 L V V' V1 V2 Bm Bm' Bm1 Bm2 b c v r R R' R2 E E' E0 cr i i' k0 k2 fr e eo fl z env kk tf cb d len to dk dp : Nat} {P P' X T : Nat → Prop} {S S' O : List Nat} {a : Nat × Nat × Nat} {A W Wn W1 W2 : List (Nat × Nat × Nat)} {ks : List (Nat × Nat)} {x : Int64} {cf cf1 cf2 : Nat → Nat → Int32 → Int32 → Int32 → CM → Option ((Unit ⊕ Nat) × CM)} {cf' cm cf1' cf2' : Int32 → Int32 → Int32 → TS → Option (Unit × TS)}
theorem HitP.rf : HitP D D M M σ b b i fr R W := ⟨fun _ _ _ => rfl, fun c hc => ⟨fun z => by
  obtain ⟨x, ⟨m, _, ⟨q1, q2⟩, _⟩, _⟩ := z
  omega, fun _ => rfl⟩⟩
theorem t_exHead {g : Nat} (hk : k < 24) (hk2 : k2 < 24) (he : e < 480) (h : tA σ 45 k = nI E0 ∧ tA σ 46 k = nI len) (hE : e < E0 + len ∧ E0 + len < 2000) (h0 : tI σ 0 = 0) (h57 : ¬ tA σ 57 e = 0) (hc : F_classOf (tB σ 51 e) σ = some (nI k2, σ)) (h44 : tA σ 44 k2 = tA σ 44 k) (h114 : tI σ 114 = nI c) (hc2 : c < 200) : L_fill_56 cf' cm (g + 1) (nI i) (nI k) (nI d) (nI e) σ = ob (cf' (nI i) (nI k2) (nI (d + 1)) (exA σ e)) fun _ s => ob (L_fill_196 cf' cm FU (nI i) (nI k) (nI d) (nI e) (nI k2) (tA (exB s) 55 e) (exB s)) fun _ s => L_fill_56 cf' cm g (nI i) (nI k) (nI d) (nI (e + 1)) s := by
  have ik : inb (nI k) 24 := inb_nI' hk (by decide)
  have ik2 : inb (nI k2) 24 := inb_nI' hk2 (by decide)
  have ie : inb (nI e) 481 := inb_nI' (by omega) (by decide)
  have xe : ix (nI e) = e := ix_nI (by omega)
  have i114 : inb (tI σ 114) 200 := by rw [h114]; exact inb_nI' hc2 (by decide)
  rw [L_fill_56, ifT ik, ifT ik, ix_nI (show k < 2147483648 by omega), h.1, h.2, bI_add, ifF (fun z => by have := (bI_le (by omega) (by omega)).mp z; omega), t_isBad0 h0, ob_some, ifT (rfl : (0 : Int32) = 0), ifT ie, xe, ifF h57, ifT ie, hc, ob_some, ifT (show (0 : Int32) ≤ nI k2 from by rw [show (0 : Int32) = nI 0 from rfl, bI_le (by decide) (by omega)]; omega), ifT ik2, ifT ik, ix_nI (by omega), ifT h44, ifT ie, ifT i114]
  simp only [nm_eq, nI_addL]
  refine congrArg (ob (cf' (nI i) (nI k2) (nI (d + 1)) (exA σ e))) (funext fun _ => funext fun s => ?_)
  rw [ifT ie]
  rfl
theorem t_elHead {g : Nat} (hk : k < 24) (he : e < 480) (h : tA σ 45 k = nI E0 ∧ tA σ 46 k = nI len) (hE : e < E0 + len ∧ E0 + len < 2000) (h0 : tI σ 0 = 0) (h57 : tA σ 57 e = 0) : L_fill_56 cf' cm (g + 1) (nI i) (nI k) (nI d) (nI e) σ = ob (cm (nI i) (nI e) (nI d) σ) fun _ s => L_fill_56 cf' cm g (nI i) (nI k) (nI d) (nI (e + 1)) s := by
  have ik : inb (nI k) 24 := inb_nI' hk (by decide)
  have ie : inb (nI e) 481 := inb_nI' (by omega) (by decide)
  have xe : ix (nI e) = e := ix_nI (by omega)
  rw [L_fill_56, ifT ik, ifT ik, ix_nI (show k < 2147483648 by omega), h.1, h.2, bI_add, ifF (fun z => by have := (bI_le (by omega) (by omega)).mp z; omega), t_isBad0 h0, ob_some, ifT (rfl : (0 : Int32) = 0), ifT ie, xe, ifT h57]
  simp only [nm_eq, nI_addL]
theorem t_fiStop {g : Nat} {x1 x3 x4 : Int32} (hk : k < 24) (h : tI s 0 ≠ 0) : L_fill_56 cf' cm (g + 1) x1 (nI k) x3 x4 s = some (.inl (), s) := by
  have ik : inb (nI k) 24 := inb_nI' hk (by decide)
  rw [L_fill_56, ifT ik, ifT ik]
  by_cases q : tA s 45 (ix (nI k)) + tA s 46 (ix (nI k)) ≤ x4
  · rw [ifT q]
  · rw [ifF q, t_isBad1 h, ob_some, ifF (show ¬ (1 : Int32) = 0 by decide)]
/-- one step and the rest -/
theorem ElL.join (hB1 : B ≤ 1280) (F1 : FiS C B P mss fss D1 M1 σ1 V1 I1 Bm1 o R E) (g1 : V ≤ V1 ∧ I ≤ I1 ∧ Bm ≤ Bm1) (s1 : SqM C P V I Bm R E i D D1 M M1 σ σ1) (hp1 : HitP D D1 M M1 σ1 Bm Bm1 i fr R W) (mb1 : ∀ b, Bm ≤ b → b < Bm1 → MbC D1 mss M1 σ1 V1 I1 b ∧ ∃ n, tA σ1 83 b = nI n ∧ n < I1 ∧ (n = i ∨ I ≤ n)) (hi : i < I) (nw1 : NwI σ1 I I1 i d ∧ VoS σ1 V V1 Bm Bm1 ∧ NwC σ1 V V1 I I1 ∧ CnE σ1 i V V1 (12 - d) e) (h : ElL C B P mss fss V1 I1 Bm1 cr R E i fr W k d (e + 1) r D1 D2 M1 M2 σ1 σ2 V2 I2 Bm2) (i200 : i < 200) (hL : HasL σ2 Bm Bm2 i k d e (r + 1)) : ElL C B P mss fss V I Bm cr R E i fr W k d e (r + 1) D D2 M M2 σ σ2 V2 I2 Bm2 := by
  obtain ⟨F2, ⟨y1, y2, y3⟩, s2, hp2, mb2, nw2, -⟩ := h
  have l1 := F1.lens
  refine ⟨F2, ⟨by omega, by omega, by omega⟩, s1.tr s2 g1.1 g1.2.1 g1.2.2 (Nat.le_refl _) (Or.inl rfl) (Nat.le_refl _) i200, hp1.tr hp2 s2.2.2.2.2.2.1 s2.2.2.2.2.2.2 (Nat.le_refl _) g1.2.2 y3, fun b h1 h2 => ?_, ⟨nw1.1.tr nw2.1 g1.2.1 (fun n hn => s2.2.2.2.2.2.2.1 75 (by decide) n hn) (fun n hn => s2.2.2.2.2.2.2.1 74 (by decide) n hn) s2.2.2.2.2.2.1, (nw1.2.1.mv g1.2.2 s2.2.2.2.2.2.1 (fun c _ h2 => ⟨⟨s2.2.2.2.2.2.2.2.2.1 83 (by decide) c h2, s2.2.2.2.2.2.2.2.2.1 84 (by decide) c h2⟩, fun _ => s2.2.2.2.2.2.2.2.2.1 85 (by decide) c h2⟩) (fun v _ v2 => s2.2.2.2.2.2.2.2.2.2.1 96 (by decide) v v2)).tr nw2.2.1 ⟨g1.2.2, y3⟩, by
    have l2 := F2.lens
    refine nw1.2.2.1.tr nw2.2.2.1 s2.2.2.2.2.2.1 (by decide) ⟨g1.1, y1⟩ ⟨g1.2.1, by omega⟩ (fun u _ u2 => s2.2.2.2.2.2.2.2.2.2.1 96 (by decide) u u2) (fun n hn => s2.2.2.2.2.2.2.1 74 (by decide) n hn) (fun v v1 v2 => ?_) (fun v v1 v2 => ?_) (by omega)
    · obtain ⟨c, c1, c2, -, c4⟩ := nw1.2.1.own g1.2.2 v v1 v2
      obtain ⟨-, n', m2, m3, -⟩ := mb1 c c1 c2
      exact ⟨n', by rw [s2.2.2.2.2.2.2.2.2.2.1 96 (by decide) v v2, c4]; exact m2, m3⟩
    · obtain ⟨c, c1, c2, -, c4⟩ := nw2.2.1.own y3 v v1 v2
      obtain ⟨-, n', m2, m3, m4⟩ := mb2 c c1 c2
      exact ⟨n', by rw [c4]; exact m2, by omega, by omega⟩, CnL.cons nw1.2.2.2 s2.2.2.2.2.2.1 (by decide) (fun u _ u2 => s2.2.2.2.2.2.2.2.2.2.1 96 (by decide) u u2) ⟨g1.1, y1⟩ nw2.2.2.2⟩, hL⟩
  by_cases q : b < Bm1
  · obtain ⟨m1, n, m2, m3, m4⟩ := mb1 b h1 q
    obtain ⟨n', e', eo', w', -, -, ⟨p3a, p3b⟩, -⟩ := F1.2.1.2.2.1 b q
    have kp := s2.2.2.2.2.2.2
    have so : So M1 M2 ((pl D1 100).getD b 0) := F1.1.2.1.so3 (by decide) (by omega) s2.2.2.2.1 (fun z => by unfold TsF tg at z; omega)
    refine ⟨m1.mv s2.1 s2.2.2.2.2.2.1 (fun k hk => (F1.cc hk).1.1.1) (s2.2.1.1 100 b (by omega)).2 so (by rw [p3a]; exact p3b.1.1) s2.2.1 ⟨kp.2.2.1 84 (by decide) b q, kp.2.2.1 85 (by decide) b q, kp.2.2.1 86 (by decide) b q⟩ (kp.2.2.1 83 (by decide) b q) kp.1 y1 y2, n, by rw [kp.2.2.1 83 (by decide) b q]; exact m2, by omega, m4⟩
  · obtain ⟨m1, n, m2, m3, m4⟩ := mb2 b (by omega) h2
    exact ⟨m1, n, m2, m3, by omega⟩
theorem z_elsL (hB1 : B ≤ 1280) (hel1 : d < 12 → ElP C B P mss fss cf1 cf1' (d + 1)) (h13 : d = 12 → ∀ x1 x2 s, tI s 0 = 0 → ∃ s', cf1' x1 x2 (nI 13) s = some ((), s') ∧ Ft [132] (badT s 23) s') (hel2 : d < 12 → ElP C B P mss fss cf2 cf2' (d + 1)) (hk : k < mss.length) (hes : es.length ≤ 20) :
    ∀ (dd j f g : Nat) (D : FQ) (M : CM) (σ : TS) (V I Bm : Nat), j + dd = es.length → dd < f → dd < g → FiS C B P mss fss D M σ V I Bm (cr + dd) R E → Cx C P D M σ I R E d i tf cb fr W ks → ClD C P M σ k (mss.getD k 0) E0 es →
    (∃ D' M' σ' w y, KL_X0_elements_30 (KB_X0_extended cf1) (KB_X0_element (KB_X0_instances cf2)) f ((pl D 99).getD i 0) (mss.getD k 0) (nI fr) (nI (fr + (W ++ wcE i ks).length)) (nI d) (nI j) M = some (.inr (.inr w), M') ∧ L_fill_56 cf1' (B_makeMember cf2') (g + 1) (nI i) (nI k) (nI d) (nI (E0 + j)) σ = some (y, σ') ∧ FfO C B P mss fss TFf fiS [15, 16, 17, 18, 31] D D' M M' σ σ' w) ∨
    (∃ D' M' σ' V' I' Bm', KL_X0_elements_30 (KB_X0_extended cf1) (KB_X0_element (KB_X0_instances cf2)) f ((pl D 99).getD i 0) (mss.getD k 0) (nI fr) (nI (fr + (W ++ wcE i ks).length)) (nI d) (nI j) M = some (.inl (), M') ∧ L_fill_56 cf1' (B_makeMember cf2') (g + 1) (nI i) (nI k) (nI d) (nI (E0 + j)) σ = some (.inl (), σ') ∧ ElL C B P mss fss V I Bm cr R E i fr (W ++ wcE i ks) k d (E0 + j) dd D D' M M' σ σ' V' I' Bm') := by
  intro dd
  induction dd with
  | zero =>
    intro j f g D M σ V I Bm hj hf hg F hC hD
    obtain ⟨f, rfl⟩ : ∃ n, f = n + 1 := ⟨f - 1, by omega⟩
    obtain ⟨d1, ⟨d2, d3, d4⟩, d5⟩ := hD
    have m24 : mss.length ≤ 24 := F.cn.2.1
    have kc : mk M (mss.getD k 0) = 10 := (F.cn.2.2 k hk).1
    have h480 : ix (tI σ 58) ≤ 480 := by
      obtain ⟨E0, e1, e2⟩ := F.1.1.2.2.2.2.2.2.1
      have h24 := F.1.1.2.2.2.2.1.1.1
      rw [e1, ix_nI (by omega)]
      omega
    have ik : inb (nI k) 24 := inb_nI' (by omega) (by decide)
    refine Or.inr ⟨D, M, σ, V, I, Bm, ?_, ?_, F, ⟨Nat.le_refl _, Nat.le_refl _, Nat.le_refl _⟩, SqM.rf (by have := F.1.1.2.2.2.2.1; omega), HitP.rf, fun b h1 h2 => by omega, ⟨NwI.nil (Nat.le_refl _), VoS.nil, NwC.nil, CnL.nil⟩, ?_⟩
    · rw [KL_X0_elements_30, ifT kc, ifT d1.1.1, ls_size d1.1, ob_some, ifT ((bI_le (by omega) (by omega)).mpr (by omega))]
    · rw [L_fill_56, ifT ik, ifT ik, ix_nI (by omega), d2, d3, bI_add, ifT ((bI_le (by omega) (by omega)).mpr (by omega))]
    · rw [show E0 + j = E0 + es.length by omega]
      exact HasL.nil ⟨d2, d3⟩ (by omega) (by omega)
  | succ dd ih =>
    intro j f g D M σ V I Bm hj hf hg F hC hD
    obtain ⟨f, rfl⟩ : ∃ n, f = n + 1 := ⟨f - 1, by omega⟩
    obtain ⟨g, rfl⟩ : ∃ n, g = n + 1 := ⟨g - 1, by omega⟩
    have hD0 := hD
    obtain ⟨d1, ⟨d2, d3, d4⟩, d5⟩ := hD
    obtain ⟨⟨l1, l2, l3, l4⟩, l98, l99, l100, l101⟩ := F.lens
    have m24 : mss.length ≤ 24 := F.cn.2.1
    have kc : mk M (mss.getD k 0) = 10 := (F.cn.2.2 k hk).1
    have h480 : ix (tI σ 58) ≤ 480 := by
      obtain ⟨E0, e1, e2⟩ := F.1.1.2.2.2.2.2.2.1
      have h24 := F.1.1.2.2.2.2.1.1.1
      rw [e1, ix_nI (by omega)]
      omega
    have h0 := F.g0
    have i200 : i < 200 := by have := hC.1; omega
    have hi := hC.1
    obtain ⟨eo, heo⟩ : ∃ q, q = es.getD j 0 := ⟨_, rfl⟩
    obtain ⟨e, he'⟩ : ∃ q, q = E0 + j := ⟨_, rfl⟩
    have he := d5 j (by omega)
    rw [← heo, ← he'] at he
    have keo : mk M eo = 11 := he.1.2.1
    have get := ls_get d1.1 (show j < es.length by omega)
    rw [← heo] at get
    have pc : P (mss.getD k 0) := (F.cc hk).1.1.1
    rw [← he']
    -- what the component does
    have kh : KL_X0_elements_30 (KB_X0_extended cf1) (KB_X0_element (KB_X0_instances cf2)) (f + 1) ((pl D 99).getD i 0) (mss.getD k 0) (nI fr) (nI (fr + (W ++ wcE i ks).length)) (nI d) (nI j) M = if mI M 2000 eo = 0 then obS (KB_X0_element (KB_X0_instances cf2) ((pl D 99).getD i 0) eo (nI fr) (nI (fr + (W ++ wcE i ks).length)) (nI d) M) (fun w21 M17 => some (.inr (.inr w21), M17)) fun _ M17 => KL_X0_elements_30 (KB_X0_extended cf1) (KB_X0_element (KB_X0_instances cf2)) f ((pl D 99).getD i 0) (mss.getD k 0) (nI fr) (nI (fr + (W ++ wcE i ks).length)) (nI d) (nI (j + 1)) M17 else ob (K_X0_model (mI M 2002 eo) M) fun r25 M24 => if r25 = 0 then ob (K_X0_wrong 20 0 M24) fun r45 M44 => if mk M44 r45 = 7 then some (.inr (.inr r45), M44) else none else if mk M24 r25 = 10 then if mk M24 (mss.getD k 0) = 10 then if mI M24 1801 r25 = mI M24 1801 (mss.getD k 0) then obS (KB_X0_extended cf1 ((pl D 99).getD i 0) r25 eo (nI fr) (nI (fr + (W ++ wcE i ks).length)) (nI d) M24) (fun w36 M32 => some (.inr (.inr w36), M32)) fun _ M32 => KL_X0_elements_30 (KB_X0_extended cf1) (KB_X0_element (KB_X0_instances cf2)) f ((pl D 99).getD i 0) (mss.getD k 0) (nI fr) (nI (fr + (W ++ wcE i ks).length)) (nI d) (nI (j + 1)) M32 else ob (K_X0_wrong 22 0 M24) fun r39 M38 => if mk M38 r39 = 7 then some (.inr (.inr r39), M38) else none else none else none := by
      rw [KL_X0_elements_30, ifT kc, ifT d1.1.1, ls_size d1.1, ob_some, ifF (fun z => by have := (bI_le (by omega) (by omega)).mp z; omega), ifT kc, ifT d1.1.1, get, ob_some, ifT (Or.inr keo), ifT keo, ifT keo]
      simp only [nm_eq, nI_addL]
    -- after one step
    have nxt : ∀ (D1 : FQ) (M1 : CM) (σ1 : TS) (V1 I1 Bm1 : Nat), FiS C B P mss fss D1 M1 σ1 V1 I1 Bm1 (cr + dd) R E → (V ≤ V1 ∧ I ≤ I1 ∧ Bm ≤ Bm1) → SqM C P V I Bm R E i D D1 M M1 σ σ1 → HitP D D1 M M1 σ1 Bm Bm1 i fr R (W ++ wcE i ks) → (∀ b, Bm ≤ b → b < Bm1 → MbC D1 mss M1 σ1 V1 I1 b ∧ ∃ n, tA σ1 83 b = nI n ∧ n < I1 ∧ (n = i ∨ I ≤ n)) → (NwI σ1 I I1 i d ∧ VoS σ1 V V1 Bm Bm1 ∧ NwC σ1 V V1 I I1 ∧ CnE σ1 i V V1 (12 - d) e) → (∀ σ2 V2 I2 Bm2 D2 M2, FiS C B P mss fss D2 M2 σ2 V2 I2 Bm2 cr R E → Bm1 ≤ Bm2 → I1 ≤ I2 → Ft fiS σ1 σ2 → KpT σ1 σ2 V1 I1 Bm1 E i → HasL σ2 Bm1 Bm2 i k d (e + 1) dd → HasL σ2 Bm Bm2 i k d e (dd + 1)) →
        (∃ D' M' σ' w y, KL_X0_elements_30 (KB_X0_extended cf1) (KB_X0_element (KB_X0_instances cf2)) f ((pl D 99).getD i 0) (mss.getD k 0) (nI fr) (nI (fr + (W ++ wcE i ks).length)) (nI d) (nI (j + 1)) M1 = some (.inr (.inr w), M') ∧ L_fill_56 cf1' (B_makeMember cf2') (g + 1) (nI i) (nI k) (nI d) (nI (e + 1)) σ1 = some (y, σ') ∧ FfO C B P mss fss TFf fiS [15, 16, 17, 18, 31] D D' M M' σ σ' w) ∨
        (∃ D' M' σ' V' I' Bm', KL_X0_elements_30 (KB_X0_extended cf1) (KB_X0_element (KB_X0_instances cf2)) f ((pl D 99).getD i 0) (mss.getD k 0) (nI fr) (nI (fr + (W ++ wcE i ks).length)) (nI d) (nI (j + 1)) M1 = some (.inl (), M') ∧ L_fill_56 cf1' (B_makeMember cf2') (g + 1) (nI i) (nI k) (nI d) (nI (e + 1)) σ1 = some (.inl (), σ') ∧ ElL C B P mss fss V I Bm cr R E i fr (W ++ wcE i ks) k d e (dd + 1) D D' M M' σ σ' V' I' Bm') := fun D1 M1 σ1 V1 I1 Bm1 F1 g1 s1 hp1 mb1 nw1 hh => by
      have hC1 := hC.st s1 ⟨l99, g1.2.1⟩ (fun c hc => hp1.z1 hC.2.2.2.2.2 hc)
      have e99 : (pl D1 99).getD i 0 = (pl D 99).getD i 0 := (s1.2.1.1 99 i (by omega)).2
      have hq := ih (j + 1) f g D1 M1 σ1 V1 I1 Bm1 (by omega) (by omega) (by omega) F1 hC1 (hD0.mv s1.1 s1.2.2.2.2.2.1 pc h480)
      rw [e99, show E0 + (j + 1) = e + 1 by omega] at hq
      rcases hq with ⟨D2, M2, σ2, w2, y2, n1, n2, n3⟩ | ⟨D2, M2, σ2, V2, I2, Bm2, n1, n2, n3⟩
      · exact Or.inl ⟨D2, M2, σ2, w2, y2, n1, n2, s1.ff n3 i200⟩
      · refine Or.inr ⟨D2, M2, σ2, V2, I2, Bm2, n1, n2, ElL.join hB1 F1 g1 s1 hp1 mb1 hi nw1 n3 i200 ?_⟩
        obtain ⟨m1, ⟨m2, m3, m4⟩, m5, m6, m7, m9, m8⟩ := n3
        exact hh σ2 V2 I2 Bm2 D2 M2 m1 m4 m3 m5.2.2.2.2.2.1 m5.2.2.2.2.2.2 m8
    rw [kh]
    have heOr := he.2.2
    rcases heOr with ⟨u1, u2, ⟨w, u3, u4, u5, u6⟩, u7⟩ | ⟨u1, u2, u3⟩
    · -- extends
      have h57 : ¬ tA σ 57 e = 0 := by rw [u2]; decide
      rw [ifF (show ¬ mI M 2000 eo = 0 by rw [u1]; decide), u3]
      have ie : inb (nI e) 481 := inb_nI' (by omega) (by decide)
      have ik : inb (nI k) 24 := inb_nI' (by omega) (by decide)
      have xk : ix (nI k) = k := ix_nI (by omega)
      have xe : ix (nI e) = e := ix_nI (by omega)
      have th : ∀ (r : Int32), F_classOf (tB σ 51 e) σ = some (r, σ) → L_fill_56 cf1' (B_makeMember cf2') (g + 1 + 1) (nI i) (nI k) (nI d) (nI e) σ = if 0 ≤ r then if inb r 24 then if inb (nI k) 24 then if tA σ 44 (ix r) = tA σ 44 k then L_fill_56 cf1' (B_makeMember cf2') (g + 1 + 1) (nI i) (nI k) (nI d) (nI e) σ else ob (F_bad 22 0 σ) fun _ s => some (.inr (), s) else none else none else ob (F_bad 20 0 σ) fun _ s => some (.inr (), s) := fun r hr => by
        by_cases q : 0 ≤ r
        · rw [ifT q]
          by_cases q2 : inb r 24
          · rw [ifT q2, ifT ik]
            by_cases q3 : tA σ 44 (ix r) = tA σ 44 k
            · rw [ifT q3]
            · rw [ifF q3, L_fill_56, ifT ik, ifT ik, xk, d2, d3, bI_add, ifF (fun z => by have := (bI_le (by omega) (by omega)).mp z; omega), t_isBad0 h0, ob_some, ifT (rfl : (0 : Int32) = 0), ifT ie, xe, ifF h57, ifT ie, hr, ob_some, ifT q, ifT q2, ifT ik, ifF q3]
          · rw [ifF q2, L_fill_56, ifT ik, ifT ik, xk, d2, d3, bI_add, ifF (fun z => by have := (bI_le (by omega) (by omega)).mp z; omega), t_isBad0 h0, ob_some, ifT (rfl : (0 : Int32) = 0), ifT ie, xe, ifF h57, ifT ie, hr, ob_some, ifT q, ifF q2]
        · rw [ifF q, L_fill_56, ifT ik, ifT ik, xk, d2, d3, bI_add, ifF (fun z => by have := (bI_le (by omega) (by omega)).mp z; omega), t_isBad0 h0, ob_some, ifT (rfl : (0 : Int32) = 0), ifT ie, xe, ifF h57, ifT ie, hr, ob_some, ifF q]
      have flt : ∀ r : Int32, ¬ r = 0 → ∀ (y : Option ((Unit ⊕ (Unit ⊕ Nat)) × CM)), y = (ob (K_X0_wrong r 0 M) fun q N => if mk N q = 7 then some (.inr (.inr q), N) else none) → L_fill_56 cf1' (B_makeMember cf2') (g + 1 + 1) (nI i) (nI k) (nI d) (nI e) σ = (ob (F_bad r 0 σ) fun _ s => some (.inr (), s)) → (∃ D' M' σ' w z, y = some (.inr (.inr w), M') ∧ L_fill_56 cf1' (B_makeMember cf2') (g + 1 + 1) (nI i) (nI k) (nI d) (nI e) σ = some (z, σ') ∧ FfO C B P mss fss TFf fiS [15, 16, 17, 18, 31] D D' M M' σ σ' w) := fun r hr y h1 h2 => by
        obtain ⟨b1, b2, b3⟩ := F.1.bad (r := r) hr h0
        exact ⟨D, _, _, _, _, by rw [h1, b1, ob_some, ifT (wM_k M r 0)], by rw [h2, b2, ob_some], b3.mono (fun _ z => z) (by decide) (by decide)⟩
      rcases z_lookup hB1 F ⟨u4, u5⟩ with ⟨k2, a1, a2, a3, a4⟩ | ⟨a3, a4⟩
      · rw [← u6] at a4
        have kc2 : mk M (mss.getD k2 0) = 10 := (F.cn.2.2 k2 a1).1
        have n2 : mss.getD k2 0 ≠ 0 := (F.cn.2.2 k2 a1).2.1
        have cc : ∀ k, k < mss.length → mI M 1801 (mss.getD k 0) = tA σ 44 k := fun k hk => by
          rcases (F.cc hk).2.1 with ⟨q1, q2⟩ | ⟨q1, q2⟩ <;> rw [q1, q2]
        rw [a3, ob_some, ifF n2, ifT kc2, ifT kc, cc k2 a1, cc k hk]
        by_cases q : tA σ 44 k2 = tA σ 44 k
        · rw [ifT q]
          have h114 : tI σ 114 = nI (cb + ks.length) := hC.2.1.2.2.2.1.2.1
          have h12 : cb + ks.length < 200 := by have := hC.2.2.2.2.1; obtain ⟨⟨y1, y2⟩, -, -, -, y3⟩ := this; omega
          rw [t_exHead (k2 := k2) (by omega) (by omega) (by omega) ⟨d2, d3⟩ ⟨by omega, by omega⟩ h0 h57 a4 q h114 h12]
          rcases z_ext (k2 := k2) hB1 hel1 h13 (F.cr' (cr' := cr + dd) (by omega)) hC he a1 with ⟨D1, M1, σ1, w1, s4, b1, b2, b3, b4⟩ | ⟨D1, M1, σ1, V1, I1, Bm1, s4, b1, b2, b3, F1, g1, s1, hp1, mb1, nw1, hd, has1⟩
          · left
            have hs1 : tI σ1 0 ≠ 0 := b4.2.2.2.2.1.2.2.1
            exact ⟨D1, M1, σ1, w1, _, by rw [b1, obS_inr], by rw [b2, ob_some, b3, ob_some, t_fiStop (by omega) hs1], b4⟩
          · rw [b1, obS_inl, b2, ob_some, b3, ob_some]
            refine nxt D1 M1 σ1 V1 I1 Bm1 F1 g1 s1 hp1 mb1 ⟨nw1.1, nw1.2.1, nw1.2.2.1, CnE.ext nw1.2.2.2 (by rw [(s1.2.2.2.2.2.1 57 rfl).2.2.1]; exact h57) (by rw [(s1.2.2.2.2.2.1 51 rfl).2.2.2]; exact classOf_ft s1.2.2.2.2.2.1 a4)⟩ (fun σ2 V2 I2 Bm2 D2 M2 F2 y1 y2 f2 kp2 H => ?_)
            have f12 : Ft fiS σ σ2 := s1.2.2.2.2.2.1.tr f2
            refine HasL.ext (E0 := E0) (len := es.length) (k2 := k2) H ⟨by rw [(f12 45 rfl).2.2.1]; exact d2, by rw [(f12 46 rfl).2.2.1]; exact d3⟩ (by omega) ⟨by omega, by omega, by omega⟩ (by rw [(f12 57 rfl).2.2.1]; exact h57) ⟨g1.2.2, y1⟩ hd ?_ (has1.mv f2 kp2 (Nat.le_refl _))
            have := classOf_ft f12 a4
            rw [(f12 51 rfl).2.2.2]; exact this
        · rw [ifF q]
          left
          refine flt 22 (by decide) _ rfl ?_
          rw [th _ a4, ifT (show (0 : Int32) ≤ nI k2 from by rw [show (0 : Int32) = nI 0 from rfl, bI_le (by decide) (by omega)]; omega), ifT (inb_nI' (by omega) (by decide)), ifT ik, ix_nI (by omega), ifF q]
      · left
        rw [a3, ob_some, ifT rfl]
        refine flt 20 (by decide) _ rfl ?_
        rw [th _ (by rw [u6]; exact a4), ifF (by decide)]
    · -- an element with a name
      rw [ifT u1, t_elHead (by omega) (by omega) ⟨d2, d3⟩ ⟨by omega, by omega⟩ h0 u2]
      rcases z_elem (cf := cf2) (cf' := cf2') hB1 hel2 (cr := cr + dd) F hC he (by omega) u2 with ⟨D1, M1, σ1, w1, b1, b2, b3⟩ | ⟨D1, M1, σ1, V1, I1, Bm1, b1, b2, F1, g1, s1, hp1, mb1, nw1, hx1, h83, h84⟩
      · left
        have hs1 : tI σ1 0 ≠ 0 := b3.2.2.2.2.1.2.2.1
        exact ⟨D1, M1, σ1, w1, _, by rw [b1, obS_inr], by rw [b2, ob_some, t_fiStop (by omega) hs1], b3⟩
      · rw [b1, obS_inl, b2, ob_some]
        refine nxt D1 M1 σ1 V1 I1 Bm1 F1 ⟨g1.1, g1.2.1, by omega⟩ s1 hp1 mb1 ⟨nw1.1, nw1.2.1, nw1.2.2.1, nw1.2.2.2 _⟩ (fun σ2 V2 I2 Bm2 D2 M2 F2 y1 y2 f2 kp2 H => ?_)
        have f12 : Ft fiS σ σ2 := s1.2.2.2.2.2.1.tr f2
        have e83 : tA σ2 83 Bm = nI i := by rw [kp2.2.2.1 83 (by decide) Bm (by omega)]; exact h83
        have e84 : tA σ2 84 Bm = nI e := by rw [kp2.2.2.1 84 (by decide) Bm (by omega)]; exact h84
        refine HasL.elem (E0 := E0) (len := es.length) H ⟨by rw [(f12 45 rfl).2.2.1]; exact d2, by rw [(f12 46 rfl).2.2.1]; exact d3⟩ (by omega) ⟨by omega, by omega, by omega⟩ (by rw [(f12 57 rfl).2.2.1]; exact u2) ⟨by omega, y1⟩ (fun x => ?_) (fun x hx hh => ?_)
        · rw [(f2 52 rfl).2.2.1, (f2 50 rfl).2.2.2]
          exact (hs.mv f2 kp2 (Nat.le_refl _)).trans (hx1 x)
        · obtain ⟨m, e', ⟨q1, q2⟩, q3, ⟨q4, q5⟩, q6, q7⟩ := hh
          have := F2.uq hB1 (i := i) (by omega) (b := Bm) (c := m) (by omega) q2 ⟨e83, q3⟩ ⟨e84, q4⟩ ⟨by omega, q5⟩ (by rw [hx, q7])
          omega
end LOOP2
