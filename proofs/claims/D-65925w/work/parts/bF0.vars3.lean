/-! Layer B: the flat model: the variables of an element, both sides, all of them -/
set_option maxRecDepth 100000
section VARS3
variable {C C' : PC} {D D' D2 : FQ} {M M' M1 M2 : CM} {σ σ' σ0 σ2 : TS} {mss fss xs bs qs os : List Nat} {B l k n o m u w Q I I' L V V' Bm Bm' b v r R E E' cr i k0 fr e eo fl z env kk tf cb : Nat} {P P' X T : Nat → Prop} {S S' : List Nat} {a : Nat × Nat × Nat} {A W W1 W2 : List (Nat × Nat × Nat)} {ks : List (Nat × Nat)} {x : Int64} {x3 x4 x5 x6 x7 x8 : Int32} {cf : Int32 → Int32 → Int32 → TS → Option (Unit × TS)} {p q : Int32 × Int32}
theorem Tv.f {t : Nat} (hV : V < 96) (h : Tv V t) : TvF V t := by unfold Tv at h; unfold TvF tg at *; omega
theorem TvF.mono {t : Nat} (h : V ≤ V') (y : TvF V' t) : TvF V t := by unfold TvF tg at *; omega
theorem z_varsL {y5 y6 y7 y8 : Nat} (hA : A = adv σ0 x (W ++ wcE i ks)) : ∀ (d kk f g : Nat) (D : FQ) (M : CM) (σ : TS) (V : Nat), kk + d = many z → d < f → d + 1 < g → FiS C B P mss fss D M σ V I Bm cr R E → Ft fiS σ0 σ → CvT σ E i tf cb W ks → (i < I ∧ b < Bm ∧ mI M 3002 ((pl D 100).getD b 0) = nI z) → ElV P M σ eo e w fl z → MxT σ e k0 n → (w < 38 + cm C ∧ tB σ 50 e = wc M w ∧ tB σ 50 e = x) → (e < ix (tI σ 58) ∧ e < 481) → (∀ a, a ∈ A → EnB σ0 a ∧ tA σ0 62 a.1 = 0 ∧ EnC σ0 a) → (∀ a, a ∈ A ++ msE k0 n i → ¬ vbad σ0 a) → p = pick (vE σ0 A) (tA σ0 56 e, nI i) → q = pick (sE σ0 A) (sE σ0 (msE k0 n i)) → AxR C P D M σ I y5 y6 p.1 p.2 → AxR C P D M σ I y7 y8 q.1 q.2 →
    (∃ D' M' σ', KL_X0_variables_171 f ((pl D 99).getD i 0) ((pl D 100).getD b 0) eo y5 y6 y7 y8 (nI kk) M = some (.inl (), M') ∧ L_makeMember_240 cf (g + 1) (nI i) (nI e) x3 x4 1 (nI (many z)) x7 (nI kk) σ = some (.inl (), σ') ∧ FiS C B P mss fss D' M' σ' (V + d) I Bm cr R E ∧ Wz C C P M M' σ σ' ∧ Dx D D' M ∧ (∀ r, r < R → RwS D M D' M' r ∧ hit D' M' r = hit D M r) ∧ Fq D (TvF V) M M' ∧ O1 [15] M M' ∧ Ft vaS σ σ' ∧ (∀ j, j < E → tA σ' 90 j = tA σ 90 j ∧ tA σ' 91 j = tA σ 91 j ∧ tA σ' 92 j = tA σ 92 j) ∧ (∀ f, f ∈ [94, 95, 96, 97, 98, 99, 100, 101, 102, 103] → ∀ j, j < V → tA σ' f j = tA σ f j) ∧ ∀ v, V ≤ v → v < V + d → tA σ' 96 v = nI i) ∨
    (∃ D' M' σ' w, KL_X0_variables_171 f ((pl D 99).getD i 0) ((pl D 100).getD b 0) eo y5 y6 y7 y8 (nI kk) M = some (.inr (.inr w), M') ∧ L_makeMember_240 cf (g + 1) (nI i) (nI e) x3 x4 1 (nI (many z)) x7 (nI kk) σ = some (.inl (), σ') ∧ FfO C B P mss fss TFf fiS [15, 16, 17, 18, 31] D D' M M' σ σ' w) := by
  intro d
  induction d with
  | zero =>
    intro kk f g D M σ V hd hf hg F f0 hC hb he hM hw h58 hB hnb hp hq a1 a2
    obtain ⟨f, rfl⟩ : ∃ n, f = n + 1 := ⟨f - 1, by omega⟩
    have hm9 : many z ≤ 9 := by unfold many; by_cases y : z = 0 <;> simp [y] <;> have := he.2.2.2.1.2.2 <;> omega
    have l100 := F.lens
    have km : mk M ((pl D 100).getD b 0) = 16 := (F.1.2.1.2.1 100 (by decide) b (by omega)).1
    refine Or.inl ⟨D, M, σ, ?_, ?_, F, Wz.rf (by have := F.1.1.2.2.2.2.1; omega), Dx.rf D M, fun _ _ => ⟨RwS.rf, rfl⟩, Fq.rf, O1.rf _ _, Ft.rf _ _, fun _ _ => ⟨rfl, rfl, rfl⟩, fun _ _ _ _ => rfl, fun v h1 h2 => by omega⟩
    · rw [KL_X0_variables_171, ifT km, k_many km hb.2.2 he.2.2.2.1.2.2, ob_some, ifT ((bI_le (by omega) (by omega)).mpr (by omega))]
    · rw [L_makeMember_240, ifT ((bI_le (by omega) (by omega)).mpr (by omega))]
  | succ d ih =>
    intro kk f g D M σ V hd hf hg F f0 hC hb he hM hw h58 hB hnb hp hq a1 a2
    obtain ⟨f, rfl⟩ : ∃ n, f = n + 1 := ⟨f - 1, by omega⟩
    obtain ⟨g, rfl⟩ : ∃ n, g = n + 1 := ⟨g - 1, by omega⟩
    have hz9 := he.2.2.2.1.2.2
    have hm9 : many z ≤ 9 := by unfold many; by_cases y : z = 0 <;> simp [y] <;> omega
    have hfi : fiS.all fiS.contains = true := by decide
    obtain ⟨⟨l1, l2, l3, l4⟩, l98, l99, l100, l101⟩ := F.lens
    have hm := F.1.rm
    have km : mk M ((pl D 100).getD b 0) = 16 := (F.1.2.1.2.1 100 (by decide) b (by omega)).1
    have s15 := F.2.2.1.1
    have hA2 : A = adv σ x (W ++ wcE i ks) := by rw [adv_ft f0 hfi]; exact hA
    obtain ⟨σ2, g2, g3⟩ := t_vstep (cf := cf) (x3 := x3) (x4 := x4) (x7 := x7) (f := g) (k0 := k0) (n := n) (V := V) hC hw.2.2 F.g0 F.2.2.2.2.2.1.1 hA2 (fun a ha => ⟨(hB a ha).1.ft f0 hfi, by rw [(f0 62 rfl).2.2.1]; exact (hB a ha).2.1, (hB a ha).2.2.ft f0 hfi⟩) hM h58.2 s15.2.1 l1 he.2.2.2.2.1.2.2 ⟨he.2.2.2.1.2.1, hz9⟩ (show kk < many z by omega) hm9
    obtain ⟨p1, p2, p3, p4⟩ := g2
    have F2 := F.tw p1 (by decide) p2
    obtain ⟨-, v2⟩ := F.1.wzT p1 (by decide)
    have nb : ∀ a, a ∈ A ++ msE k0 n i → ¬ vbad σ a := fun a ha z => hnb a ha ((vbad_ft f0 hfi).mp z)
    rcases g3 with ⟨⟨a, q1, q2⟩, q3⟩ | ⟨q1, q2, q3⟩ | ⟨q1, q2, σ', q3, q4⟩
    · exact absurd q2 (nb a q1)
    · obtain ⟨b1, b2, b3⟩ := F2.1.bad (r := 24) (by decide) F2.g0
      refine Or.inr ⟨D, _, _, _, ?_, q3, (b3.mono (fun _ z => z) (by decide) (by decide)).tr v2 (Dx.rf D M) Fq.rf (O1.rf _ _) (p1.mono (by decide))⟩
      have nv : K_X0_newVar M = some (.inr (mn M), wM M 24 0) := by
        unfold K_X0_newVar
        rw [s15.1, q2, ifT (by decide), b1, ob_some, ifT (wM_k M 24 0)]
      rw [KL_X0_variables_171, ifT km, k_many km hb.2.2 hz9, ob_some, ifF (fun q => by have := (bI_le (by omega) (by omega)).mp q; omega), nv, obS_inr]
    · have he2 := he.wz v2 p1 (by decide)
      rw [vE_ft f0 hfi, sE_ft f0 hfi, sE_ft f0 hfi, (f0 56 rfl).2.2.1, ← hp, ← hq] at q4
      have e50 : tB σ2 50 e = tB σ 50 e := (p1 50 rfl).2.2.2 e
      have e58 : tI σ2 58 = tI σ 58 := (p1 58 rfl).1
      obtain ⟨D', M', c1, c2, c3, c4, c5, c6, c7⟩ := F2.var1 q2 hb.1 hb.2.1 hb.2.2 (show kk < many z by omega) he2 ⟨hw.1, by rw [e50]; exact hw.2.1⟩ (by rw [e58]; exact h58.1) (a1.mv v2 (fun _ z => z) (Dx.rf D M) l99 (Nat.le_refl _)) (a2.mv v2 (fun _ z => z) (Dx.rf D M) l99 (Nat.le_refl _)) q4
      have f4 := q4.1
      have fv : Ft vaS σ σ' := (p1.mono (by decide)).tr (f4.mono (by decide))
      have ent : ∀ j, j < E → tA σ' 90 j = tA σ 90 j ∧ tA σ' 91 j = tA σ 91 j ∧ tA σ' 92 j = tA σ 92 j := fun j hj => by
        obtain ⟨r1, r2, r3⟩ := p4 j hj
        exact ⟨((f4 90 rfl).2.2.1 j).trans r1, ((f4 91 rfl).2.2.1 j).trans r2, ((f4 92 rfl).2.2.1 j).trans r3⟩
      have vv := v2.tr c3 (fun _ z => z)
      have kc : ∀ r, r < R → RwS D M D' M' r ∧ hit D' M' r = hit D M r := c5
      have e99 : (pl D' 99).getD i 0 = (pl D 99).getD i 0 := (c4.1 99 i (by omega)).2
      have e100 : (pl D' 100).getD b 0 = (pl D 100).getD b 0 := (c4.1 100 b (by omega)).2
      have sb : So M M' ((pl D 100).getD b 0) := F.1.2.1.so3 (by decide) (by omega) c6 (fun z => by unfold Tv tg at z; omega)
      have wcE' : wc M' w = wc M w := vv.2.2.1.2 w hw.1
      have low : ∀ f, f ∈ [94, 95, 96, 97, 98, 99, 100, 101, 102, 103] → ∀ j, j < V → tA σ' f j = tA σ f j := fun f hf j hj => by
        have e1 := q4.2.2.1 f hf j (by omega)
        have e2 : tA σ2 f j = tA σ f j := (p1 f (by
          simp only [List.mem_cons, List.not_mem_nil, or_false] at hf
          rcases hf with rfl | rfl | rfl | rfl | rfl | rfl | rfl | rfl | rfl | rfl <;> rfl)).2.2.1 j
        exact e1.trans e2
      have nxt := ih (kk + 1) f g D' M' σ' (V + 1) (by omega) (by omega) (by omega) c2 (f0.tr (fv.mono (by decide))) (hC.ft fv (by decide) (by decide) ⟨(fv 78 rfl).2.2.1 i, (fv 79 rfl).2.2.1 i⟩ ent) ⟨hb.1, hb.2.1, by rw [e100, sb.i]; exact hb.2.2⟩ (he.wz vv fv (by decide)) (hM.ft fv (by decide)) ⟨hw.1, by rw [(fv 50 rfl).2.2.2, wcE']; exact hw.2.1, by rw [(fv 50 rfl).2.2.2]; exact hw.2.2⟩ ⟨by rw [(fv 58 rfl).1]; exact h58.1, h58.2⟩ hB hnb hp hq (a1.mv vv (fun _ z => z) c4 l99 (Nat.le_refl _)) (a2.mv vv (fun _ z => z) c4 l99 (Nat.le_refl _))
      rw [e99, e100] at nxt
      have fq1 : Fq D (TvF V) M M' := c6.mono (fun t z => z.f q2)
      rcases nxt with ⟨D3, M3, σ3, n1, n2, n3, n4, n5, n6, n7, n8, n9, n10, n11, n12⟩ | ⟨D3, M3, σ3, w3, n1, n2, n3⟩
      · refine Or.inl ⟨D3, M3, σ3, by rw [c1]; exact n1, by rw [q3]; exact n2, ?_, vv.tr n4 (fun _ z => z), c4.tr n5 c3.1.1, fun r hr => ?_, fq1.tr (n7.mono (fun t z => z.mono (Nat.le_succ V))) c4, c7.tr n8, fv.tr n9, fun j hj => ?_, fun f hf j hj => ?_, fun v y1 y2 => ?_⟩
        · rw [show V + (d + 1) = V + 1 + d by omega]; exact n3
        · exact ⟨(kc r hr).1.tr (n6 r hr).1, (n6 r hr).2.trans (kc r hr).2⟩
        · obtain ⟨r1, r2, r3⟩ := n10 j hj
          obtain ⟨r4, r5, r6⟩ := ent j hj
          exact ⟨r1.trans r4, r2.trans r5, r3.trans r6⟩
        · exact (n11 f hf j (by omega)).trans (low f hf j hj)
        · by_cases z : v = V
          · rw [z, n11 96 (by decide) V (by omega)]; exact q4.2.2.2.1.2.2.2.1
          · exact n12 v (by omega) (by omega)
      · refine Or.inr ⟨D3, M3, σ3, w3, by rw [c1]; exact n1, by rw [q3]; exact n2, n3.tr vv c4 (fq1.mono (fun t z => ?_)) (c7.mono (by decide)) (fv.mono (by decide))⟩
        unfold TvF tg at z
        unfold TFf
        omega
end VARS3
