/-! Layer B: flat nodes: the component makes one, with its row -/
set_option maxRecDepth 100000
section KMAKE2
variable {C : PC} {D D' D2 : FQ} {M M' M1 M2 M3 : CM} {σ σ' : TS} {mss fss : List Nat} {B a c1 c2 c3 t1 t2 t3 h1 h2 h3 x0 l X H K k : Nat} {P Y : Nat → Prop} {S : List Nat} {op vl : Int32}
theorem PoW.gn (h : PoW D M) (hn : 167 ≤ mn M) (F : Fz Y M M') (hX : ∀ o, o < mn M → Y o → (o < 167 ∧ o ∉ flA) ∨ (167 ≤ o ∧ 1000 ≤ ow D o ∧ ∀ k, ow D o ≠ tg 201 k ∧ ow D o ≠ tg 202 k)) (h98 : ∀ k, k < (pl D 98).length → mR M' 3204 ((pl D 98).getD k 0) = mR M 3204 ((pl D 98).getD k 0)) (h99 : ∀ k, k < (pl D 99).length → mR M' 2605 ((pl D 99).getD k 0) = mR M 2605 ((pl D 99).getD k 0)) (h23 : ∀ o, mn M ≤ o → o < mn M' → mk M' o ≠ 23) : PoW D M' := by
  have so : ∀ o, o < mn M → 167 ≤ o → (ow D o < 1000 ∨ ∃ k, ow D o = tg 201 k ∨ ow D o = tg 202 k) → So M M' o := fun o ho h1 h2 => F.so ho (fun z => by
    rcases hX o ho z with q | ⟨_, q1, q2⟩
    · omega
    · rcases h2 with h2 | ⟨k, h2⟩
      · omega
      · rcases h2 with h2 | h2
        · exact (q2 k).1 h2
        · exact (q2 k).2 h2)
  have sI : ∀ o, o ∈ flA → So M M' o := fun o h1 => F.so (by have := flA_rng o h1; omega) (fun z => by
    have r := flA_rng o h1
    rcases hX o (by omega) z with q | q
    · exact q.2 h1
    · omega)
  have n := F.1
  have arr : ∀ l' a xs, Ls M l' xs → AQ D M l' a → (a < 1000 ∨ ∃ k, a = tg 201 k ∨ a = tg 202 k) → So M M' l' → Ls M' l' xs ∧ AQ D M' l' a := fun l' a xs hL hq hm s => by
    have sa : mR M 4201 l' ≠ 4398046511104 → So M M' (mR M 4201 l') := fun z => by
      rcases hL.lt with q | q
      · exact absurd q z
      · exact so _ q (hq z).1.2 (by rw [(hq z).1.1]; exact hm)
    refine ⟨hL.kp n (fun o ho => F.k ho) s sa, fun z => ?_⟩
    rw [s.r] at z ⊢
    exact ⟨(hq z).1, by rw [(sa z).l]; exact (hq z).2⟩
  refine ⟨fun l' hl' => ?_, fun l' hl' k' hk' => ?_, fun k' hk' => ?_, fun k' hk' => ?_, fun o ho1 ho2 ho3 => ?_⟩
  · obtain ⟨a1, a2, a3⟩ := h.1 l' hl'
    have r' := flA_rng l' hl'
    obtain ⟨b1, b2⟩ := arr l' l' _ a1 a2 (Or.inl (by omega)) (sI l' hl')
    exact ⟨b1, b2, a3⟩
  · obtain ⟨a1, a2, a3⟩ := h.2.1 l' hl' k' hk'
    exact ⟨by rw [F.k a2.2]; exact a1, ⟨a2.1, by omega⟩, a3⟩
  · obtain ⟨a1, a2, a3⟩ := h.2.2.1 k' hk'
    rw [h98 k' hk']
    exact ⟨⟨by rw [F.k a2.2]; exact a1.1, by rw [(F.2.1 _ a2.2).2]; exact a1.2⟩, ⟨a2.1, by omega⟩, a3⟩
  · obtain ⟨⟨xs, a0, a1⟩, a2, a3, a4⟩ := h.2.2.2.1 k' hk'
    have s2 := so _ a2.2 a2.1 (Or.inr ⟨k', Or.inl a3⟩)
    rw [h99 k' hk']
    obtain ⟨c1, c2⟩ := arr _ _ xs a0 a4 (Or.inr ⟨k', Or.inr rfl⟩) s2
    exact ⟨⟨xs, c1, a1⟩, ⟨a2.1, by omega⟩, a3, c2⟩
  · by_cases q : o < mn M
    · rw [F.k q]; exact h.2.2.2.2 o ho1 q ho3
    · exact h23 o (by omega) ho2
/-- plain writes -/
theorem FW.w2 (W : FW C B P mss fss D M σ) (F : Fz Y M M') (hX : ∀ o, o < mn M → Y o → ((1 ≤ o ∧ o ≤ 3) ∨ (98 ≤ o ∧ o < 167 ∧ o ∉ flA)) ∨ (167 ≤ o ∧ 98000000 ≤ ow D o ∧ ∀ k, ow D o ≠ tg 201 k ∧ ow D o ≠ tg 202 k)) (hs : mn M' = mn M ∧ ms M' = ms M) (hr : ∀ o, mR M' 2605 o = mR M 2605 o ∧ mR M' 4201 o = mR M 4201 o ∧ ml M' o = ml M o) (h3204 : ∀ o, mR M' 3204 o = mR M 3204 o) (h9 : mI M' 9 1 = mI M 9 1) (hb : ∀ q, q ∈ bfR → mR M' q.1 q.2.1 = mR M q.1 q.2.1) (hbi : ∀ q, q ∈ bfI → mI M' q.1 q.2.1 = mI M q.1 q.2.1) (f : Ft S σ σ') (hK : itK.all (fun k => !S.contains k) = true) : FW C B P mss fss D M' σ' ∧ Wz C C P M M' σ σ' ∧ Fq D TG M M' := by
  have h167 := W.n167
  have fq : Fq D TG M M' := F.mono (fun o ho z => by
    rcases hX o ho z with (q | q) | q
    · rw [tgo_s (by omega)]; exact Or.inl q
    · rw [tgo_s q.2.1]; exact Or.inr (Or.inl ⟨q.1, q.2.1⟩)
    · rw [tgo_d q.1]; exact Or.inr (Or.inr q.2.1))
  have hp : PoW D M' := W.2.1.gn h167 F (fun o ho z => by
    rcases hX o ho z with (q | q) | q
    · exact Or.inl ⟨by omega, fun y => by have := flA_rng o y; omega⟩
    · exact Or.inl ⟨q.2.1, q.2.2⟩
    · exact Or.inr ⟨q.1, by omega, q.2.2⟩) (fun k _ => h3204 _) (fun k _ => (hr _).1) (fun o h1 h2 => by omega)
  have rm := rm_same (D := D) hs hr
  obtain ⟨W', v⟩ := W.mv2 fq h9 hp (Dx.rf D M) (by rw [rm.1, rm.2]; exact ⟨Nat.le_refl _, Nat.le_refl _⟩) hb hbi f hK
  exact ⟨W', v, fq⟩
/-- a child: none or a node of the row -/
def ChO (D : FQ) (M : CM) (l K c t : Nat) : Prop := (c = 0 ∧ t = 0) ∨ ∃ k, k < K ∧ c = (pl D l).getD k 0 ∧ mI M 3404 c = nI t ∧ t ≤ 1000
def hgt (t1 t2 t3 : Nat) : Nat := mx (mx (mx 1 (t1 + 1)) (t2 + 1)) (t3 + 1)
theorem ob_assoc {α β γ τ : Type} (x : Option (α × τ)) (f : α → τ → Option (β × τ)) (g : β → τ → Option γ) : ob (ob x f) g = ob x fun a t => ob (f a t) g := by
  cases x with
  | none => rfl
  | some p => obtain ⟨a, t⟩ := p; rfl
theorem k_make (hx : NdL x0 l X H) (hp : PoW D M) (hn : 167 ≤ mn M) (fx : FXb M) (h604 : mI M 604 x0 = nI K) (hK : K ≤ (pl D l).length ∧ K < X) (rN : rmN D M ≤ 601024) (rS : rmS D M + 60100 ≤ 7293034) (g1 : ChO D M l K c1 t1) (g2 : ChO D M l K c2 t2) (g3 : ChO D M l K c3 t3) :
    ∃ D' M', K_X3_make x0 op vl c1 c2 c3 M = (if hgt t1 t2 t3 ≤ H then some (.inl ((pl D' l).getD K 0), M') else ob (K_X0_wrong (mI M 603 x0) (mI M 605 x0) M') fun r31 M30 => if mk M30 r31 = 7 then some (.inr r31, M30) else none) ∧ PoW D' M' ∧ K < (pl D' l).length ∧ Dx D D' M ∧ (∀ i, i ≠ l → pl D' i = pl D i) ∧ Fq D (fun t => t = x0 ∨ t = l ∨ t = tg l K) M M' ∧ (mI M' 604 x0 = nI (K + 1) ∧ (∀ g, g ≠ 604 → mI M' g x0 = mI M g x0) ∧ ∀ g, mR M' g x0 = mR M g x0) ∧ (mI M' 3400 ((pl D' l).getD K 0) = op ∧ mI M' 3401 ((pl D' l).getD K 0) = vl ∧ mI M' 3402 ((pl D' l).getD K 0) = 0 ∧ mI M' 3403 ((pl D' l).getD K 0) = -1 ∧ mI M' 3404 ((pl D' l).getD K 0) = nI (hgt t1 t2 t3) ∧ mR M' 3405 ((pl D' l).getD K 0) = c1 ∧ mR M' 3406 ((pl D' l).getD K 0) = c2 ∧ mR M' 3407 ((pl D' l).getD K 0) = c3) ∧ rmN D' M' ≤ rmN D M ∧ rmS D' M' ≤ rmS D M := by
  have cx : mk M x0 = 4 ∧ mR M 600 x0 = l ∧ mI M 601 x0 = nI X ∧ mI M 602 x0 = nI H ∧ l ∈ flL ∧ flX l = X ∧ flK l = 18 ∧ flC l = 1 ∧ flZ l = 8 ∧ (104 < x0 ∧ x0 < 167 ∧ x0 ∉ flA) ∧ (104 < l ∧ l < 167 ∧ l ≠ x0) ∧ (l ≠ 98 ∧ l ≠ 99) ∧ X ≤ 40000 ∧ H ≤ 1000 := by
    obtain ⟨f1, f2, f3⟩ := fx
    rcases hx with ⟨rfl, rfl, rfl, rfl⟩ | ⟨rfl, rfl, rfl, rfl⟩ | ⟨rfl, rfl, rfl, rfl⟩ | ⟨rfl, rfl, rfl, rfl⟩
    · exact ⟨(f1 (105, 4, 0) (by decide)).1, f2 (600, 105, 106) (by decide), f3 (601, 105, 12000) (by decide), f3 (602, 105, 100) (by decide), by decide⟩
    · exact ⟨(f1 (107, 4, 0) (by decide)).1, f2 (600, 107, 108) (by decide), f3 (601, 107, 1000) (by decide), f3 (602, 107, 100) (by decide), by decide⟩
    · exact ⟨(f1 (133, 4, 0) (by decide)).1, f2 (600, 133, 134) (by decide), f3 (601, 133, 40000) (by decide), f3 (602, 133, 200) (by decide), by decide⟩
    · exact ⟨(f1 (135, 4, 0) (by decide)).1, f2 (600, 135, 136) (by decide), f3 (601, 135, 30000) (by decide), f3 (602, 135, 300) (by decide), by decide⟩
  obtain ⟨kx, r600, i601, i602, hl, eX, e18, eC, eZ, ⟨x1, x2, x3⟩, ⟨l1, l2, l3⟩, ⟨l98, l99⟩, X4, H1⟩ := cx
  have hlA := flL_A l hl
  have cN : mn M ≤ rmN D M := Nat.le_add_right _ _
  have cS : ms M ≤ rmS D M := Nat.le_add_right _ _
  obtain ⟨p1, p2, p3, p4, p5⟩ := al_plain (M := M) 18 8 (by decide)
  have kl : mk M l = 22 := (hp.1 l hlA).1.1
  have hi : (fun v M => ob (K_X18_init v M) fun _ M41 => if mk M41 l = 22 then some ((), M41) else none) (mn M) (mnew M (flK l) 0 8) = some ((), mnew M 18 0 8) := by
    show (ob (K_X18_init (mn M) (mnew M (flK l) 0 8)) fun _ M41 => if mk M41 l = 22 then some ((), M41) else none) = _
    unfold K_X18_init
    rw [e18, ifT (show ¬ mn M = 0 by omega), ob_some, ifT (by rw [mk_mnew, ifF (by omega)]; exact kl)]
  obtain ⟨D', M1, e, nx⟩ := pool_next (α := (Nat ⊕ Nat) × CM) (init := fun v M => ob (K_X18_init v M) fun _ M41 => if mk M41 l = 22 then some ((), M41) else none) hp hn (l := l) (N := 8) hl hK.1 (by omega) (fun _ => hi) p1 (by rw [e18]; exact p2) (by rw [eC, eZ]; exact ⟨p3, p4⟩) (by rw [eZ]; exact Nat.le_refl _) (fun z => absurd z l98) (fun z => absurd z l99) p5 rN rS (fun M => KJ_X3_make_52 x0 op vl c1 c2 c3 M)
  have nx0 := nx
  obtain ⟨w1, w2, w3, w4, w5, w6, w7, w8⟩ := nx
  have n1 := w4.1
  obtain ⟨a1, a2, a3⟩ := w1.2.1 l hl K w2
  rw [e18] at a1
  obtain ⟨a, ha⟩ : ∃ a, a = (pl D' l).getD K 0 := ⟨_, rfl⟩
  rw [← ha] at a1 a2 a3
  have arr167 : mR M 4201 l < 167 → False := fun z => by
    by_cases q : mR M 4201 l = 4398046511104
    · omega
    · have := ((hp.1 l hlA).2.1 q).1.2; omega
  have sx : So M M1 x0 := w4.so (by omega) (fun z => by
    rcases z with z | z
    · exact l3 z.symm
    · exact arr167 (by omega))
  -- children stay
  have chs : ∀ c t, ChO D M l K c t → ∀ N : CM, (∀ o, mk N o = mk M1 o) → (∀ o, 167 ≤ o → mI N 3404 o = mI M1 3404 o) → ChH N a c t := fun c t g N hN hI => by
    rcases g with g | ⟨k, k1, k2, k3, k4⟩
    · exact Or.inl g
    · right
      have kD : k < (pl D l).length := by omega
      obtain ⟨q1, q2, q3⟩ := hp.2.1 l hl k kD
      rw [← k2, e18] at q1
      rw [← k2] at q2 q3
      have e' : (pl D' l).getD k 0 = c := by rw [(w3.1 l k kD).2, k2]
      have ne : c ≠ a := fun z => by
        have := (w1.inj hl hl (w3.1 l k kD).1 w2 (by rw [e', ← ha, z])).2
        omega
      have sc : So M M1 c := w4.so q2.2 (fun z => by
        rcases z with z | z
        · omega
        · have y : mR M 4201 l ≠ 4398046511104 := by omega
          have := ((hp.1 l hlA).2.1 y).1.1
          rw [← z, q3] at this
          unfold tg at this; omega)
      exact ⟨by omega, by rw [hN, sc.k]; exact q1, ne, by rw [hI c q2.1, sc.i]; exact k3, k4⟩
  obtain ⟨M2, hM2⟩ : ∃ N, N = msI M1 604 x0 (nI (K + 1)) := ⟨_, rfl⟩
  have F2 : Fz (fun o => o = x0) M1 M2 := by rw [hM2]; exact Fz.rf.msI (fun _ => rfl)
  have W2 : PoW D' M2 := w1.gn (by omega) F2 (fun o _ z => Or.inl (by rw [z]; exact ⟨x2, x3⟩)) (fun k _ => by rw [hM2]; rfl) (fun k _ => by rw [hM2]; rfl) (fun o h1 h2 => by rw [hM2] at h2; exact absurd h2 (by show ¬ o < mn M1; omega))
  have ka2 : mk M2 a = 18 := by rw [hM2]; exact a1
  have ks := k_set (M := M2) (op := op) (vl := vl) ka2 (chs c1 t1 g1 M2 (fun o => by rw [hM2]; rfl) (fun o ho => by rw [hM2, mI_msI, ifF (by omega)])) (chs c2 t2 g2 M2 (fun o => by rw [hM2]; rfl) (fun o ho => by rw [hM2, mI_msI, ifF (by omega)])) (chs c3 t3 g3 M2 (fun o => by rw [hM2]; rfl) (fun o ho => by rw [hM2, mI_msI, ifF (by omega)]))
  obtain ⟨M3, hM3⟩ : ∃ N, N = ndM M2 a op vl c1 c2 c3 (mx 1 (t1 + 1)) (mx (mx 1 (t1 + 1)) (t2 + 1)) (mx (mx (mx 1 (t1 + 1)) (t2 + 1)) (t3 + 1)) := ⟨_, rfl⟩
  rw [← hM3] at ks
  have F3 : Fz (fun o => o = a) M2 M3 := by rw [hM3]; exact ndM_f
  obtain ⟨⟨v1, v2, v3, v4, v5, v6, v7, v8⟩, vk, vn, vs⟩ := ndM_v (M := M2) (a := a) (op := op) (vl := vl) (c1 := c1) (c2 := c2) (c3 := c3) (h1 := mx 1 (t1 + 1)) (h2 := mx (mx 1 (t1 + 1)) (t2 + 1)) (h3 := mx (mx (mx 1 (t1 + 1)) (t2 + 1)) (t3 + 1))
  rw [← hM3] at v1 v2 v3 v4 v5 v6 v7 v8 vk vn vs
  have n2 : mn M2 = mn M1 := by rw [hM2]; rfl
  have W3 : PoW D' M3 := W2.wr (by omega) hl w2 (by rw [← ha]; exact F3) (fun z => absurd z l98) (fun z => absurd z l99) (fun o h1 h2 => by omega)
  have sx3 : So M2 M3 x0 := F3.so (by omega) (by omega)
  have b1 := fun p q : Nat => (show mx p q ≤ p + q by unfold mx; by_cases z : p < q; rw [ifT z]; omega; rw [ifF z]; omega)
  have tb : t1 ≤ 1000 ∧ t2 ≤ 1000 ∧ t3 ≤ 1000 := by
    refine ⟨?_, ?_, ?_⟩
    · rcases g1 with ⟨_, h⟩ | ⟨_, _, _, _, h⟩ <;> omega
    · rcases g2 with ⟨_, h⟩ | ⟨_, _, _, _, h⟩ <;> omega
    · rcases g3 with ⟨_, h⟩ | ⟨_, _, _, _, h⟩ <;> omega
  have hb : hgt t1 t2 t3 ≤ 5000 := by
    unfold hgt
    have q1 := b1 1 (t1 + 1)
    have q2 := b1 (mx 1 (t1 + 1)) (t2 + 1)
    have q3 := b1 (mx (mx 1 (t1 + 1)) (t2 + 1)) (t3 + 1)
    omega
  have kr : ∀ N : CM, mI N 602 x0 = mI M 602 x0 → mI N 603 x0 = mI M 603 x0 → True := fun _ _ _ => trivial
  have i3 : ∀ g, g ≠ 604 → mI M3 g x0 = mI M g x0 := fun g hg => by rw [sx3.i, hM2, mI_msI, ifF (fun z => hg z.1), sx.i]
  have kx1 : mk M1 x0 = 4 := by rw [sx.k]; exact kx
  have kx2 : mk M2 x0 = 4 := by rw [hM2]; exact kx1
  have kx3 : mk M3 x0 = 4 := by rw [sx3.k]; exact kx2
  have r600' : mR M2 600 x0 = l := by rw [hM2]; show mR M1 600 x0 = l; rw [sx.r]; exact r600
  have kl2 : mk M2 l = 22 := (W2.1 l hlA).1.1
  have k52 : KJ_X3_make_52 x0 op vl c1 c2 c3 M1 = (if hgt t1 t2 t3 ≤ H then some (.inl a, M3) else ob (K_X0_wrong (mI M 603 x0) (mI M 605 x0) M3) fun r31 M30 => if mk M30 r31 = 7 then some (.inr r31, M30) else none) := by
    unfold KJ_X3_make_52
    rw [ifT kx1, ifT kx1, sx.i, h604, nI_addL, nm_eq, ← hM2, ifT kx2, ifT kx2, r600', ifT kl2]
    have i604 : mI M2 604 x0 - 1 = nI K := by rw [hM2, mI_msI, ifT ⟨rfl, rfl⟩, nI_subL _ _ (by show 1 ≤ K + 1; omega)]; rfl
    rw [i604, ls_get (W2.1 l hlA).1 w2, ob_some, ← ha, ifT (Or.inr ka2), ifT ka2, ks, ob_some, ifT (by rw [(vk a).1]; exact ka2), ifT kx3, v5, i3 602 (by decide), i602]
    have hc : nI (mx (mx (mx 1 (t1 + 1)) (t2 + 1)) (t3 + 1)) ≤ nI H ↔ hgt t1 t2 t3 ≤ H := bI_le (show hgt t1 t2 t3 < 2147483648 by omega) (by omega)
    by_cases q : hgt t1 t2 t3 ≤ H
    · rw [ifT q, ifT (hc.mpr q)]
    · rw [ifF q, ifF (fun z => q (hc.mp z)), ifT kx3, ifT kx3, i3 603 (by decide), i3 605 (by decide)]
  have f1 : Fq D (fun t => t = x0 ∨ t = l ∨ t = tg l K) M M1 := w4.mono (fun o ho z => by
    rcases z with z | z
    · rw [z, tgo_s l2]; exact Or.inr (Or.inl rfl)
    · exact Or.inr (Or.inl ((hp.1 l hlA).2.1.tg (by omega) ho z)))
  have f2 : Fq D' (fun t => t = x0 ∨ t = l ∨ t = tg l K) M1 M2 := F2.mono (fun o ho z => by rw [z, tgo_s x2]; exact Or.inl rfl)
  have f3 : Fq D' (fun t => t = x0 ∨ t = l ∨ t = tg l K) M2 M3 := F3.mono (fun o ho z => by rw [z, ha, w1.tv hl w2]; exact Or.inr (Or.inr rfl))
  have rm1 := rm_same (D := D') (M := M1) (M' := M2) (by rw [hM2]; exact ⟨rfl, rfl⟩) (fun o => by rw [hM2]; exact ⟨rfl, rfl, rfl⟩)
  have rm2 := rm_same (D := D') (M := M2) (M' := M3) ⟨vn, vs⟩ (fun o => ⟨(vk o).2.2.1, (vk o).2.2.2, (vk o).2.1⟩)
  refine ⟨D', M3, ?_, W3, w2, w3, w5, f1.tr (f2.tr f3 (Dx.rf D' M1)) w3, ⟨by rw [sx3.i, hM2, mI_msI, ifT ⟨rfl, rfl⟩], i3, fun g => by rw [sx3.r, hM2]; exact sx.r g⟩, by rw [← ha]; exact ⟨v1, v2, v3, v4, v5, v6, v7, v8⟩, by rw [rm2.1, rm1.1, rm2.2, rm1.2]; exact w6⟩
  rw [← ha, ← k52, ← e]
  unfold K_X3_make
  have nF : ¬ nI K = nI X := fun z => by have := (bI_eq (by omega) (by omega)).mp z; omega
  rw [ifT kx, ifT kx, h604, i601, ifF nF, ifT kx, ifT kx, r600, ifT kl, ls_size (hp.1 l hlA).1, ob_some, ob_some]
  by_cases q : nI K = nI (pl D l).length
  · rw [ifT q, ifT q, ifT kx, e18]
    by_cases q2 : mn M ≤ 601024 ∧ ms M + 8 ≤ 7293034
    · rw [ifT q2, ifT q2, nm_eq, nm_eq, nm_eq, nm_eq]
      by_cases q3 : ¬ mn M = 0
      · rw [ifT q3, ifT q3, ob_assoc]
        congr 1
        funext r M41
        by_cases q4 : mk M41 l = 22
        · rw [r600, ifT q4, ifT q4, ob_some]
        · rw [r600, ifF q4, ifF q4]; rfl
      · rw [ifF q3, ifF q3]
    · rw [ifF q2, ifF q2]
  · rw [ifF q, ifF q]
end KMAKE2
