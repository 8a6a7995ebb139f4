/-! Layer B: flat nodes: one is made, both sides -/
set_option maxRecDepth 100000
/-- fields that the flat model writes: the twin's, the component's -/
abbrev fgS0 : List Nat := [0, 1] ++ List.range' 74 34 ++ List.range' 112 139
abbrev fgO0 : List Nat := [15, 16, 17, 18, 24, 31, 32, 33, 35, 37, 39, 41, 43]
/-- but for the sets of faces (43; 156, 157) -/
abbrev fgS : List Nat := [0, 1] ++ List.range' 74 34 ++ List.range' 112 44 ++ List.range' 158 93
abbrev fgO : List Nat := [15, 16, 17, 18, 24, 31, 32, 33, 35, 37, 39, 41]
/-- a step of it -/
def SgX (M M' : CM) (σ σ' : TS) : Prop := (∀ o, 1 < o → o < 98 → So M M' o) ∧ (∀ f, fgO0.contains f = false → mI M' f 1 = mI M f 1) ∧ Ft fgS0 σ σ' ∧ (mI M 43 1 = tI σ 156 → mI M' 43 1 = tI σ' 156)
/-- a fault of both sides while it is made -/
def FfG (C : PC) (B : Nat) (P : Nat → Prop) (mss fss : List Nat) (M M' : CM) (σ σ' : TS) (w : Nat) : Prop := (∃ D', (IT C B P mss fss M' σ' ∧ PoW D' M' ∧ (∀ o, Tx P M' o → o < mn M' → 167 ≤ o → ow D' o = 0) ∧ FXb M') ∧ rmN D' M' + 3 ≤ cN C ∧ rmS D' M' + 60192 ≤ cS C) ∧ (mk M' w = 7 ∧ mI M' 1200 w = tI σ' 0 ∧ tI σ' 0 ≠ 0 ∧ mI M' 1201 w = 0 ∧ tI σ' 1 = 0) ∧ SgX M M' σ σ'
/-- the set of nodes in use: which, what is counted, K there, the twin's next -/
def NdS (md x0 l X N0 : Nat) (D : FQ) (M : CM) (σ : TS) (K N : Nat) : Prop := (mR M 27 1 = x0 ∧ NdL x0 l X 100) ∧ (mI M 604 x0 = nI K ∧ K ≤ (pl D l).length ∧ K ≤ X ∧ mI M 605 x0 = 0) ∧ (tI σ 126 = nI N ∧ N = N0 + K ∧ N0 ≤ 12001 ∧ 1 ≤ N0) ∧ CtM σ md K ∧ ctX md = X ∧ md ≠ 0 ∧ (l = 106 → N0 = 1) ∧ NdA σ N
section ZMAKE
variable {C : PC} {D D' D2 : FQ} {M M' M1 M2 M3 : CM} {σ σ' σ1 σ2 s : TS} {mss fss : List Nat} {B V I Bm a c1 c2 c3 t1 t2 t3 md x0 l X H K N N0 k w : Nat} {P T : Nat → Prop} {S S' O : List Nat} {op vl op' x2 x3 x4 hv sz r : Int32} {z7 : Nat → Nat}
theorem SgX.rf : SgX M M σ σ := ⟨fun _ _ _ => So.rf _ _, fun _ _ => rfl, Ft.rf _ _, fun e => e⟩
theorem SgX.tr (h : SgX M M1 σ σ1) (g : SgX M1 M2 σ1 σ2) : SgX M M2 σ σ2 := ⟨fun o h1 h2 => (h.1 o h1 h2).tr (g.1 o h1 h2), fun f hf => (g.2.1 f hf).trans (h.2.1 f hf), h.2.2.1.tr g.2.2.1, fun e => g.2.2.2 (h.2.2.2 e)⟩
theorem SgX.mk1 (h1 : ∀ o, 1 < o → o < 98 → So M M' o) (h2 : ∀ f, fgO.contains f = false → mI M' f 1 = mI M f 1) (h3 : Ft fgS σ σ') : SgX M M' σ σ' := ⟨h1, fun f hf => h2 f (by
  cases e : fgO.contains f with
  | false => rfl
  | true =>
    have a : fgO.all fgO0.contains = true := by decide
    have := List.all_eq_true.mp a f (by simpa using e)
    rw [hf] at this; cases this), h3.mono (by decide), fun e => by rw [h2 43 rfl, (h3 156 rfl).1]; exact e⟩
theorem SgX.tw (f : Ft S σ σ') (hS : S.all fgS.contains = true) : SgX M M σ σ' := SgX.mk1 (fun _ _ _ => So.rf _ _) (fun _ _ => rfl) (f.mono hS)
theorem FfG.tr (h : FfG C B P mss fss M M' σ σ' w) (g : SgX M1 M σ1 σ) : FfG C B P mss fss M1 M' σ1 σ' w := ⟨h.1, h.2.1, g.tr h.2.2⟩
theorem FfO.g (h : FfO C B P mss fss T S O D D' M M' σ σ' w) (h167 : 167 ≤ mn M) (hT : ∀ t, T t → ¬ (1 < t ∧ t < 98)) (hS : S.all fgS.contains = true) (hO : O.all fgO.contains = true) : FfG C B P mss fss M M' σ σ' w := by
  obtain ⟨h1, h2, h3, h4, h5, h6, h7, h8⟩ := h
  exact ⟨⟨D', h1, h2⟩, h5, SgX.mk1 (fun o ho1 ho2 => Fz.so h6 (by omega) (fun z => hT _ z (by rw [tgo_s (by omega)]; exact ⟨ho1, ho2⟩))) (fun f hf => (h7.mono hO).1 f hf) (h8.mono hS)⟩
theorem FW.badG (W : FW C B P mss fss D M σ) (hr : r ≠ 0) (h0 : tI σ 0 = 0) : K_X0_wrong r 0 M = some (mn M, wM M r 0) ∧ F_bad r 0 σ = some ((), badT σ r) ∧ FfG C B P mss fss M (wM M r 0) σ (badT σ r) (mn M) := by
  obtain ⟨b1, b2, b3⟩ := W.bad hr h0
  exact ⟨b1, b2, b3.g W.n167 (fun t z => by unfold TFf at z; omega) (by decide) (by decide)⟩
theorem k_makeX (hx : NdL x0 l X H) (fx : FXb M) (h604 : mI M 604 x0 = nI X) : K_X3_make x0 op vl c1 c2 c3 M = ob (K_X0_wrong (mI M 603 x0) (mI M 605 x0) M) fun r54 M53 => if mk M53 r54 = 7 then some (.inr r54, M53) else none := by
  have cx : mk M x0 = 4 ∧ mI M 601 x0 = nI X := by
    obtain ⟨f1, f2, f3⟩ := fx
    rcases hx with ⟨rfl, rfl, rfl, rfl⟩ | ⟨rfl, rfl, rfl, rfl⟩ | ⟨rfl, rfl, rfl, rfl⟩ | ⟨rfl, rfl, rfl, rfl⟩
    · exact ⟨(f1 (105, 4, 0) (by decide)).1, f3 (601, 105, 12000) (by decide)⟩
    · exact ⟨(f1 (107, 4, 0) (by decide)).1, f3 (601, 107, 1000) (by decide)⟩
    · exact ⟨(f1 (133, 4, 0) (by decide)).1, f3 (601, 133, 40000) (by decide)⟩
    · exact ⟨(f1 (135, 4, 0) (by decide)).1, f3 (601, 135, 30000) (by decide)⟩
  unfold K_X3_make
  rw [ifT cx.1, ifT cx.1, h604, cx.2, ifT rfl, ifT cx.1, ifT cx.1]
theorem NdK.n4 {D D' : FQ} {M M' : CM} {σ σ' : TS} {l K N : Nat} (h : NdK D M σ D' M' σ' l K N) : Nd4 σ σ' N := fun f hf n hn => h.2.1 f (by simp only [List.mem_cons, List.not_mem_nil, or_false] at hf ⊢; omega) n hn
/-- one node, both sides -/
theorem z_make (W : FW C B P mss fss D M σ) (FX : FlX z7 C P D mss M σ V I Bm) (NS : NdS md x0 l X N0 D M σ K N) (h0 : tI σ 0 = 0) (g1 : ChO D M l K c1 t1) (g2 : ChO D M l K c2 t2) (g3 : ChO D M l K c3 t3) (ht : hgt t1 t2 t3 ≤ 100) (hF : N < 70000 → F_make op' x2 x3 x4 σ = J_make_433 (nI N) hv (ndT σ N op' x2 x3 x4 sz)) (hh : hv + 1 = nI (hgt t1 t2 t3)) (hz : ∀ σ', Nd4 σ σ' N → tA σ' 121 N = op' ∧ tA σ' 122 N = x2 ∧ tA σ' 123 N = x3 ∧ tA σ' 124 N = x4 → ∃ z, SzR σ' (N + 1) 100 N z ∧ z ≤ N) (hk : op' = 0 → 0 ≤ x2) :
    (∃ M' σ' w y, K_X3_make x0 op vl c1 c2 c3 M = some (.inr w, M') ∧ F_make op' x2 x3 x4 σ = some (y, σ') ∧ FfG C B P mss fss M M' σ σ' w ∧ inb y 70000 ∧ ∃ N', N' ≤ 70000 ∧ tI σ' 126 = nI N') ∨
    (∃ D' M' σ', K_X3_make x0 op vl c1 c2 c3 M = some (.inl ((pl D' l).getD K 0), M') ∧ F_make op' x2 x3 x4 σ = some (nI N, σ') ∧ FW C B P mss fss D' M' σ' ∧ FlX z7 C P D' mss M' σ' V I Bm ∧ NdS md x0 l X N0 D' M' σ' (K + 1) (N + 1) ∧ tI σ' 0 = 0 ∧ Wz C C P M M' σ σ' ∧ Dx D D' M ∧ (∀ i, i ≠ l → pl D' i = pl D i) ∧ NdK D M σ D' M' σ' l K N ∧ Fq D (fun t => t = x0 ∨ t = l ∨ t = tg l K) M M' ∧ SgX M M' σ σ' ∧ (Ft [121, 122, 123, 124, 125, 126, 127, 131, 134] σ σ' ∧ (tI σ 129 = 0 → tI σ' 127 = tI σ 127)) ∧ (mI M' 3400 ((pl D' l).getD K 0) = op ∧ mI M' 3401 ((pl D' l).getD K 0) = vl ∧ mI M' 3402 ((pl D' l).getD K 0) = 0 ∧ mI M' 3403 ((pl D' l).getD K 0) = -1 ∧ mI M' 3404 ((pl D' l).getD K 0) = nI (hgt t1 t2 t3) ∧ mR M' 3405 ((pl D' l).getD K 0) = c1 ∧ mR M' 3406 ((pl D' l).getD K 0) = c2 ∧ mR M' 3407 ((pl D' l).getD K 0) = c3) ∧ tA σ' 121 N = op' ∧ tA σ' 122 N = x2 ∧ tA σ' 123 N = x3 ∧ tA σ' 124 N = x4 ∧ tA σ' 134 N = nI (hgt t1 t2 t3)) := by
  have h167 := W.n167
  have hm := W.rm
  obtain ⟨⟨n1, n2⟩, ⟨n3, n4, n5, n6⟩, ⟨n7, n8, n9, n10⟩, n11, n12, n13, nl, na⟩ := NS
  have ax : 104 < x0 ∧ x0 < 167 ∧ 104 < l ∧ l < 167 ∧ l ≠ x0 ∧ X ≤ 40000 ∧ (ctX md ≤ 12000) ∧ x0 ≠ 1 := by
    have : ctX md ≤ 12000 := by unfold ctX; by_cases z : md = 1; rw [ifT z]; exact Nat.le_refl _; rw [ifF z]; omega
    rcases n2 with ⟨rfl, rfl, rfl, -⟩ | ⟨rfl, rfl, rfl, -⟩ | ⟨rfl, rfl, rfl, -⟩ | ⟨rfl, rfl, rfl, -⟩ <;> exact ⟨by decide, by decide, by decide, by decide, by decide, by decide, this, by decide⟩
  have N7 : N < 70000 := by omega
  have hF := hF N7
  obtain ⟨s1, hs1⟩ : ∃ q, q = ndT σ N op' x2 x3 x4 sz := ⟨_, rfl⟩
  rw [← hs1] at hF
  have fn : Ft [121, 122, 123, 124, 125, 126] σ s1 := by rw [hs1]; exact ndT_f
  have vn := ndT_v (σ := σ) (N := N) (op := op') (x2 := x2) (x3 := x3) (x4 := x4) (sz := sz)
  rw [← hs1] at vn
  obtain ⟨⟨v1, v2, v3, v4, v5, v6⟩, vo⟩ := vn
  have hc1 : CtM s1 md K := by
    rcases n11 with ⟨q1, q2, q3⟩ | ⟨q1, q2, q3, q4⟩ | ⟨q1, q2, q3⟩
    · exact Or.inl ⟨q1, by rw [(fn 129 rfl).1]; exact q2, by rw [(fn 127 rfl).1]; exact q3⟩
    · exact Or.inr (Or.inl ⟨q1, by rw [(fn 129 rfl).1]; exact q2, by rw [(fn 130 rfl).1]; exact q3, by rw [(fn 131 rfl).1]; exact q4⟩)
    · exact Or.inr (Or.inr ⟨q1, by rw [(fn 129 rfl).1]; exact q2, by rw [(fn 130 rfl).1]; exact q3⟩)
  obtain ⟨σ', u1, u2, u3, u4, u5, u6, u7, u8, u9⟩ := t_433 (h := hv) (s := s1) N7 hc1 (show K ≤ 12000 by omega)
  have h01 : tI s1 0 = 0 := by rw [(fn 0 rfl).1]; exact h0
  have wr : ∀ (D2 : FQ) (M2 : CM) (σ2 : TS), FW C B P mss fss D2 M2 σ2 → tI σ2 0 = 0 → mI M2 603 x0 = mI M 603 x0 → mI M2 605 x0 = mI M 605 x0 → (ob (K_X0_wrong (mI M 603 x0) (mI M 605 x0) M2) fun r54 M53 => if mk M53 r54 = 7 then some ((.inr r54 : Nat ⊕ Nat), M53) else none) = some (.inr (mn M2), wM M2 24 0) ∧ FfG C B P mss fss M2 (wM M2 24 0) σ2 (badT σ2 24) (mn M2) := fun D2 M2 σ2 W2 z1 z2 z3 => by
    have i603 : mI M 603 x0 = 24 := by
      obtain ⟨f1, f2, f3⟩ := W.2.2.2.1
      rcases n2 with ⟨rfl, rfl, rfl, q⟩ | ⟨rfl, rfl, rfl, q⟩ | ⟨rfl, rfl, rfl, q⟩ | ⟨rfl, rfl, rfl, q⟩
      · exact f3 (603, 105, 24) (by decide)
      · exact f3 (603, 107, 24) (by decide)
      · exact absurd q (by decide)
      · exact absurd q (by decide)
    obtain ⟨b1, b2, b3⟩ := W2.badG (r := 24) (by decide) z1
    exact ⟨by rw [i603, n6, b1, ob_some, ifT (wM_k M2 24 0)], b3⟩
  by_cases hK : K = X
  · left
    obtain ⟨s2, f2, e2⟩ := u8 n13 (by omega) h01
    have f02 : Ft [121, 122, 123, 124, 125, 126, 127, 131, 134] σ s2 := (fn.mono (by decide)).tr (f2.mono (by decide))
    have W2 := (W.wzT f02 (by decide)).1
    have h02 : tI s2 0 = 0 := by rw [(f02 0 rfl).1]; exact h0
    obtain ⟨w1, w2⟩ := wr D M s2 W2 h02 rfl rfl
    exact ⟨_, σ', _, _, by rw [k_makeX n2 W.2.2.2.1 (by rw [n3, hK]), w1], by rw [hF]; exact u1, by rw [e2]; exact w2.tr (SgX.tw f02 (by decide)), inb_nI' N7 (by decide), N + 1, by omega, by rw [e2]; show tI s2 126 = _; rw [(f2 126 rfl).1]; exact v1⟩
  · right
    obtain ⟨D', M', k1, k2, k3, k4, k5, k6, ⟨k7, k8, k9⟩, k10, k11⟩ := k_make (op := op) (vl := vl) n2 W.2.1 h167 W.2.2.2.1 n3 ⟨n4, by omega⟩ W.rN W.rS g1 g2 g3
    rw [ifT ht] at k1
    have f1' := u7 (Or.inr (Or.inl (by omega)))
    have f01 : Ft [121, 122, 123, 124, 125, 126, 127, 131, 134] σ σ' := (fn.mono (by decide)).tr (f1'.mono (by decide))
    have s0 : ∀ o, o < 167 → o ≠ x0 → o ≠ l → So M M' o := fun o h1 h2 h3 => Fz.so k6 (by omega) (fun z => by
      rw [tgo_s h1] at z
      unfold tg at z
      rcases z with z | z | z
      · exact h2 z
      · exact h3 z
      · omega)
    have hTG : ∀ t, (t = x0 ∨ t = l ∨ t = tg l K) → TG t := fun t z => by unfold TG; unfold tg at z; omega
    obtain ⟨W', v⟩ := W.mv2 (k6.mono hTG) ((s0 1 (by decide) (by omega) (by omega)).i 9) k2 k4 k11 (fun q hq => by
      by_cases y : q.2.1 = x0
      · rw [y]; exact k9 q.1
      · have hq' := fixO q hq
        by_cases y2 : q.2.1 = l
        · exfalso
          have h1 : ∀ q, q ∈ bfR → q.2.1 ∉ flA := by decide
          have h2 : l ∈ flA := by
            rcases n2 with ⟨rfl, rfl, rfl, -⟩ | ⟨rfl, rfl, rfl, -⟩ | ⟨rfl, rfl, rfl, -⟩ | ⟨rfl, rfl, rfl, -⟩ <;> decide
          exact h1 q hq (by rw [y2]; exact h2)
        · exact (s0 _ hq'.2 y y2).r _) (fun q hq => by
      by_cases y : q.2.1 = x0
      · rw [y]
        have h1 : ∀ q, q ∈ bfI → q.1 ≠ 604 := by decide
        exact k8 q.1 (h1 q hq)
      · have hq' := fixI q hq
        by_cases y2 : q.2.1 = l
        · exfalso
          have h1 : ∀ q, q ∈ bfI → q.2.1 ∉ flA := by decide
          have h2 : l ∈ flA := by
            rcases n2 with ⟨rfl, rfl, rfl, -⟩ | ⟨rfl, rfl, rfl, -⟩ | ⟨rfl, rfl, rfl, -⟩ | ⟨rfl, rfl, rfl, -⟩ <;> decide
          exact h1 q hq (by rw [y2]; exact h2)
        · exact (s0 _ hq'.2 y y2).i _) f01 (by decide)
    have so1 := s0 1 (by decide) (by omega) (by omega)
    have FX' := FX.kp W k6 (fun t z => by unfold TV; unfold tg at *; omega) (fun k hk => by
      have s := W.2.1.so3 (k := k) (l := 98) (by decide) (by have := FX.1.1.1; omega) k6 (fun z => by have := FX.2.1.1; unfold tg at z; omega)
      exact ⟨fun f _ => s.i f, fun f _ => s.r f⟩) v k4 f01 (by decide) ⟨so1.i _, so1.i _⟩
    have d4 : Nd4 σ σ' N := fun f hf n hn => by
      have ne : n ≠ N := by omega
      simp only [List.mem_cons, List.not_mem_nil, or_false] at hf
      rcases hf with rfl | rfl | rfl | rfl
      · rw [(f1' 121 rfl).2.2.1]; exact vo 121 (by decide) n ne
      · rw [(f1' 122 rfl).2.2.1]; exact vo 122 (by decide) n ne
      · rw [(f1' 123 rfl).2.2.1]; exact vo 123 (by decide) n ne
      · rw [(f1' 124 rfl).2.2.1]; exact vo 124 (by decide) n ne
    have hz' := hz σ' d4 ⟨by rw [(f1' 121 rfl).2.2.1]; exact v2, by rw [(f1' 122 rfl).2.2.1]; exact v3, by rw [(f1' 123 rfl).2.2.1]; exact v4, by rw [(f1' 124 rfl).2.2.1]; exact v5⟩
    refine ⟨D', M', σ', k1, by rw [hF]; exact u1, W', FX', ⟨⟨by rw [so1.r]; exact n1, n2⟩, ⟨k7, by omega, by omega, by rw [k8 605 (by decide)]; exact n6⟩, ⟨by rw [(f1' 126 rfl).1, v1], by omega, n9, n10⟩, u5 n13, n12, n13, nl, na.add d4 hz' (by rw [(f1' 121 rfl).2.2.1, (f1' 122 rfl).2.2.1, v2, v3]; exact hk)⟩, by rw [(f01 0 rfl).1]; exact h0, v, k4, k5, ⟨fun k hk => ?_, fun f hf n hn => ?_, fun v => (f01 94 rfl).2.2.1 v⟩, k6, SgX.mk1 (fun o h1 h2 => s0 o (by omega) (by omega) (by omega)) (fun f _ => so1.i f) (f01.mono (by decide)), ⟨f01, fun z => (u9 (((fn 129 rfl).1).trans z)).trans (fn 127 rfl).1⟩, k10, by rw [(f1' 121 rfl).2.2.1]; exact v2, by rw [(f1' 122 rfl).2.2.1]; exact v3, by rw [(f1' 123 rfl).2.2.1]; exact v4, by rw [(f1' 124 rfl).2.2.1]; exact v5, by rw [u3]; exact hh⟩
    · have lL : l ∈ flL := by
        rcases n2 with ⟨rfl, rfl, rfl, -⟩ | ⟨rfl, rfl, rfl, -⟩ | ⟨rfl, rfl, rfl, -⟩ | ⟨rfl, rfl, rfl, -⟩ <;> decide
      have s := W.2.1.so3 (k := k) lL (by omega) k6 (fun z => by unfold tg at z; omega)
      exact ⟨(k4.1 l k (by omega)).2, fun f _ => s.i f, fun f _ => s.r f⟩
    · have ne : n ≠ N := by omega
      simp only [List.mem_cons, List.not_mem_nil, or_false] at hf
      rcases hf with rfl | rfl | rfl | rfl | rfl | rfl
      · rw [(f1' 121 rfl).2.2.1]; exact vo 121 (by decide) n ne
      · rw [(f1' 122 rfl).2.2.1]; exact vo 122 (by decide) n ne
      · rw [(f1' 123 rfl).2.2.1]; exact vo 123 (by decide) n ne
      · rw [(f1' 124 rfl).2.2.1]; exact vo 124 (by decide) n ne
      · rw [u4 n ne]; exact (fn 134 rfl).2.2.1 n
      · exact (f01 162 rfl).2.2.1 n
end ZMAKE
