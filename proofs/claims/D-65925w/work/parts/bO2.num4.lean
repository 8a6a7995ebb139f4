/-! Layer B: the flat model: relations are numbered, one tree on both sides -/
set_option maxRecDepth 100000
section NUMBER4
variable {fx : Int32} {C : PC} {D : FQ} {M M1 M2 : CM} {σ σ' σ1 σ2 σ0 s s' s1 s2 s3 : TS} {mss fss : List Nat} {B K N V v l k h h1 h2 n p q c1 c2 c3 tf a : Nat} {L L1 L2 L3 : List Nat} {x x2 x3 y r : Int32} {S : List Nat} {P : Nat → Prop}
theorem ob_idu {X : Option (Unit × TS)} : (ob X fun _ s => some ((), s)) = X := by
  cases X with
  | none => rfl
  | some q => rfl
theorem ht_ch (hn : n ≠ 0 ∧ n < 70000) (hh : h ≤ 100) (hop : tA σ 121 n = 5 ∨ tA σ 121 n = 6 ∨ tA σ 121 n = 8 ∨ tA σ 121 n = 9) (e1 : tA σ 122 n = nI c1) (e2 : tA σ 123 n = nI c2) (g1 : HS σ h c1 L1) (g2 : HT σ h c2 L2) : HT σ (h + 1) n (L1 ++ L2) := fun tf hf s p m hp h12 => by
  obtain ⟨tf, rfl⟩ : ∃ g, tf = g + 1 := ⟨tf - 1, by omega⟩
  have inn : inb (nI n) 70000 := inb_nI' hn.2 (by decide)
  have xn : ix (nI n) = n := ix_nI (by omega)
  have t1 := m.tb (k := 121) (by omega) n
  have hFU : 1000 < FU := by unfold FU; decide
  obtain ⟨w, s3, w1, w2, w3⟩ := hs_ch hn hop e1 e2 g1 g2 tf (by omega) FU FU p (by omega) (by omega) s p (Nat.le_refl _) m hp h12
  have j30 : J_numberIn_30 (G_numberIn tf) (nI n) s = some ((), s3) := by
    obtain ⟨g', hg'⟩ : ∃ g, FU - w = g + 1 := ⟨FU - w - 1, by omega⟩
    unfold J_numberIn_30
    rw [nm_eq, hp]
    simp only [ob_idu]
    rw [w2, hg']
    unfold L_numberIn_124
    rw [(w3.p140 m).trans hp, ifT ((bI_le (by omega) (by omega)).mpr (Nat.le_refl _))]
  refine ⟨s3, ?_, w3⟩
  show B_numberIn (G_numberIn tf) (nI n) s = _
  unfold B_numberIn
  rw [ifT inn, nm_eq, xn, t1]
  rcases hop with q | q | q | q
  · rw [q, ifT (rfl : (5 : Int32) = 5)]; exact j30
  · rw [q, ifF (show ¬ (6 : Int32) = 5 by decide), ifT (rfl : (6 : Int32) = 6)]; exact j30
  · rw [q, ifF (show ¬ (8 : Int32) = 5 by decide), ifF (show ¬ (8 : Int32) = 6 by decide), ifT (rfl : (8 : Int32) = 8)]; exact j30
  · rw [q, ifF (show ¬ (9 : Int32) = 5 by decide), ifF (show ¬ (9 : Int32) = 6 by decide), ifF (show ¬ (9 : Int32) = 8 by decide), ifT (rfl : (9 : Int32) = 9)]; exact j30
theorem hs_c (hn : n ≠ 0 ∧ n < 70000) (hop : tA σ 121 n = 5 ∨ tA σ 121 n = 6 ∨ tA σ 121 n = 8 ∨ tA σ 121 n = 9) (e1 : tA σ 122 n = nI c1) (e2 : tA σ 123 n = nI c2) (g1 : HS σ h c1 L1) (g2 : HT σ h c2 L2) : HS σ (h + 1) n (L1 ++ L2) := fun tf hf f g p0 h1 h2 s p hp0 m hp h12 => hs_ch hn hop e1 e2 g1 g2 tf (by omega) f g p0 h1 h2 s p hp0 m hp h12
theorem HK.n31 (a0 : a ≠ 0) (ka : mk M a = 18) (hop : (mI M 3400 a < 20 ∨ (¬ mI M 3400 a < 20 ∧ ¬ mI M 3400 a ≤ 25)) ∧ ¬ mI M 3400 a = 29) (g1 : HK D M h (mR M 3405 a) L1) (g2 : HK D M h (mR M 3406 a) L2) (g3 : HK D M h (mR M 3407 a) L3) : HK D M (h + 1) a (L1 ++ (L2 ++ L3)) := HK.nd a0 ka g1 (fun kf hk M2 m => by
  rw [m.2.1]
  rcases hop.1 with q | ⟨q, q2⟩
  · rw [ifT q]; exact HK.j31 ka hop.2 g2 g3 hk m
  · rw [ifF q, ifF q2]; exact HK.j31 ka hop.2 g2 g3 hk m)
theorem HK.n40 (a0 : a ≠ 0) (ka : mk M a = 18) (hop : (¬ mI M 3400 a < 20 ∧ mI M 3400 a ≤ 25) ∨ (¬ mI M 3400 a < 20 ∧ ¬ mI M 3400 a ≤ 25 ∧ mI M 3400 a = 29)) (hka : a = (pl D 106).getD k 0) (g1 : HK D M h (mR M 3405 a) L1) (g2 : HK D M h (mR M 3406 a) L2) : HK D M (h + 1) a (L1 ++ (L2 ++ [k])) := HK.nd a0 ka g1 (fun kf hk M2 m => by
  rw [m.2.1]
  rcases hop with ⟨q, q2⟩ | ⟨q, q2, q3⟩
  · rw [ifF q, ifT q2]; exact HK.j40 ka g2 hk m hka
  · rw [ifF q, ifF q2]
    unfold KJ_X0_number_31
    rw [ifT ((m.1 a).trans ka), m.2.1, ifT q3]
    exact HK.j40 ka g2 hk m hka)
/-- every relation below is in the list -/
def Cv (D : FQ) (M : CM) (h a : Nat) (L : List Nat) : Prop := ∀ b, Rc M h a b → RlO (mI M 3400 b) → ∃ k, k ∈ L ∧ b = (pl D 106).getD k 0
theorem Cv.nd (g1 : mR M 3405 a ≠ 0 → Cv D M h (mR M 3405 a) L) (g2 : mR M 3406 a ≠ 0 → Cv D M h (mR M 3406 a) L) (g3 : mR M 3407 a ≠ 0 → Cv D M h (mR M 3407 a) L) (ha : RlO (mI M 3400 a) → ∃ k, k ∈ L ∧ a = (pl D 106).getD k 0) : Cv D M (h + 1) a L := fun b hb hr => by
  rcases hb with hb | ⟨z, hb⟩ | ⟨z, hb⟩ | ⟨z, hb⟩
  · rw [hb] at hr ⊢; exact ha hr
  · exact g1 z b hb hr
  · exact g2 z b hb hr
  · exact g3 z b hb hr
theorem Cv.in (g : Cv D M h a L1) (hs : ∀ k, k ∈ L1 → k ∈ L) : Cv D M h a L := fun b hb hr => by
  obtain ⟨k, k1, k2⟩ := g b hb hr
  exact ⟨k, hs k k1, k2⟩
def RlL (V K N : Nat) (D : FQ) (M : CM) (σ : TS) (k : Nat) : Prop := RlO (mI M 3400 ((pl D 106).getD k 0)) ∧ NdR 0 D M σ 106 V 100 1 K N ((pl D 106).getD k 0) (k + 1)
theorem RlL.mv {V K N K' N' k : Nat} {D D' : FQ} {M M' : CM} {σ σ' : TS} (g : NdKn D M σ D' M' σ' 106 K N) (hK : K ≤ K') (hN : N ≤ N') (hk : k < K) (h : RlL V K N D M σ k) : RlL V K' N' D' M' σ' k := by
  obtain ⟨e1, e2, -⟩ := g.1 k hk
  unfold RlL at *
  rw [e1, e2 3400 (by decide)]
  exact ⟨h.1, NdR.mvn (fun q => q) g hK hN (Nat.le_refl V) 100 100 1 _ _ (Nat.le_refl _) h.2⟩
/-- a tree of an equation, an action or a when -/
def RtT (σ : TS) (n : Nat) : Prop := (∃ e, e < ix (tI σ 143) ∧ (tA σ 141 e = nI n ∨ tA σ 142 e = nI n)) ∨ (∃ i, i < ix (tI σ 152) ∧ tA σ 151 i = nI n) ∨ ∃ w, w < ix (tI σ 148) ∧ tA σ 145 w = nI n
theorem RtT.ft {σ σ' : TS} {S : List Nat} {n : Nat} (h : RtT σ n) (f : Ft S σ σ') (hS : [141, 142, 143, 145, 148, 151, 152].all (fun k => !S.contains k) = true) : RtT σ' n := by
  have hf : ∀ k, k ∈ [141, 142, 143, 145, 148, 151, 152] → S.contains k = false := fun k hk => by simpa using List.all_eq_true.mp hS k hk
  unfold RtT
  rw [(f 143 (hf 143 (by decide))).1, (f 148 (hf 148 (by decide))).1, (f 152 (hf 152 (by decide))).1]
  rcases h with ⟨e, e1, e2⟩ | ⟨e, e1, e2⟩ | ⟨e, e1, e2⟩
  · exact Or.inl ⟨e, e1, by rw [(f 141 (hf 141 (by decide))).2.2.1, (f 142 (hf 142 (by decide))).2.2.1]; exact e2⟩
  · exact Or.inr (Or.inl ⟨e, e1, by rw [(f 151 (hf 151 (by decide))).2.2.1]; exact e2⟩)
  · exact Or.inr (Or.inr ⟨e, e1, by rw [(f 145 (hf 145 (by decide))).2.2.1]; exact e2⟩)
/-- a relation or sample that stands in such a tree -/
def RlN (V K N : Nat) (D : FQ) (M : CM) (σ : TS) (k : Nat) : Prop := RlL V K N D M σ k ∧ ∃ n, RtT σ n ∧ OcT σ N 100 n (k + 1)
theorem RlN.mv {V K N K' N' k : Nat} {D D' : FQ} {M M' : CM} {σ σ' : TS} {S : List Nat} (g : NdKn D M σ D' M' σ' 106 K N) (hK : K ≤ K') (hN : N ≤ N') (hk : k < K) (f : Ft S σ σ') (hS : [141, 142, 143, 145, 148, 151, 152].all (fun k => !S.contains k) = true) (h : RlN V K N D M σ k) : RlN V K' N' D' M' σ' k := by
  obtain ⟨h1, n, h2, h3⟩ := h
  exact ⟨h1.mv g hK hN hk, n, h2.ft f hS, OcT.mv (fun f hf n hn => g.2.1 f (by simp only [List.mem_cons, List.not_mem_nil, or_false] at hf ⊢; omega) n hn) hN _ _ _ _ (Nat.le_refl _) h3⟩
theorem RlO.mem {x : Int32} (h : RlO x) : x ∈ rlO := by
  unfold RlO at h
  simp only [List.mem_cons, List.not_mem_nil, or_false]
  exact h
def ZN (V N : Nat) (D : FQ) (M : CM) (σ : TS) (K h a n : Nat) (L : List Nat) : Prop := (∀ k, k ∈ L → k < K ∧ RlL V K N D M σ k ∧ OcT σ N h n (k + 1)) ∧ HK D M h a L ∧ HT σ h n L ∧ HS σ h n L ∧ Cv D M h a L ∧ L.Pairwise (· ≠ ·)
theorem pw_app {L1 L2 : List Nat} (p1 : L1.Pairwise (· ≠ ·)) (p2 : L2.Pairwise (· ≠ ·)) (h : ∀ k, k ∈ L1 → k ∈ L2 → False) : (L1 ++ L2).Pairwise (· ≠ ·) := List.pairwise_append.mpr ⟨p1, p2, fun a ha b hb e => h a ha (e ▸ hb)⟩
theorem z_numT (W : FW C B P mss fss D M σ0) (A : NdA σ N) (hK : K ≤ (pl D 106).length ∧ N ≤ 70000) : ∀ (h s a n : Nat), h ≤ 100 → NdR fx D M σ 106 V h s K N a n → ∃ L, ZN V N D M σ K h a n L
  | 0, _, _, _, _, z => z.elim
  | h + 1, s, a, n, hh, z => by
    have ih := fun s a n z => z_numT W A hK h s a n (by omega) z
    have z0 := z
    obtain ⟨⟨⟨k, k1, k2, kl⟩, n1, n2⟩, ⟨t, t1, t2, t3, t4, -⟩, z⟩ := z
    have rl : s = 1 → RlO (mI M 3400 a) → RlL V K N D M σ k := fun hs ho => by
      unfold RlL
      rw [← k2, ← kl rfl, ← hs]
      refine ⟨ho, ?_⟩
      exact NdR.mvx (fun q => absurd q (by decide)) NdK.rf (Nat.le_refl _) (Nat.le_refl _) (Nat.le_refl V) (h + 1) 100 s a n hh z0
    have hkn : k + 1 = n ∧ n < 70000 := ⟨(kl rfl).symm, by omega⟩
    have up2 : ∀ {x k : Nat}, tA σ 121 n ∈ kd2 → tA σ 122 n = nI x → (k < K ∧ RlL V K N D M σ k ∧ OcT σ N h x (k + 1)) → k < K ∧ RlL V K N D M σ k ∧ OcT σ N (h + 1) n (k + 1) := fun hk e q => ⟨q.1, q.2.1, ⟨n2, by omega⟩, Or.inr (Or.inl ⟨hk, _, e, q.2.2⟩)⟩
    have up3 : ∀ {x k : Nat}, tA σ 121 n ∈ kd3 → tA σ 123 n = nI x → (k < K ∧ RlL V K N D M σ k ∧ OcT σ N h x (k + 1)) → k < K ∧ RlL V K N D M σ k ∧ OcT σ N (h + 1) n (k + 1) := fun hk e q => ⟨q.1, q.2.1, ⟨n2, by omega⟩, Or.inr (Or.inr (Or.inl ⟨hk, _, e, q.2.2⟩))⟩
    have up4 : ∀ {x k : Nat}, tA σ 121 n ∈ kd4 → tA σ 124 n = nI x → (k < K ∧ RlL V K N D M σ k ∧ OcT σ N h x (k + 1)) → k < K ∧ RlL V K N D M σ k ∧ OcT σ N (h + 1) n (k + 1) := fun hk e q => ⟨q.1, q.2.1, ⟨n2, by omega⟩, Or.inr (Or.inr (Or.inr ⟨hk, _, e, q.2.2⟩))⟩
    have slf : OcT σ N (h + 1) n (k + 1) := ⟨⟨n2, by omega⟩, Or.inl (kl rfl).symm⟩
    have ka : mk M a = 18 ∧ a ≠ 0 := by
      obtain ⟨u1, u2, -⟩ := W.2.1.2.1 106 (by decide) k (by omega)
      rw [k2]
      exact ⟨u1, by omega⟩
    have hn : n ≠ 0 ∧ n < 70000 := ⟨by omega, by omega⟩
    have hn1 : 1 ≤ n ∧ n < N := ⟨by omega, n2⟩
    have nr : ∀ {c : Int32}, ¬ RlO c → ∀ {L : List Nat}, mI M 3400 a = c → RlO (mI M 3400 a) → ∃ k, k ∈ L ∧ a = (pl D 106).getD k 0 := fun hc _ e hr => by rw [e] at hr; exact absurd hr hc
    have cz : ∀ {f : Nat} {L : List Nat}, mR M f a = 0 → mR M f a ≠ 0 → Cv D M h (mR M f a) L := fun e z => absurd e z
    have lf : ∀ c : Int32, mI M 3400 a = c → (c < 20 ∧ ¬ c = 29) → ¬ RlO c → mR M 3405 a = 0 → mR M 3406 a = 0 → mR M 3407 a = 0 → (tA σ 121 n = 0 ∨ tA σ 121 n = 1 ∨ tA σ 121 n = 2 ∨ tA σ 121 n = 3 ∨ tA σ 121 n = 4) → ∃ L, ZN V N D M σ K (h + 1) a n L := fun c e hc hr e5 e6 e7 ho => by
      have t := ht_lf (h := h) hn ho
      refine ⟨[], fun k hk => absurd hk List.not_mem_nil, ?_, t, hs_of hn ?_ t, Cv.nd (cz e5) (cz e6) (cz e7) (nr hr e), List.Pairwise.nil⟩
      · have := HK.n31 (D := D) (h := h) (L1 := []) (L2 := []) (L3 := []) ka.2 ka.1 ⟨Or.inl (by rw [e]; exact hc.1), by rw [e]; exact hc.2⟩ (by rw [e5]; exact HK.z) (by rw [e6]; exact HK.z) (by rw [e7]; exact HK.z)
        exact this
      · rcases ho with q | q | q | q | q <;> rw [q] <;> decide
    rcases z with ⟨-, c1, c2, -, c3, c4, c5⟩ | ⟨-, c1, -, c3, c4, c5⟩ | ⟨-, c1, c2, -, c3, c4, c5⟩ | ⟨-, c1, ⟨x1, c2, c3⟩, c4, c5⟩ | ⟨-, c1, ⟨x1, c2, c3⟩, ⟨y1, c4, c5⟩, c6⟩ | ⟨-, c1, c0, ⟨x1, c2, c3⟩, ⟨y1, c4, c5⟩, z1, c6, c7⟩ | ⟨cs, c0, c1, ⟨x1, c2, c3⟩, ⟨y1, c4, c5⟩, c6⟩ | ⟨-, c1, ⟨x1, c2, c3⟩, ⟨y1, c4, c5⟩, c6⟩ | ⟨-, c1, c0, ⟨x1, c2, c3⟩, c4, c5⟩ | ⟨cs, c1, c0, -, -, c3, c4, c5⟩
    · exact lf 0 c1 (by decide) (by unfold RlO; decide) c3 c4 c5 (Or.inl c2)
    · simp only [List.mem_cons, List.not_mem_nil, or_false, Prod.mk.injEq] at c1
      rcases c1 with ⟨q1, q2⟩ | ⟨q1, q2⟩ | ⟨q1, q2⟩
      · exact lf 1 q1 (by decide) (by unfold RlO; decide) c3 c4 c5 (by rw [q2]; decide)
      · exact lf 15 q1 (by decide) (by unfold RlO; decide) c3 c4 c5 (by rw [q2]; decide)
      · exact lf 16 q1 (by decide) (by unfold RlO; decide) c3 c4 c5 (by rw [q2]; decide)
    · exact lf 2 c1 (by decide) (by unfold RlO; decide) c3 c4 c5 (by rw [c2]; decide)
    · obtain ⟨L, l1, l2, l3, l4, l5, l6⟩ := ih _ _ _ c3
      have op : (tA σ 121 n = 7 ∨ tA σ 121 n = 10 ∨ tA σ 121 n = 11 ∨ tA σ 121 n = 12 ∨ tA σ 121 n = 13 ∨ tA σ 121 n = 23) ∧ (mI M 3400 a < 20 ∧ ¬ mI M 3400 a = 29 ∧ ¬ RlO (mI M 3400 a)) := by
        simp only [List.mem_cons, List.not_mem_nil, or_false, Prod.mk.injEq] at c1
        unfold RlO
        rcases c1 with ⟨q1, q2⟩ | ⟨q1, q2⟩ | ⟨q1, q2⟩ | ⟨q1, q2⟩ | ⟨q1, q2⟩ <;> rw [q1, q2] <;> decide
      have t := ht_un hn op.1 c2 l3
      refine ⟨L, fun k hk => up2 (by rcases op.1 with q | q | q | q | q | q <;> rw [q] <;> decide) c2 (l1 k hk), ?_, t, hs_of hn ?_ t, Cv.nd (fun _ => l5) (cz c4) (cz c5) (fun hr => absurd hr op.2.2.2), l6⟩
      · have := HK.n31 (D := D) (h := h) (L1 := L) (L2 := []) (L3 := []) ka.2 ka.1 ⟨Or.inl op.2.1, op.2.2.1⟩ l2 (by rw [c4]; exact HK.z) (by rw [c5]; exact HK.z)
        rw [show L ++ ([] ++ []) = L from List.append_nil L] at this
        exact this
      · rcases op.1 with q | q | q | q | q | q <;> rw [q] <;> decide
    · obtain ⟨L, l1, l2, l3, l4, l5, l6⟩ := ih _ _ _ c3
      obtain ⟨L', r1, r2, r3, r4, r5, r6⟩ := ih _ _ _ c5
      have op : ((tA σ 121 n = 5 ∨ tA σ 121 n = 6 ∨ tA σ 121 n = 8 ∨ tA σ 121 n = 9) ∨ (tA σ 121 n = 14 ∨ tA σ 121 n = 15 ∨ tA σ 121 n = 21 ∨ tA σ 121 n = 22) ∧ (tA σ 121 n ≠ 5 ∧ tA σ 121 n ≠ 6 ∧ tA σ 121 n ≠ 8 ∧ tA σ 121 n ≠ 9)) ∧ (mI M 3400 a < 20 ∧ ¬ mI M 3400 a = 29 ∧ ¬ RlO (mI M 3400 a)) := by
        simp only [List.mem_cons, List.not_mem_nil, or_false, Prod.mk.injEq] at c1
        unfold RlO
        rcases c1 with ⟨q1, q2⟩ | ⟨q1, q2⟩ | ⟨q1, q2⟩ | ⟨q1, q2⟩ | ⟨q1, q2⟩ | ⟨q1, q2⟩ <;> rw [q1, q2] <;> decide
      have hk : HK D M (h + 1) a (L ++ L') := by
        have := HK.n31 (D := D) (h := h) (L1 := L) (L2 := L') (L3 := []) ka.2 ka.1 ⟨Or.inl op.2.1, op.2.2.1⟩ l2 r2 (by rw [c6]; exact HK.z)
        rw [List.append_nil] at this
        exact this
      have hm : ∀ k, k ∈ L ++ L' → k < K ∧ RlL V K N D M σ k ∧ OcT σ N (h + 1) n (k + 1) := fun k hk => by
        rcases List.mem_append.mp hk with q | q
        · exact up2 (by rcases op.1 with (q | q | q | q) | ⟨q | q | q | q, -⟩ <;> rw [q] <;> decide) c2 (l1 k q)
        · exact up3 (by rcases op.1 with (q | q | q | q) | ⟨q | q | q | q, -⟩ <;> rw [q] <;> decide) c4 (r1 k q)
      have cv : Cv D M (h + 1) a (L ++ L') := Cv.nd (fun _ => l5.in (fun k q => List.mem_append.mpr (Or.inl q))) (fun _ => r5.in (fun k q => List.mem_append.mpr (Or.inr q))) (cz c6) (fun hr => absurd hr op.2.2.2)
      have pw : (L ++ L').Pairwise (· ≠ ·) := pw_app l6 r6 (fun k a b => A.s23 hK.2 hn1 (by rcases op.1 with (q | q | q | q) | ⟨q | q | q | q, -⟩ <;> rw [q] <;> decide) (by rcases op.1 with (q | q | q | q) | ⟨q | q | q | q, -⟩ <;> rw [q] <;> decide) c2 c4 (l1 k a).2.2 (r1 k b).2.2)
      rcases op.1 with q | ⟨q, q'⟩
      · exact ⟨L ++ L', hm, hk, ht_ch hn (by omega) q c2 c4 l4 r3, hs_c hn q c2 c4 l4 r3, cv, pw⟩
      · have t := ht_two hn q c2 c4 l3 r3
        exact ⟨L ++ L', hm, hk, t, hs_of hn q' t, cv, pw⟩
    · obtain ⟨L, l1, l2, l3, l4, l5, l6⟩ := ih _ _ _ c3
      obtain ⟨L', r1, r2, r3, r4, r5, r6⟩ := ih _ _ _ c5
      obtain ⟨L2, u1, u2, u3, u4, u5, u6⟩ := ih _ _ _ c7
      have t := ht_if hn c0 c2 c4 c6 l3 r3 u3
      refine ⟨L ++ (L' ++ L2), fun k hk => ?_, HK.n31 ka.2 ka.1 ⟨Or.inl (by rw [c1]; decide), by rw [c1]; decide⟩ l2 r2 u2, t, hs_of hn (by rw [c0]; decide) t, Cv.nd (fun _ => l5.in (fun k q => List.mem_append.mpr (Or.inl q))) (fun _ => r5.in (fun k q => List.mem_append.mpr (Or.inr (List.mem_append.mpr (Or.inl q))))) (fun _ => u5.in (fun k q => List.mem_append.mpr (Or.inr (List.mem_append.mpr (Or.inr q))))) (nr (by unfold RlO; decide) c1), ?_⟩
      · rcases List.mem_append.mp hk with q | q
        · exact up2 (by rw [c0]; decide) c2 (l1 k q)
        · rcases List.mem_append.mp q with q | q
          · exact up3 (by rw [c0]; decide) c4 (r1 k q)
          · exact up4 (by rw [c0]; decide) c6 (u1 k q)
      · refine pw_app l6 (pw_app r6 u6 (fun k a b => A.s34 hK.2 hn1 (by rw [c0]; decide) (by rw [c0]; decide) c4 c6 (r1 k a).2.2 (u1 k b).2.2)) (fun k a b => ?_)
        rcases List.mem_append.mp b with b | b
        · exact A.s23 hK.2 hn1 (by rw [c0]; decide) (by rw [c0]; decide) c2 c4 (l1 k a).2.2 (r1 k b).2.2
        · exact A.s24 hK.2 hn1 (by rw [c0]; decide) (by rw [c0]; decide) (by rw [c0]; decide) c2 c6 (l1 k a).2.2 (u1 k b).2.2
    · obtain ⟨L, l1, l2, l3, l4, l5, l6⟩ := ih _ _ _ c3
      obtain ⟨L', r1, r2, r3, r4, r5, r6⟩ := ih _ _ _ c5
      have t := ht_rl hkn c0 c2 c4 l3 r3
      have op : ¬ mI M 3400 a < 20 ∧ mI M 3400 a ≤ 25 := by
        simp only [List.mem_cons, List.not_mem_nil, or_false, Prod.mk.injEq] at c1
        rcases c1 with ⟨q1, q2⟩ | ⟨q1, q2⟩ | ⟨q1, q2⟩ | ⟨q1, q2⟩ | ⟨q1, q2⟩ | ⟨q1, q2⟩ <;> rw [q1] <;> decide
      refine ⟨L ++ (L' ++ [k]), fun j hk => ?_, HK.n40 ka.2 ka.1 (Or.inl op) k2 l2 r2, t, hs_of hn (by rw [c0]; decide) t, Cv.nd (fun _ => l5.in (fun k q => List.mem_append.mpr (Or.inl q))) (fun _ => r5.in (fun k q => List.mem_append.mpr (Or.inr (List.mem_append.mpr (Or.inl q))))) (cz c6) (fun _ => ⟨k, List.mem_append.mpr (Or.inr (List.mem_append.mpr (Or.inr (List.mem_singleton.mpr rfl)))), k2⟩), ?_⟩
      · rcases List.mem_append.mp hk with q | q
        · exact up3 (by rw [c0]; decide) c2 (l1 j q)
        · rcases List.mem_append.mp q with q | q
          · exact up4 (by rw [c0]; decide) c4 (r1 j q)
          · rw [List.mem_singleton.mp q]
            refine ⟨k1, rl cs ?_, slf⟩
            simp only [List.mem_cons, List.not_mem_nil, or_false, Prod.mk.injEq] at c1
            unfold RlO
            rcases c1 with ⟨q1, q2⟩ | ⟨q1, q2⟩ | ⟨q1, q2⟩ | ⟨q1, q2⟩ | ⟨q1, q2⟩ | ⟨q1, q2⟩ <;> rw [q1] <;> decide
      · refine pw_app l6 (pw_app r6 (List.pairwise_singleton _ _) (fun j a b => ?_)) (fun j a b => ?_)
        · have := A.up4 hK.2 hn1 (by rw [c0]; decide) c4 (r1 j a).2.2
          have := List.mem_singleton.mp b
          omega
        · rcases List.mem_append.mp b with b | b
          · exact A.s34 hK.2 hn1 (by rw [c0]; decide) (by rw [c0]; decide) c2 c4 (l1 j a).2.2 (r1 j b).2.2
          · have := A.up3 hK.2 hn1 (by rw [c0]; decide) c2 (l1 j a).2.2
            have := List.mem_singleton.mp b
            omega
    · obtain ⟨L, l1, l2, l3, l4, l5, l6⟩ := ih _ _ _ c3
      obtain ⟨L', r1, r2, r3, r4, r5, r6⟩ := ih _ _ _ c5
      have op : ((tA σ 121 n = 14 ∨ tA σ 121 n = 15 ∨ tA σ 121 n = 21 ∨ tA σ 121 n = 22) ∧ (tA σ 121 n ≠ 5 ∧ tA σ 121 n ≠ 6 ∧ tA σ 121 n ≠ 8 ∧ tA σ 121 n ≠ 9)) ∧ ((¬ mI M 3400 a < 20 ∧ ¬ mI M 3400 a ≤ 25) ∧ ¬ mI M 3400 a = 29 ∧ ¬ RlO (mI M 3400 a)) := by
        simp only [List.mem_cons, List.not_mem_nil, or_false, Prod.mk.injEq] at c1
        unfold RlO
        rcases c1 with ⟨q1, q2⟩ | ⟨q1, q2⟩ <;> rw [q1, q2] <;> decide
      have t := ht_two hn op.1.1 c2 c4 l3 r3
      refine ⟨L ++ L', fun k hk => ?_, ?_, t, hs_of hn op.1.2 t, Cv.nd (fun _ => l5.in (fun k q => List.mem_append.mpr (Or.inl q))) (fun _ => r5.in (fun k q => List.mem_append.mpr (Or.inr q))) (cz c6) (fun hr => absurd hr op.2.2.2), pw_app l6 r6 (fun k a b => A.s23 hK.2 hn1 (by rcases op.1.1 with q | q | q | q <;> rw [q] <;> decide) (by rcases op.1.1 with q | q | q | q <;> rw [q] <;> decide) c2 c4 (l1 k a).2.2 (r1 k b).2.2)⟩
      · rcases List.mem_append.mp hk with q | q
        · exact up2 (by rcases op.1.1 with q | q | q | q <;> rw [q] <;> decide) c2 (l1 k q)
        · exact up3 (by rcases op.1.1 with q | q | q | q <;> rw [q] <;> decide) c4 (r1 k q)
      · have := HK.n31 (D := D) (h := h) (L1 := L) (L2 := L') (L3 := []) ka.2 ka.1 ⟨Or.inr op.2.1, op.2.2.1⟩ l2 r2 (by rw [c6]; exact HK.z)
        rw [List.append_nil] at this
        exact this
    · obtain ⟨L, l1, l2, l3, l4, l5, l6⟩ := ih _ _ _ c3
      have t := ht_un hn (Or.inr (Or.inr (Or.inr (Or.inr (Or.inr c0))))) c2 l3
      refine ⟨L, fun k hk => up2 (by rw [c0]; decide) c2 (l1 k hk), ?_, t, hs_of hn (by rw [c0]; decide) t, Cv.nd (fun _ => l5) (cz c4) (cz c5) (nr (by unfold RlO; decide) c1), l6⟩
      have := HK.n31 (D := D) (h := h) (L1 := L) (L2 := []) (L3 := []) ka.2 ka.1 ⟨Or.inr (by rw [c1]; decide), by rw [c1]; decide⟩ l2 (by rw [c4]; exact HK.z) (by rw [c5]; exact HK.z)
      rw [show L ++ ([] ++ []) = L from List.append_nil L] at this
      exact this
    · have t := ht_sm (h := h) hkn c0
      refine ⟨[k], fun j hj => by rw [List.mem_singleton.mp hj]; exact ⟨k1, rl cs (by rw [c1]; unfold RlO; decide), slf⟩, ?_, t, hs_of hn (by rw [c0]; decide) t, Cv.nd (cz c3) (cz c4) (cz c5) (fun _ => ⟨k, List.mem_singleton.mpr rfl, k2⟩), List.pairwise_singleton _ _⟩
      have := HK.n40 (D := D) (h := h) (L1 := []) (L2 := []) (k := k) ka.2 ka.1 (Or.inr (by rw [c1]; decide)) k2 (by rw [c3]; exact HK.z) (by rw [c4]; exact HK.z)
      exact this
end NUMBER4
