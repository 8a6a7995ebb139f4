/-! Layer B: the flat model: one action of a when -/
set_option maxRecDepth 100000
/-- the when that is being made -/
def WhO (D : FQ) (M : CM) (σ : TS) (V K N Wn A0 A : Nat) : Prop := (∃ n, tA σ 145 Wn = nI n ∧ NdR 0 D M σ 106 V 100 1 K N (mR M 3800 ((pl D 113).getD Wn 0)) n) ∧ mI M 3802 ((pl D 113).getD Wn 0) = nI A0 ∧ tA σ 146 Wn = nI A0 ∧ mI M 3803 ((pl D 113).getD Wn 0) = nI A ∧ A0 ≤ A ∧ ∃ E, (tI σ 143 = nI E ∧ E ≤ 120) ∧ Sm 141 142 σ N N E A (Wn + 1)
/-- an outcome within a when -/
def WO (z7 : Nat → Nat) (C : PC) (B : Nat) (P : Nat → Prop) (mss fss : List Nat) (V I Bm Lp Wn A0 E : Nat) (D : FQ) (M : CM) (σ : TS) (K N A : Nat) (kr : Option ((Unit ⊕ (Unit ⊕ Nat)) × CM)) (tr : Option ((Unit ⊕ Unit) × TS)) : Prop :=
  (∃ M' σ' w y, kr = some (.inr (.inr w), M') ∧ tr = some (y, σ') ∧ FfB C B P mss fss M M' σ σ' w) ∨
  (∃ D' M' σ' K' N' A', kr = some (.inl (), M') ∧ tr = some (.inl (), σ') ∧ BS 2 z7 C B P mss fss V I Bm Lp 0 D' M' σ' K' N' E A' Wn ∧ WhO D' M' σ' V K' N' Wn A0 A' ∧ (K ≤ K' ∧ N ≤ N' ∧ A ≤ A') ∧ BTr V C P K N D M σ D' M' σ')
section ACT
variable {zb zb' : Nat} {C : PC} {D D' D1 D2 : FQ} {M M' M1 M2 M3 M0 : CM} {σ σ' σ1 σ2 σ0 s1 s8 : TS} {mss fss : List Nat} {B V I Bm K N K' N' E A Wn E' A' A0 Wn' v l k x0 dc md X N0 Lp w d s o n i nf R a b n1 n2 f g h1 h2 j eq p q : Nat} {P T Y : Nat → Prop} {x2 x3 x3' x4 x y r kd : Int32} {z7 : Nat → Nat} {S : List Nat}
theorem WO.pre {kr : Option ((Unit ⊕ (Unit ⊕ Nat)) × CM)} {tr : Option ((Unit ⊕ Unit) × TS)} (bt : BTr V C P K N D M σ D1 M1 σ1) (le : K ≤ K' ∧ N ≤ N' ∧ A ≤ A') (h : WO z7 C B P mss fss V I Bm Lp Wn A0 E D1 M1 σ1 K' N' A' kr tr) : WO z7 C B P mss fss V I Bm Lp Wn A0 E D M σ K N A kr tr := by
  rcases h with ⟨M2, σ2, w, y2, c1, c2, c3⟩ | ⟨D2, M2, σ2, K2, N2, A2, c1, c2, c3, c4, c5, c6⟩
  · exact Or.inl ⟨M2, σ2, w, y2, c1, c2, c3.pre bt.2.2.2.1⟩
  · exact Or.inr ⟨D2, M2, σ2, K2, N2, A2, c1, c2, c3, c4, by omega, bt.tr c6 le.1 le.2.1⟩
theorem WhO.mv (h : WhO D M σ V K N Wn A0 A) (nk : NdK D M σ D' M' σ' 106 K N) (hK : K ≤ K') (hN : N ≤ N') (e : (pl D' 113).getD Wn 0 = (pl D 113).getD Wn 0) (s : mR M' 3800 ((pl D 113).getD Wn 0) = mR M 3800 ((pl D 113).getD Wn 0) ∧ mI M' 3802 ((pl D 113).getD Wn 0) = mI M 3802 ((pl D 113).getD Wn 0)) (s3 : mI M' 3803 ((pl D 113).getD Wn 0) = nI A') (hA : A ≤ A') (t : tA σ' 145 Wn = tA σ 145 Wn ∧ tA σ' 146 Wn = tA σ 146 Wn) (hs : ∃ E, (tI σ' 143 = nI E ∧ E ≤ 120) ∧ Sm 141 142 σ' N' N' E A' (Wn + 1)) : WhO D' M' σ' V K' N' Wn A0 A' := by
  obtain ⟨⟨n, a1, a2⟩, b, c, d, e'⟩ := h
  unfold WhO
  rw [e, s.1, s.2, s3, t.1, t.2]
  exact ⟨⟨n, a1, NdR.mv nk hK hN (Nat.le_refl V) 100 100 1 _ n (Nat.le_refl _) a2⟩, b, c, rfl, by omega, hs⟩
theorem WhO.sm (h : WhO D M σ V K N Wn A0 A) (g : Nd4 σ σ' N) (hN : N ≤ N') (f : Ft S σ σ') (hS : [141, 142, 143, 145, 151].all (fun k => !S.contains k) = true) : ∃ E, (tI σ' 143 = nI E ∧ E ≤ 120) ∧ Sm 141 142 σ' N' N' E A (Wn + 1) := by
  have hf : ∀ k, k ∈ [141, 142, 143, 145, 151] → S.contains k = false := fun k hk => by simpa using List.all_eq_true.mp hS k hk
  obtain ⟨E, ⟨h1, h2⟩, h3⟩ := h.2.2.2.2.2
  exact ⟨E, ⟨(f 143 (hf 143 (by decide))).1.trans h1, h2⟩, h3.mv g hN hN (fun k _ => ⟨(f 141 (hf 141 (by decide))).2.2.1 k, (f 142 (hf 142 (by decide))).2.2.1 k⟩) (fun k _ => (f 151 (hf 151 (by decide))).2.2.1 k) (fun k _ => (f 145 (hf 145 (by decide))).2.2.1 k)⟩
/-- an action that is whole -/
theorem BS.aend (h : BS 2 z7 C B P mss fss V I Bm Lp 0 D M σ K N E A Wn) (hA : A < 200 ∧ A < (pl D 112).length) (hW : Wn < (pl D 113).length) (wh : WhO D M σ V K N Wn A0 A) (ac : AcV σ V (mI M 4001 ((pl D 112).getD A 0)) x y ∧ ((mI M 4000 ((pl D 112).getD A 0) = 0 ∧ x = 6) ∨ (mI M 4000 ((pl D 112).getD A 0) = 1 ∧ x = 7))) (nd : NdR 0 D M σ 106 V 100 0 K N a n) (ws : ∃ E z L, (tI σ 143 = nI E ∧ E ≤ 120) ∧ Sm 141 142 σ N L E A (Wn + 1) ∧ SzR σ N 100 n z ∧ z + L ≤ n + 1) :
    BS 2 z7 C B P mss fss V I Bm Lp 0 D (msI (msI (msR M 4002 ((pl D 112).getD A 0) a) 37 1 (nI (A + 1))) 3803 ((pl D 113).getD Wn 0) (nI (A + 1))) (tsI (tsA (tsA (tsA σ 149 A x) 150 A y) 151 A (nI n)) 152 (nI (A + 1))) K N E (A + 1) Wn ∧ WhO D (msI (msI (msR M 4002 ((pl D 112).getD A 0) a) 37 1 (nI (A + 1))) 3803 ((pl D 113).getD Wn 0) (nI (A + 1))) (tsI (tsA (tsA (tsA σ 149 A x) 150 A y) 151 A (nI n)) 152 (nI (A + 1))) V K N Wn A0 (A + 1) ∧ BTr V C P K N D M σ D (msI (msI (msR M 4002 ((pl D 112).getD A 0) a) 37 1 (nI (A + 1))) 3803 ((pl D 113).getD Wn 0) (nI (A + 1))) (tsI (tsA (tsA (tsA σ 149 A x) 150 A y) 151 A (nI n)) 152 (nI (A + 1))) := by
  have W := h.fw
  obtain ⟨u1, ⟨u2, u4⟩, u3⟩ := W.2.1.2.1 112 (by decide) A hA.2
  obtain ⟨w1, ⟨w2, w4⟩, w3⟩ := W.2.1.2.1 113 (by decide) Wn hW
  obtain ⟨oa, hoa⟩ : ∃ o, o = (pl D 112).getD A 0 := ⟨_, rfl⟩
  obtain ⟨ow_, how⟩ : ∃ o, o = (pl D 113).getD Wn 0 := ⟨_, rfl⟩
  have ne : oa ≠ ow_ := fun z => absurd (W.2.1.inj (l := 112) (l' := 113) (by decide) (by decide) hA.2 hW (by rw [← hoa, ← how, z])).1 (by decide)
  have tv1 := W.2.1.tv (l := 112) (by decide) hA.2
  have tv2 := W.2.1.tv (l := 113) (by decide) hW
  rw [← hoa] at u1 u2 u3 u4 ac tv1 ⊢
  rw [← how] at w1 w2 w3 w4 tv2 ⊢
  obtain ⟨M', hM⟩ : ∃ q, q = msI (msI (msR M 4002 oa a) 37 1 (nI (A + 1))) 3803 ow_ (nI (A + 1)) := ⟨_, rfl⟩
  obtain ⟨σ', hσ⟩ : ∃ q, q = tsI (tsA (tsA (tsA σ 149 A x) 150 A y) 151 A (nI n)) 152 (nI (A + 1)) := ⟨_, rfl⟩
  rw [← hM, ← hσ]
  have F : Fz (fun o => o = 1 ∨ o = oa ∨ o = ow_) M M' := by
    rw [hM]
    exact (((Fz.rf (X := fun o => o = 1 ∨ o = oa ∨ o = ow_)).msR (fun _ => Or.inr (Or.inl rfl))).msI (fun _ => Or.inl rfl)).msI (fun _ => Or.inr (Or.inr rfl))
  have ii : ∀ g o, ¬ (g = 37 ∧ o = 1) → ¬ (g = 3803 ∧ o = ow_) → mI M' g o = mI M g o := fun g o z1 z2 => by rw [hM, mI_msI, ifF z2, mI_msI, ifF z1, mI_msR]
  have rr : ∀ g o, ¬ (g = 4002 ∧ o = oa) → mR M' g o = mR M g o := fun g o z => by rw [hM, mR_msI, mR_msI, mR_msR, ifF z]
  have ft : Ft tqS σ σ' := by rw [hσ]; exact ((((Ft.rf _ σ).p_tsA rfl).p_tsA rfl).p_tsA rfl).p_tsI rfl
  have fq : Fq D (TQf A Wn) M M' := F.mono (fun o ho z => by
    rcases z with z | z | z
    · rw [z, tgo_s (by decide)]; exact Or.inl rfl
    · rw [z, tv1]; unfold TQf tg; omega
    · rw [z, tv2]
      have := h.2.2.2.2.1.1.2.2.1
      unfold TQf tg; omega)
  have hp : PoW D M' := W.2.1.gn W.n167 F (fun o _ z => by
    rcases z with z | z | z
    · exact Or.inl ⟨by omega, by rw [z]; decide⟩
    · rw [z, u3]; exact Or.inr ⟨by omega, by unfold tg; omega, fun k => by unfold tg; omega⟩
    · rw [z, w3]
      have := h.2.2.2.2.1.1.2.2.1
      exact Or.inr ⟨by omega, by unfold tg; omega, fun k => by unfold tg; omega⟩) (fun k _ => rr _ _ (by omega)) (fun k _ => rr _ _ (by omega)) (fun o h1 h2 => absurd h2 (by rw [hM]; show ¬ o < mn M; omega))
  have rm := rm_same (D := D) (M := M) (M' := M') (by rw [hM]; exact ⟨rfl, rfl⟩) (fun o => ⟨rr _ _ (by omega), rr _ _ (by omega), by rw [hM]; rfl⟩)
  obtain ⟨Fs', bt⟩ := h.tq fq hp (Dx.rf D M) (by rw [rm.1, rm.2]; exact ⟨Nat.le_refl _, Nat.le_refl _⟩) (fun _ _ _ => rfl) ⟨fun f h1 h2 => ii _ _ (by omega) (by omega), fun f => rr _ _ (by omega)⟩ ft
  have nk := bt.2.2.1
  have dd := h.2.2.2.2.1.1
  have t9 : ∀ j, tA σ' 149 j = if j = A then x else tA σ 149 j := fun j => by
    rw [hσ, tA_tsI, tA_tsA, ifF (by omega), tA_tsA, ifF (by omega), tA_tsA]
    by_cases q : j = A
    · rw [ifT ⟨rfl, q⟩, ifT q]
    · rw [ifF (fun z => q z.2), ifF q]
  have t0 : ∀ j, tA σ' 150 j = if j = A then y else tA σ 150 j := fun j => by
    rw [hσ, tA_tsI, tA_tsA, ifF (by omega), tA_tsA]
    by_cases q : j = A
    · rw [ifT ⟨rfl, q⟩, ifT q]
    · rw [ifF (fun z => q z.2), ifF q, tA_tsA, ifF (by omega)]
  have t1 : ∀ j, tA σ' 151 j = if j = A then nI n else tA σ 151 j := fun j => by
    rw [hσ, tA_tsI, tA_tsA]
    by_cases q : j = A
    · rw [ifT ⟨rfl, q⟩, ifT q]
    · rw [ifF (fun z => q z.2), ifF q, tA_tsA, ifF (by omega), tA_tsA, ifF (by omega)]
  have to : ∀ g, g = 145 ∨ g = 146 ∨ g = 147 → ∀ k, tA σ' g k = tA σ g k := fun g hg k => by
    rw [hσ, tA_tsI, tA_tsA, ifF (by omega), tA_tsA, ifF (by omega), tA_tsA, ifF (by omega)]
  refine ⟨⟨Fs', h.2.tb W h.hV nk fq (Dx.rf D M) ⟨ii _ _ (by omega) (by omega), ii _ _ (by omega) (by omega), ii _ _ (by omega) (by omega), ii _ _ (by omega) (by omega), ii _ _ (by omega) (by omega)⟩ ft ⟨by decide, by decide⟩ ⟨by rw [hM, mI_msI, ifF (by omega), mI_msI, ifT ⟨rfl, rfl⟩], by rw [hσ]; rfl, by omega, by omega⟩ (Nat.le_succ A) (fun g hg k hk => ?_) (fun k g1 g2 => ?_) ⟨(ii _ _ (by omega) (by omega)).trans dd.1, by rw [hσ]; exact dd.2.1, dd.2.2.1, dd.2.2.2⟩ (fun g hg k _ => to g hg k) (fun k g1 g2 => by omega) (fun zz => absurd zz (by decide))⟩, ?_, bt⟩
  · rcases hg with rfl | rfl | rfl
    · rw [t9, ifF (by omega)]
    · rw [t0, ifF (by omega)]
    · rw [t1, ifF (by omega)]
  · have ek : k = A := by omega
    obtain ⟨av, ac2⟩ := ac
    rw [ek]
    unfold AcX1
    rw [← hoa, ii 4001 oa (by omega) (by omega), ii 4000 oa (by omega) (by omega), t9, t0, t1, ifT rfl, ifT rfl, ifT rfl]
    refine ⟨av.mv nk.2.2, ac2, n, rfl, ?_⟩
    have e : mR M' 4002 oa = a := by rw [hM, mR_msI, mR_msI, mR_msR, ifT ⟨rfl, rfl⟩]
    rw [e]
    exact NdR.mv nk (Nat.le_refl _) (Nat.le_refl _) (Nat.le_refl V) 100 100 0 _ _ (Nat.le_refl _) nd
  · refine wh.mv nk (Nat.le_refl _) (Nat.le_refl _) rfl ?_ ?_ (Nat.le_succ A) ⟨to _ (Or.inl rfl) _, to _ (Or.inr (Or.inl rfl)) _⟩ ?_
    · rw [← how]
      exact ⟨rr _ _ (by omega), ii _ _ (by omega) (by omega)⟩
    · rw [← how, hM, mI_msI, ifT ⟨rfl, rfl⟩]
    · obtain ⟨E0, z, L, w1, w2, w3, w4⟩ := ws
      exact ⟨E0, ⟨(ft 143 rfl).1.trans w1.1, w1.2⟩, w2.addA nk.n4 (fun k _ => ⟨(ft 141 rfl).2.2.1 k, (ft 142 rfl).2.2.1 k⟩) (fun k hk => by rw [t1, ifF (by omega)]) (fun k _ => to 145 (Or.inl rfl) k) (by rw [t1, ifT rfl]) w3 (by omega) ⟨w3.lt.1, by
        have N1 := h.1.2.2.1.2.2.1
        have ax := h.1.2.2.1.2.1.2.2.1
        have := w3.lt.1
        omega⟩⟩
end ACT
