/-! Layer B: the flat model: the left side of an action -/
set_option maxRecDepth 100000
def tAct (recT : Int32 → Int32 → Int32 → TS → Option ((Unit ⊕ Unit) × TS)) (x2 x3 x4 : Int32) (σ : TS) : Option ((Unit ⊕ Unit) × TS) := ob (F_variableOf (tA σ 67 (ix x4)) x2 σ) fun r20 s19 => ob (F_isBad s19) fun r24 s23 => if r24 = 0 then if inb x4 3000 then if tA s23 66 (ix x4) = 6 then if inb r20 96 then if tA s23 94 (ix r20) = 2 then J_when_151_69 recT x2 x3 x4 r20 s23 else ob (F_bad 30 0 s23) fun _ s73 => J_when_151_69 recT x2 x3 x4 r20 s73 else none else J_when_200_69 recT x2 x3 x4 r20 s23 else none else some (.inr (), s23)
section ACT3
variable {zb zb' : Nat} {C : PC} {D D' D1 D2 : FQ} {M M' M1 M2 M3 M0 : CM} {σ σ' σ1 σ2 σ0 s1 s8 : TS} {mss fss : List Nat} {B V I Bm K N K' N' E A Wn E' A' A0 Wn' v l k x0 dc md X N0 Lp w d s o n i nf R a b n1 n2 f g h1 h2 j eq : Nat} {P T Y : Nat → Prop} {x2 x3 x3' x4 x y r kd : Int32} {z7 : Nat → Nat} {S : List Nat}
variable {recK : Nat → Nat → Nat → Int32 → CM → Option ((Unit ⊕ (Unit ⊕ Nat)) × CM)} {recT : Int32 → Int32 → Int32 → TS → Option ((Unit ⊕ Unit) × TS)}
/-- the new action's fields are written -/
theorem BS.wa (h : BS 2 z7 C B P mss fss V I Bm Lp 0 D M σ K N E A Wn) (hl : A < (pl D 112).length) (hW : Wn < (pl D 113).length) (wh : WhO D M σ V K N Wn A0 A) : BS 2 z7 C B P mss fss V I Bm Lp 0 D (msI M f ((pl D 112).getD A 0) x) σ K N E A Wn ∧ WhO D (msI M f ((pl D 112).getD A 0) x) σ V K N Wn A0 A ∧ BTr V C P K N D M σ D (msI M f ((pl D 112).getD A 0) x) σ := by
  obtain ⟨h2, bt⟩ := h.wo (M' := msI M f ((pl D 112).getD A 0) x) (by decide) (Or.inl ⟨rfl, Nat.le_refl A⟩) hl (Fz.rf.msI (fun _ => rfl)) ⟨rfl, rfl⟩ (fun _ => ⟨rfl, rfl, rfl⟩) (fun _ => rfl) (Ft.rf tqS σ) ⟨rfl, rfl⟩ (fun _ _ _ _ => rfl) (fun _ _ _ _ => rfl)
  have ne : (pl D 113).getD Wn 0 ≠ (pl D 112).getD A 0 := fun z => absurd (h.fw.2.1.inj (l := 113) (l' := 112) (by decide) (by decide) hW hl z).1 (by decide)
  exact ⟨h2, wh.mv bt.2.2.1 (Nat.le_refl _) (Nat.le_refl _) rfl ⟨rfl, by rw [mI_msI, ifF (fun z => ne z.2)]⟩ (by rw [mI_msI, ifF (fun z => ne z.2)]; exact wh.2.2.2.1) (Nat.le_refl A) ⟨rfl, rfl⟩ (wh.sm bt.2.2.1.n4 (Nat.le_refl _) (Ft.rf [] σ) (by decide)), bt⟩
theorem act_209 {p o : Nat} (hB1 : B ≤ 1280) (hi : i < I) (h : BS 2 z7 C B P mss fss V I Bm Lp 0 D M σ K N E A Wn) (hA : A < 200 ∧ A < (pl D 112).length) (hW : Wn < (pl D 113).length) (wh : WhO D M σ V K N Wn A0 A) (ko : P o ∧ mk M o = 13) (hp : p < 3000 ∧ p < tE σ) (hk : (kd = 0 ∧ tA σ 66 p = 6) ∨ (kd = 1 ∧ tA σ 66 p = 7)) (Rf : RfP C P M σ (mR M 2401 o) (tA σ 67 p)) (Ar : EqP C P M σ 0 (mR M 2402 o) (tA σ 68 p))
    (hrec : ∀ D' M' σ' K' N', BS 2 z7 C B P mss fss V I Bm Lp 0 D' M' σ' K' N' E (A + 1) Wn → WhO D' M' σ' V K' N' Wn A0 (A + 1) → (K ≤ K' ∧ N ≤ N') → BTr V C P K N D M σ D' M' σ' → WO z7 C B P mss fss V I Bm Lp Wn A0 E D' M' σ' K' N' (A + 1) (recK ((pl D 99).getD i 0) eq ((pl D 113).getD Wn 0) (nI (j + 1)) M') (recT (nI i) x3 (tA σ 70 p) σ')) :
    WO z7 C B P mss fss V I Bm Lp Wn A0 E D M σ K N A (KJ_X0_when_209_104 recK ((pl D 99).getD i 0) eq ((pl D 113).getD Wn 0) (nI j) o ((pl D 112).getD A 0) ((pl D 112).getD A 0) kd M) (tAct recT (nI i) x3 (nI p) σ) := by
  have ip : inb (nI p) 3000 := inb_nI' hp.1 (by decide)
  have xp : ix (nI p) = p := ix_nI (by omega)
  have ka : ∀ M', (∀ q, mk M' q = mk M q) → mk M' ((pl D 112).getD A 0) = 21 := fun M' e => by
    rw [e]; exact (h.fw.2.1.2.1 112 (by decide) A hA.2).1
  obtain ⟨oa, hoa⟩ : ∃ q, q = (pl D 112).getD A 0 := ⟨_, rfl⟩
  obtain ⟨M2, hM2⟩ : ∃ q, q = msI M 4000 oa kd := ⟨_, rfl⟩
  obtain ⟨h2, wh2, bt1⟩ := h.wa (f := 4000) (x := kd) hA.2 hW wh
  rw [← hoa, ← hM2] at h2 wh2 bt1
  have so1 := bt1.1.2.1.1 o ko.1
  have Rf2 := Rf.wz bt1.1 (fun _ z => z)
  obtain ⟨q, eq_, q7, Rf2⟩ := Rf2
  unfold KJ_X0_when_209_104 tAct
  rw [xp, eq_]
  have ka0 := ka M (fun _ => rfl)
  rw [← hoa] at ka0 ⊢
  have ko2 : mk M2 o = 13 := by rw [so1.k]; exact ko.2
  rw [ifT ka0, nm_eq, ← hM2, ifT ko2, so1.r]
  rcases z_varOf hB1 h2.fw h2.fx h2.1.2.2.2.1 h2.h0 hi Rf2 with ⟨M3, σ3, w, a1, a2, a3, a4⟩ | ⟨v, M3, σ3, v1, a1, a2, F2, f3⟩
  · have g := (FfB.fg a3 h2 a4 ⟨rfl, rfl, rfl⟩).pre bt1.2.2.2.1
    rw [a1, obS_inr, a2, ob_some, t_isBad1 g.ne, ob_some, ifF (show ¬ (1 : Int32) = 0 by decide)]
    exact Or.inl ⟨M3, σ3, w, _, rfl, rfl, g⟩
  · obtain ⟨h3, bt2, T2⟩ := h2.f2 F2 f3
    have wh3 : WhO D M3 σ3 V K N Wn A0 A := wh2.mv bt2.2.2.1 (Nat.le_refl _) (Nat.le_refl _) rfl ⟨F2.2.2.2.1 _ _ (by omega), F2.2.2.1 _ _⟩ (by rw [F2.2.2.1]; exact wh2.2.2.2.1) (Nat.le_refl A) ⟨(f3 145 rfl).2.2.1 _, (f3 146 rfl).2.2.1 _⟩ (wh2.sm bt2.2.2.1.n4 (Nat.le_refl _) f3 (by decide))
    obtain ⟨M4, hM4⟩ : ∃ q, q = msI M3 4001 oa (nI v) := ⟨_, rfl⟩
    obtain ⟨h4, wh4, bt3⟩ := h3.wa (f := 4001) (x := nI v) hA.2 hW wh3
    rw [← hoa, ← hM4] at h4 wh4 bt3
    have b14 := (bt1.tr bt2 (Nat.le_refl _) (Nat.le_refl _)).tr bt3 (Nat.le_refl _) (Nat.le_refl _)
    have so4 := b14.1.2.1.1 o ko.1
    have ko4 : P o ∧ mk M4 o = 13 := ⟨ko.1, by rw [so4.k]; exact ko.2⟩
    have ka3 : mk M3 oa = 21 := by rw [(F2.2.2.2.2.1 oa).1, hM2]; exact ka0
    have ka4 : mk M4 oa = 21 := by rw [hM4]; exact ka3
    have i1 : mI M4 4001 oa = nI v := by rw [hM4, mI_msI, ifT ⟨rfl, rfl⟩]
    have i0 : mI M4 4000 oa = kd := by rw [hM4, mI_msI, ifF (by omega), F2.2.2.1, hM2, mI_msI, ifT ⟨rfl, rfl⟩]
    have hV := h.hV
    have iv : inb (nI v) 96 := inb_nI' (by omega) (by decide)
    have xv : ix (nI v) = v := ix_nI (by omega)
    obtain ⟨⟨g1, g2⟩, ⟨x, x1, x2, x4⟩, -⟩ := h4.vr v1
    have q66 : tA σ3 66 p = tA σ 66 p := (f3 66 rfl).2.2.1 p
    have q68 : tA σ3 68 p = tA σ 68 p := (f3 68 rfl).2.2.1 p
    have q70 : tA σ3 70 p = tA σ 70 p := (f3 70 rfl).2.2.1 p
    have Ar4 := Ar.wz b14.1 (fun _ z => z)
    rw [← so4.r, ← q68] at Ar4
    have hp3 : p < 3000 ∧ p < tE σ3 := ⟨hp.1, by have := (f3 72 rfl).1; unfold tE at *; rw [this]; exact hp.2⟩
    obtain ⟨b1, b2, b3⟩ := h4.bad (x4 := 30) (by decide)
    have bk : mk (wM M4 30 0) (mn M4) = 7 := wM_k M4 30 0
    have bad := b3.pre b14.2.2.2.1
    have bne : tI (badT σ3 30) 0 ≠ 0 := badT_ne (by decide)
    have b152 : tI (badT σ3 30) 152 = nI A := by rw [(badT_f 152 rfl).1]; exact h4.2.2.2.1.1.2.1
    have c3 := h4.2.2.2.1.1.2.2.1
    rw [a1, obS_inl, ifT ka3, nm_eq, ← hM4, ifT ka4, i1, g1, ob_some, ifT (Or.inr g2), ifT g2, nm_eq, ifT ka4, i0, x2, a2, ob_some, t_isBad0 h3.h0, ob_some, ifT (rfl : (0 : Int32) = 0), ifT ip, q66]
    have fn292 := fun hk4 hk94 => act_292 (recK := recK) (recT := recT) (x3 := x3) (j := j) (eq := eq) hB1 hi h4 hA hW wh4 ko4 hp3 Ar4 ⟨v1, by rw [← hoa]; exact i1, hk94⟩ hk4 (fun D' M' σ' K' N' z1 z2 z3 z4 => by
      rw [q70]
      exact hrec D' M' σ' K' N' z1 z2 z3 (b14.tr z4 (Nat.le_refl _) (Nat.le_refl _)))
    rw [← hoa] at fn292
    rcases hk with ⟨rfl, k6⟩ | ⟨rfl, k7⟩
    · rw [ifT (rfl : (0 : Int32) = 0), k6, ifT (rfl : (6 : Int32) = 6), ifT iv, xv, x4]
      unfold KJ_X0_when_262_104
      by_cases ex : x = 2
      · rw [ex, ifT (show nI 2 = 2 by decide), ifT (show nI 2 = 2 by decide), ifT ka4, i0, ifT (rfl : (0 : Int32) = 0), ifT ka4, i1]
        unfold J_when_151_69
        rcases z_done (x2 := nI i) (x := x3) (x4 := nI p) h4 (v := v) (by omega) with ⟨d1, d2⟩ | ⟨d1, d2⟩
        · rw [d1, ob_some, ifF (show ¬ (1 : Int32) = 0 by decide), b1, ob_some, ifT bk, d2, ob_some, t_200b bne ip iv]
          exact Or.inl ⟨_, _, _, _, rfl, rfl, bad⟩
        · rw [d1, ob_some, ifT (rfl : (0 : Int32) = 0), d2, ob_some]
          unfold J_when_200_69
          rw [ifT ip, xp, q66, k6, ifF (show ¬ (6 : Int32) = 7 by decide)]
          exact WO.pre b14 ⟨Nat.le_refl _, Nat.le_refl _, Nat.le_refl _⟩ (fn292 (Or.inl ⟨i0, by rw [q66]; exact k6⟩) ⟨fun _ => by rw [x4, ex]; rfl, fun z => absurd ((q66.trans k6).symm.trans z) (by decide)⟩)
      · have nx : ¬ nI x = 2 := fun z => ex ((bI_eq (b := 2) (by omega) (by decide)).mp z)
        rw [ifF nx, ifF nx, b1, ob_some, ifT bk, b2, ob_some, t_151b bne c3 b152 ip iv]
        exact Or.inl ⟨_, _, _, _, rfl, rfl, bad⟩
    · rw [ifF (show ¬ (1 : Int32) = 0 by decide), k7, ifF (show ¬ (7 : Int32) = 6 by decide)]
      unfold KJ_X0_when_262_104 J_when_200_69
      rw [ifT ip, xp, q66, k7, ifT (rfl : (7 : Int32) = 7), ifT iv, xv, x4]
      by_cases ex : x = 0
      · rw [ex, ifT (show nI 0 = 0 by decide), ifT (show nI 0 = 0 by decide), ifT ka4, i0, ifF (show ¬ (1 : Int32) = 0 by decide)]
        exact WO.pre b14 ⟨Nat.le_refl _, Nat.le_refl _, Nat.le_refl _⟩ (fn292 (Or.inr ⟨i0, by rw [q66]; exact k7⟩) ⟨fun z => absurd ((q66.trans k7).symm.trans z) (by decide), fun _ => by rw [x4, ex]; rfl⟩)
      · have nx : ¬ nI x = 0 := fun z => ex ((bI_eq (b := 0) (by omega) (by decide)).mp z)
        rw [ifF nx, ifF nx, b1, ob_some, ifT bk, b2, ob_some, t_229b bne ip]
        exact Or.inl ⟨_, _, _, _, rfl, rfl, bad⟩
end ACT3
