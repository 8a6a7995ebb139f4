/-! Layer B: the flat model: one action of a when, both sides -/
set_option maxRecDepth 100000
section ACT2
variable {zb zb' : Nat} {C : PC} {D D' D1 D2 : FQ} {M M' M1 M2 M3 M0 : CM} {σ σ' σ1 σ2 σ0 s1 s8 : TS} {mss fss : List Nat} {B V I Bm K N K' N' E A Wn E' A' A0 Wn' v l k x0 dc md X N0 Lp w d s o n i nf R a b n1 n2 f g h1 h2 j eq : Nat} {P T Y : Nat → Prop} {x2 x3 x3' x4 x y r kd : Int32} {z7 : Nat → Nat} {S : List Nat}
variable {recK : Nat → Nat → Nat → Int32 → CM → Option ((Unit ⊕ (Unit ⊕ Nat)) × CM)} {recT : Int32 → Int32 → Int32 → TS → Option ((Unit ⊕ Unit) × TS)}
theorem t_229b (h : tI σ 0 ≠ 0) (hp : inb x4 3000) : J_when_229_69 recT x2 x3 x4 x σ = some (.inr (), σ) := by
  unfold J_when_229_69
  rw [ifT hp, t_buildB h, ob_some, t_isBad1 h, ob_some, ifF (show ¬ (1 : Int32) = 0 by decide)]
theorem t_200b (h : tI σ 0 ≠ 0) (hp : inb x4 3000) (hx : inb x 96) : J_when_200_69 recT x2 x3 x4 x σ = some (.inr (), σ) := by
  unfold J_when_200_69
  rw [ifT hp]
  by_cases q : tA σ 66 (ix x4) = 7
  · rw [ifT q, ifT hx]
    by_cases q2 : tA σ 94 (ix x) = 0
    · rw [ifT q2, t_229b h hp]
    · rw [ifF q2, t_bad1 h, ob_some, t_229b h hp]
  · rw [ifF q, t_229b h hp]
theorem t_151b (h : tI σ 0 ≠ 0) (hA : A ≤ 200) (h152 : tI σ 152 = nI A) (hp : inb x4 3000) (hx : inb x 96) : J_when_151_69 recT x2 x3 x4 x σ = some (.inr (), σ) := by
  unfold J_when_151_69
  rw [t_154b hA h h152, ob_some, t_200b h hp hx]
theorem FfB.fg (h : FfG C B P mss fss M M' σ σ' w) (g : BS zb z7 C B P mss fss V I Bm Lp x3 D M σ K N E A Wn) (f : Ft S σ σ') (hS : S.contains 126 = false ∧ S.contains 143 = false ∧ S.contains 171 = false) : FfB C B P mss fss M M' σ σ' w := ⟨h, ⟨N, g.hl.2, by rw [(f 126 hS.1).1]; exact g.1.2.2.1.2.2.1.1⟩, ⟨E, g.2.2.1.1.2.2.1, by rw [(f 143 hS.2.1).1]; exact g.2.2.1.1.2.1⟩, by rw [(f 171 hS.2.2).1]; exact g.2.2.2.2.2.2.2.2.1⟩
/-- the right side, and the end of an action -/
theorem act_292 {p o : Nat} (hB1 : B ≤ 1280) (hi : i < I) (h : BS 2 z7 C B P mss fss V I Bm Lp 0 D M σ K N E A Wn) (hA : A < 200 ∧ A < (pl D 112).length) (hW : Wn < (pl D 113).length) (wh : WhO D M σ V K N Wn A0 A) (ko : P o ∧ mk M o = 13) (hp : p < 3000 ∧ p < tE σ) (Ar : EqP C P M σ 0 (mR M 2402 o) (tA σ 68 p)) (hv : v < V ∧ mI M 4001 ((pl D 112).getD A 0) = nI v ∧ (tA σ 66 p = 6 → tA σ 94 v = 2) ∧ (tA σ 66 p = 7 → tA σ 94 v = 0)) (hk : (mI M 4000 ((pl D 112).getD A 0) = 0 ∧ tA σ 66 p = 6) ∨ (mI M 4000 ((pl D 112).getD A 0) = 1 ∧ tA σ 66 p = 7))
    (hrec : ∀ D' M' σ' K' N', BS 2 z7 C B P mss fss V I Bm Lp 0 D' M' σ' K' N' E (A + 1) Wn → WhO D' M' σ' V K' N' Wn A0 (A + 1) → (K ≤ K' ∧ N ≤ N') → BTr V C P K N D M σ D' M' σ' → WO z7 C B P mss fss V I Bm Lp Wn A0 E D' M' σ' K' N' (A + 1) (recK ((pl D 99).getD i 0) eq ((pl D 113).getD Wn 0) (nI (j + 1)) M') (recT (nI i) x3 (tA σ 70 p) σ')) :
    WO z7 C B P mss fss V I Bm Lp Wn A0 E D M σ K N A (KJ_X0_when_292_104 recK ((pl D 99).getD i 0) eq ((pl D 113).getD Wn 0) (nI j) o ((pl D 112).getD A 0) M) (J_when_229_69 recT (nI i) x3 (nI p) (nI v) σ) := by
  have ip : inb (nI p) 3000 := inb_nI' hp.1 (by decide)
  have xp : ix (nI p) = p := ix_nI (by omega)
  have W := h.fw
  obtain ⟨n, d, hn, hn9, Ar⟩ := Ar
  rw [W.1.2.1.2.1] at Ar
  unfold KJ_X0_when_292_104 J_when_229_69
  rw [ifT ko.2, ifT ip, xp, hn]
  rcases z_flatten hB1 hi h.1 (Nat.le_refl _) Ar with ⟨M', σ', w, y, b1, b2, b3, b4, b5⟩ | ⟨D', M', σ', K', N', a, n', b1, b2, b3, ⟨b4, b5⟩, b6, b7, b8⟩
  · have f := fS_F_build _ _ _ _ _ _ _ b2
    have b0 := b3.2.1.2.2.1
    rw [b1, obS_inr, b2, ob_some, t_isBad1 b0, ob_some, ifF (show ¬ (1 : Int32) = 0 by decide)]
    exact Or.inl ⟨M', σ', w, _, rfl, rfl, b3, b5, ⟨E, h.2.2.1.1.2.2.1, by rw [(f 143 rfl).1]; exact h.2.2.1.1.2.1⟩, by rw [(f 171 rfl).1]; exact h.2.2.2.2.2.2.2.2.1⟩
  · have T := b6
    obtain ⟨t1, t2, t3, t4, t5, t6, ⟨t7, t8, t9⟩, t10, t11, t12⟩ := b6
    have bx := h.2.mv W h.hV t3 b4 b5 t9 (fun t z => TB.bt (Or.inl ⟨rfl, rfl, rfl, rfl⟩) z) t2 (fun f _ => t7 f) t5 (by decide)
    have bt : BTr V C P K N D M σ D' M' σ' := ⟨t1, t2, t3, t4, fun v hv hl g hg => (W.2.1.so3 (by decide) hl t9 (fun z => TB.bt (Or.inl ⟨rfl, rfl, rfl, rfl⟩) z (by
      have := (W.2.1.1 98 (by decide)).2.2
      have e : flX 98 = 96 := rfl
      unfold BT tg; omega))).r g, fun k hk v => (t5 k (by
      have : ∀ k, k ∈ vkL → fbL.contains k = false := by decide
      exact this k hk)).2.2.1 v⟩
    have h' : BS 2 z7 C B P mss fss V I Bm Lp 0 D' M' σ' K' N' E A Wn := ⟨b3, bx⟩
    have p112 : pl D' 112 = pl D 112 := t11 112 (by decide) (by decide)
    have p113 : pl D' 113 = pl D 113 := t11 113 (by decide) (by decide)
    have x112 := (W.2.1.1 112 (by decide)).2.2
    have x113 := (W.2.1.1 113 (by decide)).2.2
    have y112 : flX 112 = 200 := rfl
    have y113 : flX 113 = 12 := rfl
    have sa : So M M' ((pl D 112).getD A 0) := W.2.1.so3 (by decide) hA.2 t9 (fun z => TB.bt (Or.inl ⟨rfl, rfl, rfl, rfl⟩) z (by unfold BT tg; omega))
    have sw : So M M' ((pl D 113).getD Wn 0) := W.2.1.so3 (by decide) hW t9 (fun z => TB.bt (Or.inl ⟨rfl, rfl, rfl, rfl⟩) z (by unfold BT tg; omega))
    have so := t1.2.1.1 o ko.1
    have ka : mk M' ((pl D 112).getD A 0) = 21 := by
      have := (h'.fw.2.1.2.1 112 (by decide) A (by rw [p112]; exact hA.2)).1
      rw [p112] at this; exact this
    have kw : mk M' ((pl D 113).getD Wn 0) = 20 := by
      have := (h'.fw.2.1.2.1 113 (by decide) Wn (by rw [p113]; exact hW)).1
      rw [p113] at this; exact this
    have wh' : WhO D' M' σ' V K' N' Wn A0 A := wh.mv t3 b4 b5 (by rw [p113]) ⟨sw.r _, sw.i _⟩ (by rw [sw.i]; exact wh.2.2.2.1) (Nat.le_refl A) ⟨(t5 145 rfl).2.2.1 _, (t5 146 rfl).2.2.1 _⟩ (wh.sm t3.n4 b5 t5 (by decide))
    have i152 : tI σ' 152 = nI A := h'.2.2.2.1.1.2.1
    have m37 : mI M' 37 1 = nI A := h'.2.2.2.1.1.1
    have q66 : tA σ' 66 p = tA σ 66 p := (t5 66 rfl).2.2.1 p
    have q70 : tA σ' 70 p = tA σ 70 p := (t5 70 rfl).2.2.1 p
    obtain ⟨h2, wh2, bt2⟩ := h'.aend (x := tA σ' 66 p) (y := nI v) (a := a) (n := n') ⟨hA.1, by rw [p112]; exact hA.2⟩ (by rw [p113]; exact hW) wh' (by
      rw [p112, sa.i, sa.i, q66]
      exact ⟨⟨v, hv.1, hv.2.1, rfl, fun z => (t3.2.2 v).trans (hv.2.2.1 z), fun z => (t3.2.2 v).trans (hv.2.2.2 z)⟩, hk⟩) b7 (by
      obtain ⟨E0, w1, w2⟩ := wh.2.2.2.2.2
      obtain ⟨z, z1, z2⟩ := b8
      exact ⟨E0, z, N, ⟨(t5 143 rfl).1.trans w1.1, w1.2⟩, w2.ft t3.n4 b5 (Nat.le_refl _) t5 (by decide), z1, z2⟩)
    rw [p112, p113] at h2 wh2 bt2
    have ia : inb (nI A) 200 := inb_nI' hA.1 (by decide)
    have xa : ix (nI A) = A := ix_nI (by omega)
    rw [b1, obS_inl, ifT ka, nm_eq, mI_msR, m37, nI_addL, nm_eq, mk_msI, mk_msR, ifT kw, mI_msI, ifT ⟨rfl, rfl⟩, nm_eq, nm_eq, b2, ob_some, t_isBad0 h'.h0, ob_some, ifT (rfl : (0 : Int32) = 0), ifT ip, i152, ifT ia, xa, nm_eq, tI_tsA, i152, ifT ia, xa, nm_eq, tI_tsA, tI_tsA, i152, ifT ia, xa, nm_eq, tI_tsA, tI_tsA, tI_tsA, i152, nm_eq, ifT ip, nm_eq, nI_addL, nI_addL]
    have e70 : tA (tsI (tsA (tsA (tsA σ' 149 A (tA σ' 66 p)) 150 A (nI v)) 151 A (nI n')) 152 (nI (A + 1))) 70 p = tA σ 70 p := by
      rw [tA_tsI, tA_tsA, ifF (by omega), tA_tsA, ifF (by omega), tA_tsA, ifF (by omega)]; exact q70
    rw [e70]
    have btt := bt.tr bt2 b4 b5
    refine WO.pre btt ⟨b4, b5, Nat.le_succ A⟩ ?_
    exact hrec D' _ _ K' N' h2 wh2 ⟨b4, b5⟩ btt
end ACT2
