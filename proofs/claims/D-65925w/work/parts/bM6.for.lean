/-! Layer B: the flat model: a for over equations -/
set_option maxRecDepth 100000
section FOR6
variable {zb zb' : Nat} {C : PC} {D D' D1 D2 : FQ} {M M' M1 M2 M3 M0 : CM} {σ σ' σ1 σ2 σ0 s1 s8 : TS} {mss fss : List Nat} {B V I Bm K N K' N' E A Wn E' A' A0 Wn' v l k x0 dc md X N0 Lp Lp' w d s o n i nf R a b c n1 n2 f g h1 h2 j eq L E0 ow_ : Nat} {os : List Nat} {P T Y : Nat → Prop} {x2 x3 x3' x4 x y r kd : Int32} {z7 : Nat → Nat} {S : List Nat}
/-- loops' names and values are written -/
theorem BS.lp (h : BS zb z7 C B P mss fss V I Bm Lp x3 D M σ K N E A Wn) (F : Fz (fun o => o = 1 ∨ o = 103 ∨ o = 104) M M') (hs : mn M' = mn M ∧ ms M' = ms M) (ii : ∀ g o, ¬ (o = 1 ∧ (g = 24 ∨ g = 32)) → mI M' g o = mI M g o) (rr : ∀ g o, mR M' g o = mR M g o) (hl : ∀ o, ml M' o = ml M o) (f : Ft [115, 116, 117, 133] σ σ') (LP' : Wz C C P M M' σ σ' → LpR C M' σ' Lp') (hc : Ct32 D K M' σ') : BS zb z7 C B P mss fss V I Bm Lp' x3 D M' σ' K N E A Wn ∧ BTr V C P K N D M σ D M' σ' := by
  have W := h.fw
  have hV := h.hV
  obtain ⟨W', vz, -⟩ := W.w2 F (fun o _ z => by
    rcases z with z | z | z
    · exact Or.inl (Or.inl (by omega))
    · exact Or.inl (Or.inr ⟨by omega, by omega, by rw [z]; decide⟩)
    · exact Or.inl (Or.inr ⟨by omega, by omega, by rw [z]; decide⟩)) hs (fun o => ⟨rr _ _, rr _ _, hl o⟩) (fun o => rr _ _) (ii _ _ (by omega)) (fun q _ => rr _ _) (fun q hq => ii _ _ (by have := fixI q hq; omega)) f (by decide)
  have fq : Fq D (fun t => t = 1 ∨ t = 103 ∨ t = 104) M M' := F.mono (fun o ho z => by
    rw [tgo_s (by omega)]; exact z)
  have s98 : ∀ k, k < V → So M M' ((pl D 98).getD k 0) := fun k hk => W.2.1.so3 (by decide) (by omega) fq (fun z => by unfold tg at z; omega)
  have FX' := h.fx.kp W fq (fun t z => by unfold TV tg; omega) (fun k hk => ⟨fun f _ => (s98 k hk).i f, fun f _ => (s98 k hk).r f⟩) vz (Dx.rf D M) f (by decide) ⟨ii _ _ (by omega), ii _ _ (by omega)⟩
  have nk : NdK D M σ D M' σ' 106 K N := NdK.ot W (by decide) h.hl.1 fq (fun k hk z => by unfold tg at z; omega) (Dx.rf D M) f (by decide)
  obtain ⟨-, -, NS, -, CA, ⟨e1, e2, e3⟩, e4, e5⟩ := h.1
  have Fs' : FSt 1 105 106 12000 1 z7 C B P mss fss D M' σ' V I Bm K N Lp' 0 x3 := ⟨W', FX', NS.kp (rr _ _) (fun f => ii _ _ (by omega)) rfl f (by decide), LP' vz, fun k hk => absurd hk (Nat.not_lt_zero _), ⟨e1, e2, by rw [(f 137 rfl).1]; exact e3⟩, by rw [(f 138 rfl).1]; exact e4, by rw [(f 0 rfl).1]; exact e5⟩
  refine ⟨⟨Fs', h.2.mvc hc W hV nk (Nat.le_refl _) (Nat.le_refl _) fq (fun t z => by unfold BT tg; omega) (Dx.rf D M) (fun g hg => ii _ _ (fun z => by
    simp only [List.mem_cons, List.not_mem_nil, or_false] at hg
    omega)) f (by decide)⟩, vz, Dx.rf D M, nk, SgX.mk1 (fun o h1 h2 => F.so (by have := W.n167; omega) (by omega)) (fun g hg => ii _ _ (fun z => by
    rcases z.2 with q | q
    · rw [q] at hg; exact absurd hg (by decide)
    · rw [q] at hg; exact absurd hg (by decide))) (f.mono (by decide)), fun v _ _ g _ => rr _ _, fun k hk v => (f k (by
    have : ∀ k, k ∈ vkL → [115, 116, 117, 133].contains k = false := by decide
    exact this k hk)).2.2.1 v⟩
/-- one loop more -/
theorem BS.push (h : BS zb z7 C B P mss fss V I Bm Lp x3 D M σ K N E A Wn) (hLp : Lp ≤ 16) (hw : 38 ≤ w ∧ w < 38 + cm C) (hc : c + 1 ≤ 4000) (hy : ∃ v, v ≤ 99 ∧ y = nI v) : BS zb z7 C B P mss fss V I Bm (Lp + 1) x3 D (msI (mwA (mwA (msI M 32 1 (nI (c + 1))) 103 Lp (nI w)) 104 Lp y) 24 1 (nI (Lp + 1))) (tsI (tsA (tsB (tsI σ 133 (nI (c + 1))) 115 Lp (wc M w)) 116 Lp y) 117 (nI (Lp + 1))) K N E A Wn ∧ BTr V C P K N D M σ D (msI (mwA (mwA (msI M 32 1 (nI (c + 1))) 103 Lp (nI w)) 104 Lp y) 24 1 (nI (Lp + 1))) (tsI (tsA (tsB (tsI σ 133 (nI (c + 1))) 115 Lp (wc M w)) 116 Lp y) 117 (nI (Lp + 1))) := by
  obtain ⟨M', hM⟩ : ∃ q, q = msI (mwA (mwA (msI M 32 1 (nI (c + 1))) 103 Lp (nI w)) 104 Lp y) 24 1 (nI (Lp + 1)) := ⟨_, rfl⟩
  obtain ⟨σ', hσ⟩ : ∃ q, q = tsI (tsA (tsB (tsI σ 133 (nI (c + 1))) 115 Lp (wc M w)) 116 Lp y) 117 (nI (Lp + 1)) := ⟨_, rfl⟩
  rw [← hM, ← hσ]
  have mA1 : ∀ o j, mA M' o j = if o = 104 ∧ j = Lp then y else if o = 103 ∧ j = Lp then nI w else mA M o j := fun o j => by rw [hM]; rfl
  have tA1 : ∀ j, tA σ' 116 j = if j = Lp then y else tA σ 116 j := fun j => by
    rw [hσ, tA_tsI, tA_tsA]
    by_cases q : j = Lp
    · rw [ifT ⟨rfl, q⟩, ifT q]
    · rw [ifF (fun z => q z.2), ifF q]; rfl
  have tB1 : ∀ j, tB σ' 115 j = if j = Lp then wc M w else tB σ 115 j := fun j => by
    rw [hσ]
    show (if 115 = 115 ∧ j = Lp then wc M w else tB σ 115 j) = _
    by_cases q : j = Lp
    · rw [ifT ⟨rfl, q⟩, ifT q]
    · rw [ifF (fun z => q z.2), ifF q]
  obtain ⟨⟨l1, l2, l3⟩, l4⟩ := h.1.2.2.2.1
  obtain ⟨-, w4, q, ⟨w1, w2, w3⟩, w5⟩ := h.2.2.2.2.2.1.2.2
  have i4 : ∀ g, g ≠ 24 → g ≠ 32 → mI M' g 1 = mI M g 1 := fun g g1 g2 => by
    rw [hM, mI_msI, ifF (by omega)]
    show mI (msI M 32 1 (nI (c + 1))) g 1 = _
    rw [mI_msI, ifF (by omega)]
  exact h.lp (by
    rw [hM]
    exact ((((Fz.rf (X := fun o => o = 1 ∨ o = 103 ∨ o = 104)).msI (fun _ => Or.inl rfl)).mwA (fun _ => Or.inr (Or.inl rfl))).mwA (fun _ => Or.inr (Or.inr rfl))).msI (fun _ => Or.inl rfl)) (by rw [hM]; exact ⟨rfl, rfl⟩) (fun g o z => by
    rw [hM, mI_msI, ifF (by omega)]
    show mI (msI M 32 1 (nI (c + 1))) g o = mI M g o
    rw [mI_msI, ifF (by omega)]) (fun g o => by rw [hM]; rfl) (fun o => by rw [hM]; rfl) (by rw [hσ]; exact ((((Ft.rf _ σ).p_tsI rfl).p_tsB rfl).p_tsA rfl).p_tsI rfl) (fun v => ⟨⟨by rw [hM, mI_msI, ifT ⟨rfl, rfl⟩], by rw [hσ]; rfl, by omega⟩, fun j hj => by
    rw [mA1, mA1, tA1, tB1]
    by_cases q : j = Lp
    · refine ⟨⟨w, by rw [ifF (by omega), ifT ⟨rfl, q⟩], hw.1, hw.2, by rw [ifT q, v.2.2.1.2 w hw.2]⟩, by rw [ifT ⟨rfl, q⟩, ifT q], by rw [ifT q]; exact hy⟩
    · obtain ⟨⟨w', w1, w2, w3, w4⟩, w5⟩ := l4 j (by omega)
      refine ⟨⟨w', by rw [ifF (by omega), ifF (fun z => q z.2)]; exact w1, w2, w3, by rw [ifF q, v.2.2.1.2 w' w3]; exact w4⟩, by rw [ifF (fun z => q z.2), ifF (by omega), ifF q]; exact w5⟩⟩) ⟨⟨c + 1, by
    rw [hM, mI_msI, ifF (by omega)]
    show mI (msI M 32 1 (nI (c + 1))) 32 1 = _
    rw [mI_msI, ifT ⟨rfl, rfl⟩], by rw [hσ]; rfl, hc⟩, (i4 43 (by decide) (by decide)).trans (w4.trans (by rw [hσ]; rfl)), q, ⟨(i4 41 (by decide) (by decide)).trans w1, by rw [hσ]; exact w2, w3⟩, fun j hj => by rw [hM, hσ]; exact w5 j hj⟩
/-- one less -/
theorem BS.pop (h : BS zb z7 C B P mss fss V I Bm (Lp + 1) x3 D M σ K N E A Wn) : BS zb z7 C B P mss fss V I Bm Lp x3 D (msI M 24 1 (nI Lp)) (tsI σ 117 (nI Lp)) K N E A Wn ∧ BTr V C P K N D M σ D (msI M 24 1 (nI Lp)) (tsI σ 117 (nI Lp)) := by
  obtain ⟨⟨l1, l2, l3⟩, l4⟩ := h.1.2.2.2.1
  obtain ⟨⟨c, c1, c2, c3⟩, c4, q, ⟨w1, w2, w3⟩, w5⟩ := h.2.2.2.2.2.1.2.2
  exact h.lp (Fz.rf.msI (fun _ => Or.inl rfl)) ⟨rfl, rfl⟩ (fun g o z => by rw [mI_msI, ifF (by omega)]) (fun _ _ => rfl) (fun _ => rfl) ((Ft.rf _ σ).p_tsI rfl) (fun v => ⟨⟨by rw [mI_msI, ifT ⟨rfl, rfl⟩], rfl, by omega⟩, fun j hj => by
    obtain ⟨⟨w', w1, w2, w3, w4⟩, w5⟩ := l4 j (by omega)
    exact ⟨⟨w', w1, w2, w3, by rw [v.2.2.1.2 w' w3]; exact w4⟩, w5⟩⟩) ⟨⟨c, by rw [mI_msI, ifF (by omega)]; exact c1, c2, c3⟩, by rw [mI_msI, ifF (by omega)]; exact c4, q, ⟨by rw [mI_msI, ifF (by omega)]; exact w1, w2, w3⟩, w5⟩
/-- too many steps -/
theorem BS.bad32 (h : BS zb z7 C B P mss fss V I Bm Lp x3 D M σ K N E A Wn) (x : Int32) (y : Int32) : K_X0_wrong 24 0 (msI M 32 1 x) = some (mn M, wM (msI M 32 1 x) 24 0) ∧ F_bad 24 0 (tsI σ 133 y) = some ((), badT (tsI σ 133 y) 24) ∧ FfB C B P mss fss M (wM (msI M 32 1 x) 24 0) σ (badT (tsI σ 133 y) 24) (mn M) := by
  have W := h.fw
  have F : Fz (fun o => o = 1) M (msI M 32 1 x) := Fz.rf.msI (fun _ => rfl)
  have f : Ft [133] σ (tsI σ 133 y) := (Ft.rf _ σ).p_tsI rfl
  obtain ⟨W', vz, -⟩ := W.w2 F (fun o _ z => Or.inl (Or.inl (by omega))) ⟨rfl, rfl⟩ (fun o => ⟨rfl, rfl, rfl⟩) (fun o => rfl) (by rw [mI_msI, ifF (by omega)]) (fun q _ => rfl) (fun q hq => by rw [mI_msI, ifF (by have := fixI q hq; omega)]) f (by decide)
  obtain ⟨b1, b2, b3⟩ := W'.badG (r := 24) (by decide) (by show tI σ 0 = 0; exact h.h0)
  have sg : SgX M (msI M 32 1 x) σ (tsI σ 133 y) := SgX.mk1 (fun o h1 h2 => F.so (by have := W.n167; omega) (by omega)) (fun g hg => by
    rw [mI_msI, ifF (fun z => by rw [z.1] at hg; exact absurd hg (by decide))]) (f.mono (by decide))
  have fb : Ft [0, 1] (tsI σ 133 y) (badT (tsI σ 133 y) 24) := badT_f
  exact ⟨b1, b2, b3.tr sg, ⟨N, h.hl.2, by rw [(fb 126 rfl).1]; exact h.1.2.2.1.2.2.1.1⟩, ⟨E, h.2.2.1.1.2.2.1, by rw [(fb 143 rfl).1]; exact h.2.2.1.1.2.1⟩, by rw [(fb 171 rfl).1]; exact h.2.2.2.2.2.2.2.2.1⟩
/-- what lists of equations owe -/
def LsH (z7 : Nat → Nat) (C : PC) (B : Nat) (P : Nat → Prop) (mss fss : List Nat) (V I Bm L d : Nat) (cfK : Nat → Nat → CM → Option ((Unit ⊕ Nat) × CM)) (cfT : Int32 → Int32 → TS → Option (Unit × TS)) : Prop := ∀ (Lp s i : Nat) (D : FQ) (M : CM) (σ : TS) (K N E A Wn l : Nat) (os : List Nat) (p E0 : Nat), s ≠ 1 → Lp + d ≤ 18 → i < I → BS 1 z7 C B P mss fss V I Bm Lp 0 D M σ K N E A Wn → LsP P M l os → E0 ≤ tE σ ∧ E0 ≤ 3000 → EqL (EqR C P M σ L d s) L E0 σ os p → BO (γ := Unit) (β := Unit) 1 z7 C B P mss fss V I Bm Lp 0 id D M σ K N E A Wn (cfK ((pl D 99).getD i 0) l M) (cfT (nI p) (nI i) σ)
theorem EqL.bt {s d p : Nat} (h : EqL (EqR C P M σ L d s) L E0 σ os p) (bt : BTr V C P K N D M σ D' M' σ') (hE : E0 ≤ tE σ) : EqL (EqR C P M' σ' L d s) L E0 σ' os p := EqL.mv (Nat.le_refl _) (Nat.le_refl _) (fun n _ hn => (bt.1.2.2.2.1.2.1.2 n (by omega)).1 70 (by decide)) (fun o p _ hp h => EqR.wz bt.1 (fun _ z => z) _ s o p (by omega) h) os p h
theorem t_113b {cfT : Int32 → Int32 → TS → Option (Unit × TS)} (h : tI σ 0 ≠ 0) {e : Nat} (he : e < 3000) (x : Int32) : L_equationsOf_113 cfT (k + 1) x2 (nI e) x σ = some ((), σ) := by
  unfold L_equationsOf_113
  rw [ifT (inb_nI' he (by decide))]
  by_cases q : tA σ 69 (ix (nI e)) < x
  · rw [ifT q]
  · rw [ifF q, t_isBad1 h, ob_some, ifF (show ¬ (1 : Int32) = 0 by decide)]
/-- the loop of a for -/
theorem for_lp {cfK : Nat → Nat → CM → Option ((Unit ⊕ Nat) × CM)} {cfT : Int32 → Int32 → TS → Option (Unit × TS)} {lx : Nat} {jx : Int32} (ih : LsH z7 C B P mss fss V I Bm L d cfK cfT) (hL : Lp + 1 + d ≤ 18 ∧ 1 ≤ d) (hi : i < I) {e p : Nat} (he : e < 3000) (hw : 38 ≤ w ∧ w < 38 + cm C) (hb : b ≤ 99) : ∀ (m y kf tf : Nat) D M σ K N E A Wn, y + m = b + 1 ∨ (m = 0 ∧ b < y ∧ y ≤ 200) → m < kf → m < tf → BS 1 z7 C B P mss fss V I Bm Lp 0 D M σ K N E A Wn → (P o ∧ mk M o = 13) → e < tE σ → (mI M 2403 o = nI w ∧ tB σ 71 e = wc M w) → (mI M 2405 o = nI b ∧ tA σ 69 e = nI b) → LsP P M (mR M 2406 o) os → tA σ 67 e = nI p → EqL (EqR C P M σ L d 0) L e σ os p →
    BO (γ := Unit) (β := Unit) 1 z7 C B P mss fss V I Bm Lp 0 Sum.inr D M σ K N E A Wn (KL_X0_list_85 cfK kf ((pl D 99).getD i 0) lx jx o (nI y) M) (L_equationsOf_113 cfT tf (nI i) (nI e) (nI y) σ) := by
  have ie : inb (nI e) 3000 := inb_nI' he (by decide)
  have xe : ix (nI e) = e := ix_nI (by omega)
  intro m
  induction m with
  | zero =>
    intro y kf tf D M σ K N E A Wn hy hk ht h ko heE h1 h2 hl hp hq
    obtain ⟨kf, rfl⟩ : ∃ g, kf = g + 1 := ⟨kf - 1, by omega⟩
    obtain ⟨tf, rfl⟩ : ∃ g, tf = g + 1 := ⟨tf - 1, by omega⟩
    have lt : nI b < nI y := (bI_lt (by omega) (by omega)).mpr (by omega)
    refine Or.inr ⟨D, M, σ, K, N, E, A, Wn, (), (), ?_, ?_, h, ⟨Nat.le_refl _, Nat.le_refl _, Nat.le_refl _, Nat.le_refl _, Nat.le_refl _⟩, BTr.rf h.cn⟩
    · unfold KL_X0_list_85
      rw [ifT ko.2, h2.1, ifT lt]
    · unfold L_equationsOf_113
      rw [ifT ie, xe, h2.2, ifT lt]
  | succ m ih2 =>
    intro y kf tf D M σ K N E A Wn hy hk ht h ko heE h1 h2 hl hp hq
    obtain ⟨kf, rfl⟩ : ∃ g, kf = g + 1 := ⟨kf - 1, by omega⟩
    obtain ⟨tf, rfl⟩ : ∃ g, tf = g + 1 := ⟨tf - 1, by omega⟩
    have nlt : ¬ nI b < nI y := fun z => by have := (bI_lt (by omega) (by omega)).mp z; omega
    obtain ⟨⟨c, c1, c2, c3⟩, -⟩ := h.2.2.2.2.2.1.2.2
    obtain ⟨⟨l1, l2, l3⟩, -⟩ := h.1.2.2.2.1
    obtain ⟨recK, hrK⟩ : ∃ q, q = KL_X0_list_85 cfK kf := ⟨_, rfl⟩
    obtain ⟨recT, hrT⟩ : ∃ q, q = L_equationsOf_113 cfT tf := ⟨_, rfl⟩
    have tb : ∀ s : TS, tI s 0 ≠ 0 → ∀ x, recT (nI i) (nI e) x s = some ((), s) := fun s hs x => by
      obtain ⟨tf', rfl⟩ : ∃ g, tf = g + 1 := ⟨tf - 1, by omega⟩
      rw [hrT]; exact t_113b hs he x
    have ih2' := fun D M σ K N E A Wn => ih2 (y + 1) kf tf D M σ K N E A Wn (by omega) (by omega) (by omega)
    rw [← hrK, ← hrT] at ih2'
    unfold KL_X0_list_85 L_equationsOf_113
    rw [ifT ko.2, h2.1, ifF nlt, ← hrK, ← hrT, ifT ie, xe, h2.2, ifF nlt, t_isBad0 h.h0, ob_some, ifT (rfl : (0 : Int32) = 0), c1, c2, nI_addL, show ∀ f : CM → Option ((Unit ⊕ (Unit ⊕ Nat)) × CM), nm (msI M 32 1 (nI (c + 1))) f = f (msI M 32 1 (nI (c + 1))) from fun _ => rfl, show ∀ f : TS → Option (Unit × TS), nm (tsI σ 133 (nI (c + 1))) f = f (tsI σ 133 (nI (c + 1))) from fun _ => rfl, show mI (msI M 32 1 (nI (c + 1))) 32 1 = nI (c + 1) from by rw [mI_msI, ifT ⟨rfl, rfl⟩]]
    have e133 : tI (tsI σ 133 (nI (c + 1))) 133 = nI (c + 1) := rfl
    rw [e133]
    by_cases hc : c = 4000
    · obtain ⟨b1, b2, b3⟩ := h.bad32 (nI (c + 1)) (nI (c + 1))
      have bk : mk (wM (msI M 32 1 (nI (c + 1))) 24 0) (mn M) = 7 := wM_k (msI M 32 1 (nI (c + 1))) 24 0
      have nle : ¬ nI (c + 1) ≤ 4000 := fun z => by rw [nI_leL (by omega) (by decide)] at z; omega
      rw [ifF nle, ifF nle, b1, ob_some, ifT bk, b2, ob_some]
      exact Or.inl ⟨_, _, _, (), rfl, rfl, b3⟩
    · have le : nI (c + 1) ≤ 4000 := by rw [nI_leL (by omega) (by decide)]; show c + 1 ≤ 4000; omega
      have iLp : inb (nI Lp) 17 := inb_nI' (by omega) (by decide)
      have iLp2 : inb (nI Lp) 20 := inb_nI' (by omega) (by decide)
      have xLp : ix (nI Lp) = Lp := ix_nI (by omega)
      obtain ⟨h3, bt3⟩ := h.push (w := w) (y := nI y) (c := c) (by omega) hw (by omega) ⟨y, by omega, rfl⟩
      obtain ⟨M3, hM3⟩ : ∃ q, q = msI (mwA (mwA (msI M 32 1 (nI (c + 1))) 103 Lp (nI w)) 104 Lp (nI y)) 24 1 (nI (Lp + 1)) := ⟨_, rfl⟩
      obtain ⟨s3, hs3⟩ : ∃ q, q = tsI (tsA (tsB (tsI σ 133 (nI (c + 1))) 115 Lp (wc M w)) 116 Lp (nI y)) 117 (nI (Lp + 1)) := ⟨_, rfl⟩
      rw [← hM3, ← hs3] at h3 bt3
      have se := bt3.1.2.1.1 o ko.1
      have ko1 : mk (msI M 32 1 (nI (c + 1))) o = 13 := ko.2
      have ko3 : mk M3 o = 13 := by rw [se.k]; exact ko.2
      have i24 : mI (msI M 32 1 (nI (c + 1))) 24 1 = nI Lp := by rw [mI_msI, ifF (by omega)]; exact l1
      have i24b : mI (mwA (msI M 32 1 (nI (c + 1))) 103 Lp (nI w)) 24 1 = nI Lp := i24
      have i24c : mI (mwA (mwA (msI M 32 1 (nI (c + 1))) 103 Lp (nI w)) 104 Lp (nI y)) 24 1 = nI Lp := i24
      have i23 : mI (msI M 32 1 (nI (c + 1))) 2403 o = nI w := by rw [mI_msI, ifF (by omega)]; exact h1.1
      have j17 : tI (tsI σ 133 (nI (c + 1))) 117 = nI Lp := l2
      have j17b : tI (tsB (tsI σ 133 (nI (c + 1))) 115 Lp (wc M w)) 117 = nI Lp := l2
      have j17c : tI (tsA (tsB (tsI σ 133 (nI (c + 1))) 115 Lp (wc M w)) 116 Lp (nI y)) 117 = nI Lp := l2
      have j71 : tB (tsI σ 133 (nI (c + 1))) 71 e = wc M w := h1.2
      have j67 : tA s3 67 e = nI p := by rw [hs3]; exact hp
      rw [ifT le, ifT le, ifT ko1, i24, ifT iLp, xLp, i23, nm_eq, i24b, ifT iLp, xLp, nm_eq, i24c, nI_addL, nm_eq, ← hM3, ifT ko3, ifT ie, j17, ifT iLp2, xLp, j71, nm_eq, j17b, ifT iLp2, xLp, nm_eq, j17c, nI_addL, nI_addL, nm_eq, ← hs3, ifT ie, j67]
      refine BO.pre bt3 ⟨Nat.le_refl _, Nat.le_refl _, Nat.le_refl _, Nat.le_refl _, Nat.le_refl _⟩ ?_
      have tE3 : tE σ ≤ tE s3 := by unfold tE; rw [hs3]; exact Nat.le_refl _
      have hin := ih (Lp + 1) 0 i D M3 s3 K N E A Wn (mR M3 2406 o) os p e (by decide) (by omega) hi h3 (by rw [se.r]; exact hl.wz bt3.1 (fun _ z => z)) ⟨by omega, by omega⟩ (hq.bt bt3 (by omega))
      refine hin.seq (fun _ _ => rfl) (fun M' σ' w y g => ?_) (fun D' M' σ' K' N' E' A' Wn' r y h4 le4 bt4 => ?_)
      · refine ⟨(), tsI σ' 117 (tI σ' 117 - 1), ?_, g.tws (S := [117]) ((Ft.rf _ σ').p_tsI rfl) (by decide) (by decide) ⟨rfl, rfl⟩ ⟨rfl, rfl, rfl⟩⟩
        rw [nm_eq, nm_eq, tb (tsI σ' 117 (tI σ' 117 - 1)) g.ne]
      · obtain ⟨⟨m1, m2, -⟩, -⟩ := h4.1.2.2.2.1
        obtain ⟨h5, bt5⟩ := h4.pop
        have zt := (bt3.tr bt4 (Nat.le_refl _) (Nat.le_refl _)).tr bt5 le4.1 le4.2.1
        have se5 := zt.1.2.1.1 o ko.1
        have e99 : (pl D' 99).getD i 0 = (pl D 99).getD i 0 := (zt.2.1.1 99 i (by have := h.fx.1.1.2.1; omega)).2
        have q69 := zt.1.2.2.2.1.2.1.2 e heE
        rw [m1, m2, nI_subL _ _ (show 1 ≤ Lp + 1 by omega), nm_eq, nm_eq, nm_eq, nm_eq]
        refine BO.pre bt5 ⟨Nat.le_refl _, Nat.le_refl _, Nat.le_refl _, Nat.le_refl _, Nat.le_refl _⟩ ?_
        have := ih2' D' (msI M' 24 1 (nI Lp)) (tsI σ' 117 (nI Lp)) K' N' E' A' Wn' h5 ⟨ko.1, by rw [se5.k]; exact ko.2⟩ (by have := zt.1.2.2.2.1.2.1.1; omega) ⟨by rw [se5.i]; exact h1.1, by rw [q69.2, h1.2, zt.1.2.2.1.2 w hw.2]⟩ ⟨by rw [se5.i]; exact h2.1, by rw [q69.1 69 (by decide)]; exact h2.2⟩ (by rw [se5.r]; exact hl.wz zt.1 (fun _ z => z)) (by rw [q69.1 67 (by decide)]; exact hp) (hq.bt zt (by omega))
        rw [e99] at this
        exact this
end FOR6
