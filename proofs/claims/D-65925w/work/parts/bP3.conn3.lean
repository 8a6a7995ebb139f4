/-! Layer B: the flat model: all connections -/
set_option maxRecDepth 100000
/-- the head of a set of faces -/
def isHd (σ : TS) (I f : Nat) : Prop := tA σ 44 (ix (tA σ 74 (f / 2))) = 1 ∧ hdT σ f = f ∧ alF σ I f
/-- the sets whose heads are below g, in order -/
def SeT (σ : TS) (I g q : Nat) : Prop := tI σ 156 = nI q ∧ q ≤ g ∧ ∃ h : Nat → Nat, (∀ j, j < q → tA σ 157 j = nI (h j) ∧ h j < g ∧ isHd σ I (h j)) ∧ (∀ i j, i < j → j < q → h i < h j) ∧ ∀ f, f < g → isHd σ I f → ∃ j, j < q ∧ h j = f
/-- an outcome -/
def CnO (zb : Nat) (z7 : Nat → Nat) (C : PC) (B : Nat) (P : Nat → Prop) (mss fss : List Nat) (V I Bm Lp : Nat) {δ : Type} (fb : Nat → δ) (D : FQ) (M : CM) (σ : TS) (K N E A Wn : Nat) (kr : Option ((Unit ⊕ δ) × CM)) (tr : Option (Unit × TS)) : Prop :=
  (∃ M' σ' w, kr = some (.inr (fb w), M') ∧ tr = some ((), σ') ∧ FfB C B P mss fss M M' σ σ' w) ∨
  (∃ D' M' σ' K' N' E' A' Wn' q, kr = some (.inl (), M') ∧ tr = some ((), σ') ∧ BS zb z7 C B P mss fss V I Bm Lp 0 D' M' σ' K' N' E' A' Wn' ∧ (K ≤ K' ∧ N ≤ N' ∧ E ≤ E' ∧ A ≤ A' ∧ Wn ≤ Wn') ∧ BTr V C P K N D M σ D' M' σ' ∧ SeT σ' I (2 * I) q)
section CONN3
variable {zb : Nat} {C : PC} {D D' D1 : FQ} {M M' M1 M2 : CM} {σ σ' σ0 σ1 σ2 s s1 : TS} {mss fss : List Nat} {B V I Bm K N K' N' K1 N1 E A Wn E' A' Wn' v l w d m i n k f g q Lp hh tf : Nat} {P : Nat → Prop} {x3 x y r op x2 x3' y4 x5 : Int32} {z7 : Nat → Nat} {S : List Nat} {δ : Type} {fb : Nat → δ}
theorem CnO.pre {kr : Option ((Unit ⊕ δ) × CM)} {tr : Option (Unit × TS)} (bt : BTr V C P K N D M σ D1 M1 σ1) (le : K ≤ K' ∧ N ≤ N' ∧ E ≤ E' ∧ A ≤ A' ∧ Wn ≤ Wn') (h : CnO zb z7 C B P mss fss V I Bm Lp fb D1 M1 σ1 K' N' E' A' Wn' kr tr) : CnO zb z7 C B P mss fss V I Bm Lp fb D M σ K N E A Wn kr tr := by
  rcases h with ⟨M2, σ2, w, c1, c2, c3⟩ | ⟨D2, M2, σ2, K2, N2, E2, A2, Wn2, q, c1, c2, c3, c4, c5, c6⟩
  · exact Or.inl ⟨M2, σ2, w, c1, c2, c3.pre bt.2.2.2.1⟩
  · exact Or.inr ⟨D2, M2, σ2, K2, N2, E2, A2, Wn2, q, c1, c2, c3, by omega, bt.tr c5 le.1 le.2.1, c6⟩
theorem alF.ft (ha : ∀ j, tA σ' 155 j = tA σ 155 j) : alF σ' I f ↔ alF σ I f := by
  unfold alF
  simp only [hdT_ft ha]
theorem isHd.ft (f : Ft S σ σ') (hS : [44, 74, 155].all (fun k => !S.contains k) = true) : isHd σ' I n ↔ isHd σ I n := by
  have hf : ∀ k, k ∈ [44, 74, 155] → S.contains k = false := fun k hk => by simpa using List.all_eq_true.mp hS k hk
  have h155 := (f 155 (hf 155 (by decide))).2.2.1
  unfold isHd
  rw [(f 74 (hf 74 (by decide))).2.2.1, (f 44 (hf 44 (by decide))).2.2.1, hdT_ft h155, alF.ft h155]
theorem SeT.ft (h : SeT σ I g q) (f : Ft S σ σ') (hS : [44, 74, 155, 156, 157].all (fun k => !S.contains k) = true) : SeT σ' I g q := by
  have hf : ∀ k, k ∈ [44, 74, 155, 156, 157] → S.contains k = false := fun k hk => by simpa using List.all_eq_true.mp hS k hk
  have h3 : [44, 74, 155].all (fun k => !S.contains k) = true := by
    rw [List.all_eq_true]
    intro k hk
    rw [hf k (by simp only [List.mem_cons, List.not_mem_nil, or_false] at hk ⊢; omega)]; rfl
  obtain ⟨h1, h2, hh, h4, h5, h6⟩ := h
  refine ⟨((f 156 (hf 156 (by decide))).1).trans h1, h2, hh, fun j hj => ?_, h5, fun u hu y => h6 u hu ((isHd.ft f h3).mp y)⟩
  obtain ⟨a, b, c⟩ := h4 j hj
  exact ⟨((f 157 (hf 157 (by decide))).2.2.1 j).trans a, b, (isHd.ft f h3).mpr c⟩
theorem SeT.no (h : SeT σ I g q) (hn : ¬ isHd σ I g) : SeT σ I (g + 1) q := by
  obtain ⟨h1, h2, hh, h4, h5, h6⟩ := h
  refine ⟨h1, by omega, hh, fun j hj => ?_, h5, fun u hu y => ?_⟩
  · obtain ⟨a, b, c⟩ := h4 j hj
    exact ⟨a, by omega, c⟩
  · by_cases e : u = g
    · rw [e] at y; exact absurd y hn
    · exact h6 u (by omega) y
theorem SeT.yes (h : SeT σ I g q) (hy : isHd σ I g) (f : Ft [156, 157] σ σ') (e1 : tI σ' 156 = nI (q + 1)) (e2 : tA σ' 157 q = nI g) (e3 : ∀ j, j ≠ q → tA σ' 157 j = tA σ 157 j) : SeT σ' I (g + 1) (q + 1) := by
  obtain ⟨h1, h2, hh, h4, h5, h6⟩ := h
  have h3 : [44, 74, 155].all (fun k => !([156, 157] : List Nat).contains k) = true := by decide
  refine ⟨e1, by omega, fun j => if j = q then g else hh j, fun j hj => ?_, fun i j hij hj => ?_, fun u hu y => ?_⟩
  · by_cases e : j = q
    · show tA σ' 157 j = nI (if j = q then g else hh j) ∧ (if j = q then g else hh j) < g + 1 ∧ isHd σ' I (if j = q then g else hh j)
      rw [ifT e, e]
      exact ⟨e2, by omega, (isHd.ft f h3).mpr hy⟩
    · show tA σ' 157 j = nI (if j = q then g else hh j) ∧ (if j = q then g else hh j) < g + 1 ∧ isHd σ' I (if j = q then g else hh j)
      rw [ifF e]
      obtain ⟨a, b, c⟩ := h4 j (by omega)
      exact ⟨(e3 j e).trans a, by omega, (isHd.ft f h3).mpr c⟩
  · show (if i = q then g else hh i) < (if j = q then g else hh j)
    rw [ifF (show ¬ i = q by omega)]
    by_cases e : j = q
    · rw [ifT e]; exact (h4 i (by omega)).2.1
    · rw [ifF e]; exact h5 i j hij (by omega)
  · by_cases e : u = g
    · exact ⟨q, by omega, by show (if q = q then g else hh q) = u; rw [ifT rfl, e]⟩
    · obtain ⟨j, j1, j2⟩ := h6 u (by omega) ((isHd.ft f h3).mp y)
      exact ⟨j, by omega, by show (if j = q then g else hh j) = u; rw [ifF (by omega)]; exact j2⟩
/-- the number of sets is written -/
theorem BS.w43 (h : BS zb z7 C B P mss fss V I Bm Lp x3 D M σ K N E A Wn) (ft : Ft [156, 157] σ σ') (hx : tI σ' 156 = x) : BS zb z7 C B P mss fss V I Bm Lp x3 D (msI M 43 1 x) σ' K N E A Wn ∧ BTr V C P K N D M σ D (msI M 43 1 x) σ' := by
  have W := h.fw
  have hV := h.hV
  have F : Fz (fun o => o = 1) M (msI M 43 1 x) := Fz.rf.msI (fun _ => rfl)
  obtain ⟨W', vz, -⟩ := W.w2 F (fun o _ z => Or.inl (Or.inl (by omega))) ⟨rfl, rfl⟩ (fun o => ⟨rfl, rfl, rfl⟩) (fun o => rfl) (by rw [mI_msI, ifF (by omega)]) (fun q _ => rfl) (fun q hq => by rw [mI_msI, ifF (by have := fixI q hq; omega)]) ft (by decide)
  have fq : Fq D (fun t => t = 1) M (msI M 43 1 x) := F.mono (fun o ho z => by rw [z, tgo_s (by decide)])
  have ii : ∀ g o, ¬ (g = 43 ∧ o = 1) → mI (msI M 43 1 x) g o = mI M g o := fun g o z => by rw [mI_msI, ifF z]
  have sg : SgX M (msI M 43 1 x) σ σ' := ⟨fun o h1 h2 => F.so (by have := W.n167; omega) (by omega), fun g hg => ii _ _ (fun z => by rw [z.1] at hg; exact absurd hg (by decide)), ft.mono (by decide), fun _ => by rw [mI_msI, ifT ⟨rfl, rfl⟩, hx]⟩
  obtain ⟨Fs', bt⟩ := h.1.bwg ⟨rfl, rfl⟩ W' vz fq (fun t z => by rw [z]; exact Or.inl rfl) (fun k hk => ⟨fun f _ => ii _ _ (fun z => by
    have := (W.2.1.2.1 98 (by decide) k (by omega)).2.1.1
    omega), fun g _ => rfl⟩) (Dx.rf D M) ⟨⟨ii _ _ (fun z => absurd z.1 (by decide)), ii _ _ (fun z => absurd z.1 (by decide)), ii _ _ (fun z => absurd z.1 (by decide))⟩, fun f => rfl⟩ ⟨rfl, rfl⟩ ft (by decide) (by decide) sg
  have hc : Ct32 D K (msI M 43 1 x) σ' := by
    obtain ⟨⟨c, c1, c2, c3⟩, c4, q, ⟨q1, q2, q3⟩, q4⟩ := h.2.2.2.2.2.1.2.2
    exact ⟨⟨c, (ii _ _ (fun z => absurd z.1 (by decide))).trans c1, ((ft 133 rfl).1).trans c2, c3⟩, by rw [mI_msI, ifT ⟨rfl, rfl⟩, hx], q, ⟨(ii _ _ (fun z => absurd z.1 (by decide))).trans q1, ((ft 154 rfl).1).trans q2, q3⟩, fun j hj => by
      obtain ⟨k, k1, k2, k3⟩ := q4 j hj
      exact ⟨k, k1, k2, ((ft 153 rfl).2.2.1 j).trans k3⟩⟩
  exact ⟨⟨Fs', h.2.mvc hc W hV bt.2.2.1 (Nat.le_refl _) (Nat.le_refl _) fq (fun t z y => by rw [z] at y; unfold BT tg at y; omega) (Dx.rf D M) (fun f hf => ii _ _ (fun z => by rw [z.1] at hf; exact absurd hf (by decide))) ft (by decide)⟩, bt⟩
theorem t_7b (h : tI s 0 ≠ 0) (x : Int32) : L_connections_7 (tf + 1) x s = some ((), s) := by
  unfold L_connections_7
  by_cases q : 2 * tI s 82 ≤ x
  · rw [ifT q]
  · rw [ifF q, t_isBad1 h, ob_some, ifF (show ¬ (1 : Int32) = 0 by decide)]
/-- all faces -/
theorem conn_lp : ∀ (d g kf tf q : Nat) D M σ K N E A Wn, g + d = 2 * I → 2 ≤ g → d < kf → d < tf → BS zb z7 C B P mss fss V I Bm Lp 0 D M σ K N E A Wn → SeT σ I g q → tA σ 44 (ix (tA σ 74 0)) = 0 → CnO zb z7 C B P mss fss V I Bm Lp Sum.inr D M σ K N E A Wn (KL_X0_connections_7 kf (nI g) M) (L_connections_7 tf (nI g) σ) := by
  intro d
  induction d with
  | zero =>
    intro g kf tf q D M σ K N E A Wn hg hg2 hkf htf h hS hr
    obtain ⟨kf, rfl⟩ : ∃ g, kf = g + 1 := ⟨kf - 1, by omega⟩
    obtain ⟨tf, rfl⟩ : ∃ g, tf = g + 1 := ⟨tf - 1, by omega⟩
    have c1 := h.fx.2.2.1.2.1
    have c2 := h.fx.2.2.2.1.2
    have I200 := h.fx.2.1.2.1
    have le : nI (2 * I) ≤ nI g := (bI_le (by omega) (by omega)).mpr (by omega)
    refine Or.inr ⟨D, M, σ, K, N, E, A, Wn, q, ?_, ?_, h, ⟨Nat.le_refl _, Nat.le_refl _, Nat.le_refl _, Nat.le_refl _, Nat.le_refl _⟩, BTr.rf h.cn, by rw [show 2 * I = g by omega]; exact hS⟩
    · unfold KL_X0_connections_7
      rw [c2, n_dbl, ifT le]
    · unfold L_connections_7
      rw [c1, n_dbl, ifT le]
  | succ d ih =>
    intro g kf tf q D M σ K N E A Wn hg hg2 hkf htf h hS hr
    obtain ⟨kf, rfl⟩ : ∃ g, kf = g + 1 := ⟨kf - 1, by omega⟩
    obtain ⟨tf, rfl⟩ : ∃ g, tf = g + 1 := ⟨tf - 1, by omega⟩
    have c1 := h.fx.2.2.1.2.1
    have c2 := h.fx.2.2.2.1.2
    have c7 := h.fx.2.2.1.1
    have I200 := h.fx.2.1.2.1
    have V96 := h.hV.2
    have J := h.2.2.2.2.2.1.1
    have hFU : 400 < FU := by unfold FU; decide
    have le : ¬ nI (2 * I) ≤ nI g := fun z => by have := (bI_le (by omega) (by omega)).mp z; omega
    have g4 : g < 400 ∧ g / 2 < I := ⟨by omega, by omega⟩
    have gh := n_half g g4.1
    have ng : nI g + 1 = nI (g + 1) := nI_addL g 1
    have c43 : mI M 43 1 = nI q := h.2.2.2.2.2.1.2.2.2.1.trans hS.1
    have hq := hS.2.1
    obtain ⟨i1, i2⟩ := h.fi g4
    obtain ⟨-, -, -, k, k1, k24, k2, k3, k4, k5, k6⟩ := h.inst g4.2
    obtain ⟨-, q1, -, -, q4⟩ := z_hd J (f := g) g4.1
    obtain ⟨rec, hrec⟩ : ∃ q, q = KL_X0_connections_7 kf := ⟨_, rfl⟩
    obtain ⟨trec, htrec⟩ : ∃ q, q = L_connections_7 tf := ⟨_, rfl⟩
    have ih' := fun q D M σ K N E A Wn h hS hr => ih (g + 1) kf tf q D M σ K N E A Wn (by omega) (by omega) (by omega) (by omega) h hS hr
    rw [← hrec, ← htrec] at ih'
    have tb : ∀ s : TS, tI s 0 ≠ 0 → trec (nI (g + 1)) s = some ((), s) := fun s hs => by
      obtain ⟨tf', rfl⟩ : ∃ g, tf = g + 1 := ⟨tf - 1, by omega⟩
      rw [htrec]; exact t_7b hs _
    have gI : inb (nI g) 400 := inb_nI' g4.1 (by decide)
    have hodd : nI g - nI (g / 2) * 2 = nI (g % 2) := by rw [← gh]; exact n_odd g g4.1
    have cl : ∀ s : TS, cnt s (g / 2) 0 V ≤ 96 := fun s => Nat.le_trans (cnt_le V 0) V96
    unfold KL_X0_connections_7 L_connections_7
    rw [c1, c2, n_dbl, ifF le, ifF le, t_isBad0 h.h0, ob_some, ifT (rfl : (0 : Int32) = 0), i1, ob_some, ifT (Or.inr i2), ifT i2, k2, ifT k4, gh, nm_eq (nI (g / 2)), ifT (inb_nI' (by omega) (by decide)), ix_nI (by omega), k3, ifT (inb_nI' k24 (by decide)), ix_nI (by omega), ng, ← hrec, ← htrec]
    rcases k6 with ⟨k6, k7⟩ | ⟨k6, k7⟩
    · have no : ¬ isHd σ I g := fun z => by
        have z := z.1
        rw [k3, ix_nI (by omega), k7] at z
        exact absurd z (by decide)
      rw [ifT k6, ifF (by rw [k7]; decide), nm_eq, nm_eq]
      exact ih' q D M σ K N E A Wn h (hS.no no) hr
    · have k7' : tA σ 44 (ix (tA σ 74 (g / 2))) = 1 := by rw [k3, ix_nI (by omega)]; exact k7
      have hr2 : ¬ tA σ 74 (g / 2) = tA σ 74 0 := fun z => by
        rw [z, hr] at k7'; exact absurd k7' (by decide)
      rw [ifF (show ¬ mI M 1801 (mss.getD k 0) = 0 by rw [k6]; decide), ifT k7, ifT gI, ix_nI (by omega), q1, ob_some]
      by_cases e : hdT σ g = g
      · obtain ⟨c, t1, t2, t3⟩ := t_alone (x2 := nI (g / 2)) h g4 e
        have e155 := q4.mp e
        rw [ifT (by rw [e]), ifT e155, t1, ob_some]
        rcases k_alone h g4 e with ⟨al, ka⟩ | ⟨al, ka⟩
        · have nc : ¬ nI c < 2 := fun z => by
            rw [nI_ltL (by omega) (by decide)] at z
            exact t3.mp z al
          rw [ka, ob_some, ifT (rfl : (0 : Int32) = 0), ifF nc, hS.1, ifT (inb_nI' (by omega) (by decide)), nm_eq, nm_eq, ix_nI (by omega)]
          obtain ⟨σ1, hσ⟩ : ∃ z, z = tsI (tsA σ 157 q (nI g)) 156 (nI (q + 1)) := ⟨_, rfl⟩
          have et : tsI (tsA σ 157 q (nI g)) 156 (tI (tsA σ 157 q (nI g)) 156 + 1) = σ1 := by
            rw [hσ, show tI (tsA σ 157 q (nI g)) 156 = nI q from hS.1, nI_addL]
          have ft : Ft [156, 157] σ σ1 := by rw [hσ]; exact ((Ft.rf _ σ).p_tsA rfl).p_tsI rfl
          have eK : mI M 43 1 + 1 = nI (q + 1) := by rw [c43, nI_addL]
          have e156 : tI σ1 156 = nI (q + 1) := by rw [hσ]; rfl
          obtain ⟨h1, bt1⟩ := h.w43 ft e156
          have hS1 : SeT σ1 I (g + 1) (q + 1) := hS.yes ⟨k7', e, al⟩ ft e156 (by rw [hσ]; show tA (tsA σ 157 q (nI g)) 157 q = nI g; rw [tA_tsA, ifT ⟨rfl, rfl⟩]) (fun j hj => by rw [hσ]; show tA (tsA σ 157 q (nI g)) 157 j = _; rw [tA_tsA, ifF (fun z => hj z.2)])
          unfold KJ_X0_connections_73_7
          rw [et, ifT h.fw.k1, eK, nm_eq]
          unfold F_setEquations
          refine CnO.pre bt1 ⟨Nat.le_refl _, Nat.le_refl _, Nat.le_refl _, Nat.le_refl _, Nat.le_refl _⟩ ?_
          have SL := set_lp (I := I) g4 (cnt σ1 (g / 2) 0 V) 0 FU FU ((pl D 99).getD (g / 2) 0) D _ σ1 K N E A Wn (Nat.le_of_eq (Nat.zero_add _).symm) (by rw [Nat.zero_add]; exact cl σ1) (by have := cl σ1; omega) (by have := cl σ1; omega) rfl (by rw [(ft 74 rfl).2.2.1, (ft 74 rfl).2.2.1]; exact hr2) h1
          rcases SL with ⟨M', σ', w, y, b1, b2, b3⟩ | ⟨D', M', σ', K', N', E', A', Wn', r, y, b1, b2, b3, b4, b5⟩
          · rw [show KL_X0_connections_80 FU (nI g) ((pl D 99).getD (g / 2) 0) 0 0 (msI M 43 1 (nI (q + 1))) = _ from b1, obS_inr, show L_setEquations_2 FU (nI g) 0 σ1 = _ from b2, ob_some, ob_some, nm_eq, tb _ b3.ne]
            exact Or.inl ⟨_, _, _, rfl, rfl, b3⟩
          · have fs := fS_L_setEquations_2 _ _ _ _ _ _ b2
            rw [show KL_X0_connections_80 FU (nI g) ((pl D 99).getD (g / 2) 0) 0 0 (msI M 43 1 (nI (q + 1))) = _ from b1, obS_inl, show L_setEquations_2 FU (nI g) 0 σ1 = _ from b2, ob_some, ob_some, nm_eq, nm_eq, ng]
            exact CnO.pre b5 b4 (ih' (q + 1) D' M' σ' K' N' E' A' Wn' b3 (hS1.ft fs (by decide)) (by
              have ft2 := ft
              rw [(fs 74 rfl).2.2.1, (fs 44 rfl).2.2.1, (ft 74 rfl).2.2.1, (ft 44 rfl).2.2.1]; exact hr))
        · have nc : nI c < 2 := by
            rw [nI_ltL (by omega) (by decide)]
            exact t3.mpr al
          have no : ¬ isHd σ I g := fun z => al z.2.2
          have eK : mI M 43 1 + 0 = nI q := by rw [c43, nI_addL]; rfl
          obtain ⟨h1, bt1⟩ := h.w43 (Ft.rf _ σ) hS.1
          rw [ka, ob_some, ifF (show ¬ (1 : Int32) = 0 by decide), ifT nc, hodd]
          unfold KJ_X0_connections_73_7
          rw [ifT h.fw.k1, eK, nm_eq]
          refine CnO.pre bt1 ⟨Nat.le_refl _, Nat.le_refl _, Nat.le_refl _, Nat.le_refl _, Nat.le_refl _⟩ ?_
          rcases Nat.mod_two_eq_zero_or_one g with z | z
          · have an := al_no g4 z (o := (pl D 99).getD (g / 2) 0) h1 rfl (cnt σ (g / 2) 0 V) 0 FU (Nat.le_of_eq (Nat.zero_add _).symm) (by rw [Nat.zero_add]; exact cl σ) (by have := cl σ; omega)
            rw [z, ifF (show ¬ nI 0 = 1 by decide), show KL_X0_connections_80 FU (nI g) ((pl D 99).getD (g / 2) 0) 1 0 (msI M 43 1 (nI q)) = _ from an, obS_inl, nm_eq, nm_eq, ng]
            exact ih' q D _ σ K N E A Wn h1 (hS.no no) hr
          · rw [z, ifT (show nI 1 = 1 from rfl)]
            have SL := al_lp (I := I) g4 z (cnt σ (g / 2) 0 V) 0 FU FU ((pl D 99).getD (g / 2) 0) D _ σ K N E A Wn (Nat.le_of_eq (Nat.zero_add _).symm) (by rw [Nat.zero_add]; exact cl σ) (by have := cl σ; omega) (by have := cl σ; omega) rfl h1
            rcases SL with ⟨M', σ', w, y, b1, b2, b3⟩ | ⟨D', M', σ', K', N', E', A', Wn', r, y, b1, b2, b3, b4, b5⟩
            · rw [show KL_X0_connections_80 FU (nI g) ((pl D 99).getD (g / 2) 0) 1 0 (msI M 43 1 (nI q)) = _ from b1, obS_inr, show L_connections_134 FU (nI g) (nI (g / 2)) 0 σ = _ from b2, ob_some, nm_eq, tb _ b3.ne]
              exact Or.inl ⟨_, _, _, rfl, rfl, b3⟩
            · have fs := fS_L_connections_134 _ _ _ _ _ _ _ b2
              rw [show KL_X0_connections_80 FU (nI g) ((pl D 99).getD (g / 2) 0) 1 0 (msI M 43 1 (nI q)) = _ from b1, obS_inl, show L_connections_134 FU (nI g) (nI (g / 2)) 0 σ = _ from b2, ob_some, nm_eq, nm_eq, ng]
              exact CnO.pre b5 b4 (ih' q D' M' σ' K' N' E' A' Wn' b3 ((hS.no no).ft fs (by decide)) (by
                rw [(fs 74 rfl).2.2.1, (fs 44 rfl).2.2.1]; exact hr))
      · have no : ¬ isHd σ I g := fun z => e z.2.1
        rw [ifF (fun z => e ((bI_eq (by have := (z_hd J (f := g) g4.1).1; omega) (by omega)).mp z)), ifF (fun z => e (q4.mpr z)), nm_eq, nm_eq]
        exact ih' q D M σ K N E A Wn h (hS.no no) hr
/-- connections, both sides -/
theorem z_connections (h : BS zb z7 C B P mss fss V I Bm Lp 0 D M σ K N E A Wn) (hr : tA σ 44 (ix (tA σ 74 0)) = 0) : CnO zb z7 C B P mss fss V I Bm Lp id D M σ K N E A Wn (K_X0_connections M) (F_connections σ) := by
  have I1 := h.fx.2.1.2.2.2.1
  have I200 := h.fx.2.1.2.1
  obtain ⟨G, hG, hGl⟩ := FUg
  have hG : FU = G + 1 := hG
  have hFU : 402 < FU := by unfold FU; decide
  have ft : Ft [156, 157] σ (tsI σ 156 0) := (Ft.rf _ σ).p_tsI rfl
  obtain ⟨h1, bt1⟩ := h.w43 (x := 0) ft rfl
  obtain ⟨M1, hM⟩ : ∃ z, z = msI M 43 1 0 := ⟨_, rfl⟩
  obtain ⟨σ1, hσ⟩ : ∃ z, z = tsI σ 156 0 := ⟨_, rfl⟩
  rw [← hM, ← hσ] at h1 bt1
  rw [← hσ] at ft
  have c2 := h1.fx.2.2.2.1.2
  have hr1 : tA σ1 44 (ix (tA σ1 74 0)) = 0 := by rw [(ft 74 rfl).2.2.1, (ft 44 rfl).2.2.1]; exact hr
  have sk : ∀ n g, (g = 0 ∨ g = 1) → KL_X0_connections_7 (n + 1) (nI g) M1 = KL_X0_connections_7 n (nI (g + 1)) M1 := fun n g hg => by
    have g4 : g < 400 ∧ g / 2 < I := ⟨by omega, by omega⟩
    have gz : g / 2 = 0 := by omega
    obtain ⟨i1, i2⟩ := h1.fi g4
    obtain ⟨-, -, -, k, k1, k24, k2, k3, k4, k5, k6⟩ := h1.inst g4.2
    have ng : nI g + 1 = nI (g + 1) := nI_addL g 1
    rw [gz] at k3
    rw [k3, ix_nI (by omega)] at hr1
    rcases k6 with ⟨k6, k7⟩ | ⟨k6, k7⟩
    · conv => lhs; unfold KL_X0_connections_7
      rw [c2, n_dbl, ifF (fun z => by have := (bI_le (by omega) (by omega)).mp z; omega), i1, ob_some, ifT (Or.inr i2), ifT i2, k2, ifT k4, ifT k6, ng]
      rfl
    · rw [k7] at hr1; exact absurd hr1 (by decide)
  obtain ⟨G', rfl⟩ : ∃ z, G = z + 1 := ⟨G - 1, by omega⟩
  have e2 : KL_X0_connections_7 FU 0 M1 = KL_X0_connections_7 G' (nI 2) M1 := by
    rw [hG, show (0 : Int32) = nI 0 from rfl, sk (G' + 1) 0 (Or.inl rfl), sk G' 1 (Or.inr rfl)]
  have hz : ∀ g, g < 2 → ¬ isHd σ1 I g := fun g hg z => by
    have z := z.1
    rw [show g / 2 = 0 by omega, hr1] at z
    exact absurd z (by decide)
  have hS : SeT σ1 I 2 0 := ⟨by rw [hσ]; rfl, by omega, fun _ => 0, fun j hj => absurd hj (by omega), fun i j _ hj => absurd hj (by omega), fun f hf y => absurd y (hz f hf)⟩
  unfold K_X0_connections F_connections
  rw [nm_eq, nm_eq, ← hM, ← hσ, e2]
  refine CnO.pre bt1 ⟨Nat.le_refl _, Nat.le_refl _, Nat.le_refl _, Nat.le_refl _, Nat.le_refl _⟩ ?_
  rcases conn_lp (2 * I - 2) 2 G' FU 0 D M1 σ1 K N E A Wn (by omega) (Nat.le_refl _) (by omega) (by omega) h1 hS hr1 with ⟨M', σ', w, b1, b2, b3⟩ | ⟨D', M', σ', K', N', E', A', Wn', q, b1, b2, b3, b4, b5, b6⟩
  · rw [b1, obS_inr, show L_connections_7 FU 2 σ1 = _ from b2, ob_some]
    exact Or.inl ⟨_, _, _, rfl, rfl, b3⟩
  · rw [b1, obS_inl, show L_connections_7 FU 2 σ1 = _ from b2, ob_some]
    exact Or.inr ⟨D', M', σ', K', N', E', A', Wn', q, rfl, rfl, b3, b4, b5, b6⟩
end CONN3
