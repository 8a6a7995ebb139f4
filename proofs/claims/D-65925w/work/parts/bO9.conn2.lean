/-! Layer B: the flat model: equations of joined faces: heads, pairs -/
set_option maxRecDepth 100000
/-- the head of a face's set -/
def hdT (σ : TS) (f : Nat) : Nat := ix (((F_headOf (nI f) σ).map Prod.fst).getD (-1))
section PAIRS
variable {zb : Nat} {C : PC} {D D' : FQ} {M M' M1 M2 : CM} {σ σ' σ1 σ2 s1 : TS} {mss fss : List Nat} {B V I Bm K N K' N' E A Wn v l w d s i n k f g L Lp hh : Nat} {P : Nat → Prop} {x3 x y r op x2 x3' x4 : Int32} {z7 : Nat → Nat} {S : List Nat} {hd : Nat → Nat}
theorem hdT_eq {p : Nat} (h : F_headOf (nI f) σ = some (nI p, σ)) (hp : p < 400) : hdT σ f = p := by
  unfold hdT
  rw [h]
  exact ix_nI (by omega)
theorem z_hd (h : JnX M σ) (hf : f < 400) : hdT σ f ≤ f ∧ K_X0_top (nI f) M = some (nI (hdT σ f), M) ∧ F_headOf (nI f) σ = some (nI (hdT σ f), σ) ∧ SmF σ (hdT σ f) f ∧ (hdT σ f = f ↔ tA σ 155 f = nI f) := by
  obtain ⟨p, p1, p2, p3, p4⟩ := z_head h f hf
  rw [hdT_eq p3 (by omega)]
  exact ⟨p1, p2, p3, p4⟩
theorem t_hdL (ha : ∀ j, tA σ' 155 j = tA σ 155 j) : ∀ (n : Nat) (x : Int32), (L_headOf_2 n x σ = none ∧ L_headOf_2 n x σ' = none) ∨ ∃ y, L_headOf_2 n x σ = some (y, σ) ∧ L_headOf_2 n x σ' = some (y, σ') := by
  intro n
  induction n with
  | zero => intro x; exact Or.inl ⟨rfl, rfl⟩
  | succ n ih =>
    intro x
    unfold L_headOf_2
    rw [ha]
    by_cases q : inb x 400
    · simp only [ifT q]
      by_cases q2 : tA σ 155 (ix x) = x
      · simp only [ifT q2]; exact Or.inr ⟨_, rfl, rfl⟩
      · simp only [ifF q2, nm_eq]; exact ih _
    · rw [ifF q, ifF q]; exact Or.inl ⟨rfl, rfl⟩
theorem t_hdF (ha : ∀ j, tA σ' 155 j = tA σ 155 j) (x : Int32) : (F_headOf x σ = none ∧ F_headOf x σ' = none) ∨ ∃ y, F_headOf x σ = some (y, σ) ∧ F_headOf x σ' = some (y, σ') := by
  unfold F_headOf
  rcases t_hdL ha FU x with ⟨h1, h2⟩ | ⟨y, h1, h2⟩
  · rw [h1, h2]; exact Or.inl ⟨rfl, rfl⟩
  · rw [h1, h2, ob_some, ob_some]; exact Or.inr ⟨y, rfl, rfl⟩
theorem hdT_ft (ha : ∀ j, tA σ' 155 j = tA σ 155 j) (f : Nat) : hdT σ' f = hdT σ f := by
  unfold hdT
  rcases t_hdF ha (nI f) with ⟨h1, h2⟩ | ⟨y, h1, h2⟩
  · rw [h1, h2]
  · rw [h1, h2]; rfl
/-- nodes made -/
theorem BS.fl1 {kr : Option ((Nat ⊕ Nat) × CM)} {tr : Option (Int32 × TS)} (h : BS zb z7 C B P mss fss V I Bm Lp x3 D M σ K N E A Wn) (fl : FlO 1 105 106 12000 1 z7 C B P mss fss V I Bm Lp 0 x3 s hh L D M σ K N kr tr) (hf : FS S σ tr) (hS : S.contains 143 = false ∧ S.contains 171 = false) :
    (∃ M' σ' w y, kr = some (.inr w, M') ∧ tr = some (y, σ') ∧ FfB C B P mss fss M M' σ σ' w ∧ inb y 70000 ∧ Ft S σ σ') ∨
    (∃ D' M' σ' K' N' a n', kr = some (.inl a, M') ∧ tr = some (nI n', σ') ∧ BS zb z7 C B P mss fss V I Bm Lp x3 D' M' σ' K' N' E A Wn ∧ (K ≤ K' ∧ N ≤ N') ∧ BTr V C P K N D M σ D' M' σ' ∧ NdR x3 D' M' σ' 106 V hh s K' N' a n' ∧ Ft S σ σ' ∧ ∃ z, SzR σ' N' hh n' z ∧ z + L ≤ n' + 1) := by
  rcases fl with ⟨M', σ', w, y, b1, b2, b3, b4, b5⟩ | ⟨D', M', σ', K', N', a, n', b1, b2, b3, ⟨b4, b5⟩, b6, b7, zz, sz1, sz2⟩
  · have f := hf _ _ b2
    exact Or.inl ⟨M', σ', w, y, b1, b2, ⟨b3, b5, ⟨E, h.2.2.1.1.2.2.1, by rw [(f 143 hS.1).1]; exact h.2.2.1.1.2.1⟩, by rw [(f 171 hS.2).1]; exact h.2.2.2.2.2.2.2.2.1⟩, b4, f⟩
  · have f := hf _ _ b2
    obtain ⟨t1, t2, t3, t4, t5, t6, ⟨t7, t8, t9⟩, t10⟩ := b6
    have bx := h.2.mv h.fw h.hV t3 b4 b5 t9 (fun t z => TB.bt (Or.inl ⟨rfl, rfl, rfl, rfl⟩) z) t2 (fun f _ => t7 f) t5 (by decide)
    have bt : BTr V C P K N D M σ D' M' σ' := ⟨t1, t2, t3, t4, fun v hv hl g hg => (h.fw.2.1.so3 (by decide) hl t9 (fun z => TB.bt (Or.inl ⟨rfl, rfl, rfl, rfl⟩) z (by
      have := (h.fw.2.1.1 98 (by decide)).2.2
      have e : flX 98 = 96 := rfl
      unfold BT tg; omega))).r g, fun k hk v => (t5 k (by
      have : ∀ k, k ∈ vkL → fbL.contains k = false := by decide
      exact this k hk)).2.2.1 v⟩
    exact Or.inr ⟨D', M', σ', K', N', a, n', b1, b2, ⟨b3, bx⟩, ⟨b4, b5⟩, bt, b7, f, zz, sz1, sz2⟩
/-- the twin makes nodes after a fault -/
theorem FfB.mk1 (h : FfB C B P mss fss M M' σ σ' w) (ho : MkA op x2 x3 x4) : ∃ y s', F_make op x2 x3 x4 σ' = some (y, s') ∧ inb y 70000 ∧ FfB C B P mss fss M M' σ s' w ∧ Ft [121, 122, 123, 124, 125, 126, 127, 131, 134] σ' s' := by
  obtain ⟨y, s', e1, e2, e3, e4⟩ := t_makeF h.ne h.2.1 ho
  exact ⟨y, s', e1, e2, ⟨h.1.tws e3 (by decide) (by decide) ⟨rfl, rfl⟩, e4, by rw [(e3 143 rfl).1]; exact h.2.2.1, by rw [(e3 171 rfl).1]; exact h.2.2.2⟩, e3⟩
theorem t_mvA (h107 : tI σ 107 = nI V) (hV : V ≤ 96) (hk : k ≤ 1000) : ∃ y, F_memberVariable (nI n) (nI k) σ = some (y, σ) := by
  rcases t_memV (n := n) h107 hV hk with ⟨v, -, h⟩ | ⟨-, h⟩
  · exact ⟨_, h⟩
  · exact ⟨_, h⟩
/-- partner's variable is there -/
theorem BS.own (h : BS zb z7 C B P mss fss V I Bm Lp x3 D M σ K N E A Wn) (hf : f / 2 < I) (hg : g < 400 ∧ g / 2 < I) (hs : hdT σ g = f) (ho : OwV σ V (f / 2) k v) (hk : k ≤ 1000) : ∃ u, OwV σ V (g / 2) k u ∧ K_X0_varIn ((pl D 99).getD (g / 2) 0) (nI k) M = some (nI u, M) ∧ F_memberVariable (nI (g / 2)) (nI k) σ = some (nI u, σ) := by
  obtain ⟨-, -, -, sm, -⟩ := z_hd h.2.2.2.2.2.1.1 hg.1
  rw [hs] at sm
  have e := h.fx.2.1.2.2.2.2.2.2.2 (f / 2) (g / 2) hf hg.2 sm.1
  have h1 := cnt_cut (σ := σ) (n := f / 2) (V := 0) (V1 := v + 1) (V2 := V) (Nat.zero_le _) ho.1
  rw [Nat.sub_zero, Nat.sub_zero, cnt_s, ifT ho.2.1, ho.2.2] at h1
  rcases z_varIn h hg.2 hk with ⟨u, u1, u2, u3⟩ | ⟨u1, -⟩
  · exact ⟨u, u1, u2, u3⟩
  · omega
theorem OwV.vk (h : OwV σ V n k v) (vk : ∀ j, tA σ' 96 j = tA σ 96 j) : OwV σ' V n k v := ⟨h.1, by rw [vk]; exact h.2.1, by rw [cnt_eq _ _ (fun u _ _ => vk u)]; exact h.2.2⟩
theorem sz_up (h : ∃ z, SzR σ N 1 n z ∧ z + L ≤ n + 1) : ∃ z, SzR σ N 100 n z ∧ z + L ≤ n + 1 := by
  obtain ⟨z, h1, h2⟩ := h
  exact ⟨z, SzR.mv Nd4.rf (Nat.le_refl _) _ _ _ _ _ (by decide) (Nat.le_refl _) h1, h2⟩
/-- one node: a variable -/
theorem BS.var1 (h : BS zb z7 C B P mss fss V I Bm Lp 0 D M σ K N E A Wn) (hv : v < V) :
    (∃ M' σ' w y, K_X3_make 105 1 (nI v) 0 0 0 M = some (.inr w, M') ∧ F_make 2 (nI v) 0 0 σ = some (y, σ') ∧ FfB C B P mss fss M M' σ σ' w ∧ inb y 70000 ∧ Ft sF_make σ σ') ∨
    (∃ D' M' σ' K' N' a n', K_X3_make 105 1 (nI v) 0 0 0 M = some (.inl a, M') ∧ F_make 2 (nI v) 0 0 σ = some (nI n', σ') ∧ BS zb z7 C B P mss fss V I Bm Lp 0 D' M' σ' K' N' E A Wn ∧ (K ≤ K' ∧ N ≤ N') ∧ BTr V C P K N D M σ D' M' σ' ∧ NdR 0 D' M' σ' 106 V 1 0 K' N' a n' ∧ Ft sF_make σ σ' ∧ ∃ z, SzR σ' N' 1 n' z ∧ z + N ≤ n' + 1) :=
  h.fl1 (mk_lf (op := 1) (op' := 2) (vl := nI v) (y2 := nI v) (h := 0) h.1 (by decide) (Or.inr (Or.inl ⟨by decide, v, hv, rfl, rfl, fun z => absurd z (by decide), fun z => absurd z (by decide), fun z => absurd z (by decide)⟩)) ⟨FSt.n1 h.1, Nat.le_refl _⟩) (fS_F_make _ _ _ _ _) ⟨rfl, rfl⟩
/-- one node: a number -/
theorem BS.num1 (h : BS zb z7 C B P mss fss V I Bm Lp 0 D M σ K N E A Wn) (x : Int32) (hx : 0 ≤ x) :
    (∃ M' σ' w y, K_X3_number 105 x M = some (.inr w, M') ∧ F_make 0 x 0 0 σ = some (y, σ') ∧ FfB C B P mss fss M M' σ σ' w ∧ inb y 70000 ∧ Ft sF_make σ σ') ∨
    (∃ D' M' σ' K' N' a n', K_X3_number 105 x M = some (.inl a, M') ∧ F_make 0 x 0 0 σ = some (nI n', σ') ∧ BS zb z7 C B P mss fss V I Bm Lp 0 D' M' σ' K' N' E A Wn ∧ (K ≤ K' ∧ N ≤ N') ∧ BTr V C P K N D M σ D' M' σ' ∧ NdR 0 D' M' σ' 106 V 1 0 K' N' a n' ∧ Ft sF_make σ σ' ∧ ∃ z, SzR σ' N' 1 n' z ∧ z + N ≤ n' + 1) := by
  have k105 : mk M 105 = 4 := (h.fw.2.2.2.1.1 (105, 4, 0) (by decide)).1
  unfold K_X3_number
  rw [ifT k105, obS_id]
  exact h.fl1 (mk_lf (op := 0) (op' := 0) (vl := x) (y2 := x) (h := 0) h.1 (by decide) (Or.inl ⟨rfl, rfl, rfl, hx⟩) ⟨FSt.n1 h.1, Nat.le_refl _⟩) (fS_F_make _ _ _ _ _) ⟨rfl, rfl⟩
theorem BS.r27 (h : BS zb z7 C B P mss fss V I Bm Lp x3 D M σ K N E A Wn) : mR M 27 1 = 105 ∧ mk M 105 = 4 := ⟨h.1.2.2.1.1.1, (h.fw.2.2.2.1.1 (105, 4, 0) (by decide)).1⟩
/-- instance of a face -/
theorem BS.fi (h : BS zb z7 C B P mss fss V I Bm Lp x3 D M σ K N E A Wn) (hg : g < 400 ∧ g / 2 < I) : K_J2_get 99 (nI g / 2) M = some ((pl D 99).getD (g / 2) 0, M) ∧ mk M ((pl D 99).getD (g / 2) 0) = 14 := by
  have l99 := h.fx.1.1.2.1
  rw [n_half g hg.1]
  exact ⟨ls_get (h.fw.2.1.1 99 (by decide)).1 (by omega), (h.inst hg.2).1.2.2⟩
theorem t_43b (h : tI σ 0 ≠ 0) (x1 x2 x3 x4 : Int32) : L_setEquations_43 (k + 1) x1 x2 x3 x4 σ = some ((), σ) := by
  unfold L_setEquations_43
  by_cases q : 2 * tI σ 82 ≤ x4
  · rw [ifT q]
  · rw [ifF q, t_isBad1 h, ob_some, ifF (show ¬ (1 : Int32) = 0 by decide)]
/-- equations of one set of faces: no flow -/
theorem pair_lp (hf : f < 400 ∧ f / 2 < I) {x4 x5 : Nat} (hk : k ≤ 1000) : ∀ (d g kf tf : Nat) D M σ K N E A Wn, g + d = 2 * I → f < g → d < kf → d < tf → BS zb z7 C B P mss fss V I Bm Lp 0 D M σ K N E A Wn → OwV σ V (f / 2) k v → BO (γ := Nat) (δ := Unit ⊕ Nat) (β := Unit) zb z7 C B P mss fss V I Bm Lp 0 Sum.inr D M σ K N E A Wn (KL_X0_joinOne_39 kf (nI f) (nI k) 0 x4 x5 (nI g) M) (L_setEquations_43 tf (nI f) (nI k) (nI v) (nI g) σ) := by
  intro d
  induction d with
  | zero =>
    intro g kf tf D M σ K N E A Wn hg hfg hkf htf h ho
    obtain ⟨kf, rfl⟩ : ∃ g, kf = g + 1 := ⟨kf - 1, by omega⟩
    obtain ⟨tf, rfl⟩ : ∃ g, tf = g + 1 := ⟨tf - 1, by omega⟩
    have c1 := h.fx.2.2.1.2.1
    have c2 := h.fx.2.2.2.1.2
    have I200 := h.fx.2.1.2.1
    have le : nI (2 * I) ≤ nI g := (bI_le (by omega) (by omega)).mpr (by omega)
    refine Or.inr ⟨D, M, σ, K, N, E, A, Wn, x5, (), ?_, ?_, h, ⟨Nat.le_refl _, Nat.le_refl _, Nat.le_refl _, Nat.le_refl _, Nat.le_refl _⟩, BTr.rf h.cn⟩
    · unfold KL_X0_joinOne_39
      rw [c2, n_dbl, ifT le]
    · unfold L_setEquations_43
      rw [c1, n_dbl, ifT le]
  | succ d ih =>
    intro g kf tf D M σ K N E A Wn hg hfg hkf htf h ho
    obtain ⟨kf, rfl⟩ : ∃ g, kf = g + 1 := ⟨kf - 1, by omega⟩
    obtain ⟨tf, rfl⟩ : ∃ g, tf = g + 1 := ⟨tf - 1, by omega⟩
    have c1 := h.fx.2.2.1.2.1
    have c2 := h.fx.2.2.2.1.2
    have c7 := h.fx.2.2.1.1
    have I200 := h.fx.2.1.2.1
    have V96 := h.hV.2
    have le : ¬ nI (2 * I) ≤ nI g := fun z => by have := (bI_le (by omega) (by omega)).mp z; omega
    have g4 : g < 400 ∧ g / 2 < I := ⟨by omega, by omega⟩
    obtain ⟨-, q1, q2, -, -⟩ := z_hd h.2.2.2.2.2.1.1 g4.1
    obtain ⟨rec, hrec⟩ : ∃ q, q = KL_X0_joinOne_39 kf := ⟨_, rfl⟩
    obtain ⟨trec, htrec⟩ : ∃ q, q = L_setEquations_43 tf := ⟨_, rfl⟩
    have ih' := fun D M σ K N E A Wn h ho => ih (g + 1) kf tf D M σ K N E A Wn (by omega) (by omega) (by omega) (by omega) h ho
    rw [← hrec, ← htrec] at ih'
    have tb : ∀ s : TS, tI s 0 ≠ 0 → ∀ a b c e, trec a b c e s = some ((), s) := fun s hs a b c e => by
      obtain ⟨tf', rfl⟩ : ∃ g, tf = g + 1 := ⟨tf - 1, by omega⟩
      rw [htrec]; exact t_43b hs _ _ _ _
    unfold KL_X0_joinOne_39 L_setEquations_43
    rw [c1, c2, n_dbl, ifF le, ifF le, t_isBad0 h.h0, ob_some, ifT (rfl : (0 : Int32) = 0), q1, ob_some, q2, ob_some, ← hrec, ← htrec]
    by_cases e : hdT σ g = f
    · have e' : nI (hdT σ g) = nI f := by rw [e]
      have nf : ¬ nI g = nI f := fun z => by have := (bI_eq (by omega) (by omega)).mp z; omega
      obtain ⟨i1, i2⟩ := h.fi hf
      obtain ⟨r1, r2⟩ := h.r27
      have vf : K_X0_varIn ((pl D 99).getD (f / 2) 0) (nI k) M = some (nI v, M) := by
        rcases k_varIn h hf.2 hk with ⟨u, u1, u2⟩ | ⟨u1, -⟩
        · rw [ho.uq u1]; exact u2
        · have h1 := cnt_cut (σ := σ) (n := f / 2) (V := 0) (V1 := v + 1) (V2 := V) (Nat.zero_le _) ho.1
          rw [Nat.sub_zero, Nat.sub_zero, cnt_s, ifT ho.2.1, ho.2.2] at h1
          omega
      rw [ifT e', ifT e', ifT (rfl : (0 : Int32) = 0), ifF nf]
      unfold KJ_X0_joinOne_73_39
      rw [ifT (rfl : (0 : Int32) = 0), i1, ob_some, ifT (Or.inr i2), vf, ob_some, r1, ifT r2]
      have gh := n_half g g4.1
      rcases h.var1 ho.1 with ⟨M1, s1, w1, y1, a1, a2, a3, a4, a5⟩ | ⟨D1, M1, s1, K1, N1, n1, m1, a1, a2, h1, le1, bt1, nd1, a5, sz1⟩
      · rw [a1, obS_inr, a2, ob_some, gh]
        obtain ⟨y2, b1⟩ := t_mvA (n := g / 2) (k := k) (show tI s1 107 = nI V by rw [(a5 107 rfl).1]; exact c7) V96 hk
        obtain ⟨y3, s2, b2, -, b3, b4⟩ := a3.mk1 (op := 2) (x2 := y2) (x3 := 0) (x4 := 0) (Or.inl (by decide))
        rw [b1, ob_some, b2, ob_some, t_addB b3.ne, ob_some, nm_eq, tb _ b3.ne]
        exact Or.inl ⟨_, _, _, (), rfl, rfl, b3⟩
      · have vk1 := bt1.2.2.2.2.2
        have hd1 : hdT s1 g = f := by rw [hdT_ft (a5 155 rfl).2.2.1]; exact e
        obtain ⟨u, u1, u2, u3⟩ := h1.own hf.2 g4 hd1 (ho.vk (vk1 96 (by decide))) hk
        obtain ⟨j1, j2⟩ := h1.fi g4
        obtain ⟨r3, r4⟩ := h1.r27
        have e99 := j1
        rw [a1, obS_inl, a2, ob_some, j1, ob_some, ifT (Or.inr j2), u2, ob_some, r3, ifT r4, gh, u3, ob_some]
        refine BO.pre bt1 ⟨le1.1, le1.2, Nat.le_refl _, Nat.le_refl _, Nat.le_refl _⟩ ?_
        rcases h1.var1 u1.1 with ⟨M2, s2, w1, y1, b1, b2, b3, b4, b5⟩ | ⟨D2, M2, s2, K2, N2, n2, m2, b1, b2, h2, le2, bt2, nd2, b5, sz2⟩
        · rw [b1, obS_inr, b2, ob_some, t_addB b3.ne, ob_some, nm_eq, tb _ b3.ne]
          exact Or.inl ⟨_, _, _, (), rfl, rfl, b3⟩
        · rw [b1, obS_inl, b2, ob_some]
          refine BO.pre bt2 ⟨le2.1, le2.2, Nat.le_refl _, Nat.le_refl _, Nat.le_refl _⟩ ?_
          have nd1' := NdR.mv bt2.2.2.1 le2.1 le2.2 (Nat.le_refl V) 1 100 0 _ _ (by decide) nd1
          have nd2' := NdR.mv NdK.rf (Nat.le_refl _) (Nat.le_refl _) (Nat.le_refl V) 1 100 0 _ _ (by decide) nd2
          rcases z_equation h2 (fun zz => pd2 (h.sm zz) bt1.2.2.1.n4 a5 (by decide) le1.2 bt2.2.2.1.n4 b5 (by decide) le2.2 (sz_up sz1) (sz_up sz2)) nd1' nd2' with ⟨M3, s3, w1, y1, d1, d2, d3⟩ | ⟨D3, M3, s3, K3, N3, E3, A3, W3, u0, y0, d1, d2, h3, le3, bt3⟩
          · rw [d1, obS_inr, d2, ob_some, nm_eq, tb _ d3.ne]
            exact Or.inl ⟨_, _, _, (), rfl, rfl, d3⟩
          · rw [d1, obS_inl, d2, ob_some, nm_eq, nm_eq, nI_addL]
            exact BO.pre bt3 le3 (ih' D3 M3 s3 K3 N3 E3 A3 W3 h3 (((ho.vk (vk1 96 (by decide))).vk (bt2.2.2.2.2.2 96 (by decide))).vk (bt3.2.2.2.2.2 96 (by decide))))
    · have e' : ¬ nI (hdT σ g) = nI f := fun z => by
        obtain ⟨q0, -⟩ := z_hd h.2.2.2.2.2.1.1 g4.1
        exact e ((bI_eq (by omega) (by omega)).mp z)
      rw [ifF e', ifF e', nm_eq, nm_eq, nI_addL]
      exact ih' D M σ K N E A Wn h ho
end PAIRS
