/-! Layer B: the flat model: all lists of equations -/
set_option maxRecDepth 100000
section LIST8
variable {zb zb' : Nat} {C : PC} {D D' D1 D2 : FQ} {M M' M1 M2 M3 M0 : CM} {σ σ' σ1 σ2 σ0 s1 s8 : TS} {mss fss : List Nat} {B V I Bm K N K' N' E A Wn E' A' A0 Wn' v l k x0 dc md X N0 Lp Lp' w d s i nf R a b c n1 n2 f g h1 h2 eq L E0 ow_ : Nat} {os : List Nat} {P T Y : Nat → Prop} {x2 x3 x3' x4 x y r kd : Int32} {z7 : Nat → Nat} {S : List Nat}
variable {cfK : Nat → Nat → CM → Option ((Unit ⊕ Nat) × CM)} {cfT : Int32 → Int32 → TS → Option (Unit × TS)}
theorem list_lp (ih : LsH z7 C B P mss fss V I Bm L d cfK cfT) (hB1 : B ≤ 1280) (hi : i < I) (hL : Lp + (d + 1) ≤ 18) (hs : s ≠ 1) (hE0 : E0 ≤ 3000) : ∀ (t : List Nat) (j p kf tf : Nat) D M σ K N E A Wn, j + t.length = os.length → (∀ q, q < t.length → t.getD q 0 = os.getD (j + q) 0) → t.length < kf → t.length < tf → BS 1 z7 C B P mss fss V I Bm Lp 0 D M σ K N E A Wn → LsP P M l os → E0 ≤ tE σ → EqL (EqR C P M σ L (d + 1) s) L E0 σ t p →
    BO (γ := Unit) (β := Unit) 1 z7 C B P mss fss V I Bm Lp 0 Sum.inr D M σ K N E A Wn (KL_X0_list_2 cfK kf ((pl D 99).getD i 0) l (nI j) M) (L_equationsOf_2 cfT tf (nI i) (nI p) σ) := by
  intro t
  induction t with
  | nil =>
    intro j p kf tf D M σ K N E A Wn hj hg hk ht h hl hE hq
    obtain ⟨kf, rfl⟩ : ∃ g, kf = g + 1 := ⟨kf - 1, by omega⟩
    obtain ⟨tf, rfl⟩ : ∃ g, tf = g + 1 := ⟨tf - 1, by omega⟩
    have hp : p = 0 := hq
    have hj : j = os.length := by simpa using hj
    have kl : mk M l = 22 := hl.1.1
    have ll := hl.1.2.2.1
    refine Or.inr ⟨D, M, σ, K, N, E, A, Wn, (), (), ?_, ?_, h, ⟨Nat.le_refl _, Nat.le_refl _, Nat.le_refl _, Nat.le_refl _, Nat.le_refl _⟩, BTr.rf h.cn⟩
    · unfold KL_X0_list_2
      rw [ifT kl, ls_size hl.1, ob_some, ifT (show nI os.length ≤ nI j from (bI_le (by omega) (by omega)).mpr (by omega))]
    · unfold L_equationsOf_2
      rw [hp, ifT (show nI 0 = 0 from rfl)]
  | cons o t ih2 =>
    intro j p kf tf D M σ K N E A Wn hj hg hk ht h hl hE hq
    obtain ⟨kf, rfl⟩ : ∃ g, kf = g + 1 := ⟨kf - 1, by omega⟩
    obtain ⟨tf, rfl⟩ : ∃ g, tf = g + 1 := ⟨tf - 1, by omega⟩
    have hj : j + (t.length + 1) = os.length := hj
    have hk : t.length + 1 < kf + 1 := hk
    have ht : t.length + 1 < tf + 1 := ht
    have kl : mk M l = 22 := hl.1.1
    have ll := hl.1.2.2.1
    have eo : os.getD j 0 = o := by have := hg 0 (by show 0 < t.length + 1; omega); rw [Nat.add_zero] at this; exact this.symm
    have go := ls_get hl.1 (i := j) (by omega)
    rw [eo] at go
    obtain ⟨⟨q1, q2, q3⟩, Rq, nx, n1, n2, n3⟩ := hq
    have Rq0 := Rq
    obtain ⟨⟨e1, e2, e3, e4, e5⟩, Rq⟩ := Rq
    have he : p < 3000 ∧ p < tE σ := ⟨e5, by omega⟩
    have ie : inb (nI p) 3000 := inb_nI' (by omega) (by decide)
    have xe : ix (nI p) = p := ix_nI (by omega)
    have np0 : ¬ nI p = 0 := fun z => by have := (bI_eq (b := 0) (by omega) (by decide)).mp z; omega
    have hj1 : nI j + 1 = nI (j + 1) := nI_addL j 1
    obtain ⟨recK, hrK⟩ : ∃ q, q = KL_X0_list_2 cfK kf := ⟨_, rfl⟩
    obtain ⟨recT, hrT⟩ : ∃ q, q = L_equationsOf_2 cfT tf := ⟨_, rfl⟩
    have tb : ∀ s : TS, tI s 0 ≠ 0 → ∀ x, recT (nI i) x s = some ((), s) := fun s hs x => by
      obtain ⟨tf', rfl⟩ : ∃ g, tf = g + 1 := ⟨tf - 1, by omega⟩
      rw [hrT]; exact t_eq2b hs x
    have Nx : Nxt z7 C B P mss fss V I Bm Lp D M σ K N E A Wn (fun M => nm (nI j + 1) fun v => recK ((pl D 99).getD i 0) l v M) (fun s => if inb (nI p) 3000 then nm (tA s 70 p) fun v => recT (nI i) v s else none) := by
      refine ⟨fun D' M' σ' K' N' E' A' Wn' h' le bt => ?_, fun s hs => ?_⟩
      · have e99 : (pl D' 99).getD i 0 = (pl D 99).getD i 0 := (bt.2.1.1 99 i (by have := h.fx.1.1.2.1; omega)).2
        have q70 := (bt.1.2.2.2.1.2.1.2 p he.2).1 70 (by decide)
        show BO 1 z7 C B P mss fss V I Bm Lp 0 Sum.inr D' M' σ' K' N' E' A' Wn' (nm (nI j + 1) fun v => recK ((pl D 99).getD i 0) l v M') (if inb (nI p) 3000 then nm (tA σ' 70 p) fun v => recT (nI i) v σ' else none)
        rw [hj1, nm_eq, ifT ie, q70, n1, nm_eq, ← e99, hrK, hrT]
        exact ih2 (j + 1) nx kf tf D' M' σ' K' N' E' A' Wn' (by omega) (fun q hq => by
          have := hg (q + 1) (by show q + 1 < t.length + 1; omega)
          rw [show j + 1 + q = j + (q + 1) by omega, ← this]; rfl) (by omega) (by omega) h' (hl.wz bt.1 (fun _ z => z)) (by have := bt.1.2.2.2.1.2.1.1; omega) (n3.bt bt hE)
      · show (if inb (nI p) 3000 then nm (tA s 70 p) fun v => recT (nI i) v s else none) = _
        rw [ifT ie, nm_eq, tb s hs]
    have ke : P o ∧ mk M o = 13 := ⟨e1, e2⟩
    unfold KL_X0_list_2 L_equationsOf_2
    rw [ifT kl, ls_size hl.1, ob_some, ifF (show ¬ nI os.length ≤ nI j from fun z => by have := (bI_le (by omega) (by omega)).mp z; omega), ifT kl, go, ob_some, ifT (Or.inr e2), ifT e2, ifF np0, t_isBad0 h.h0, ob_some, ifT (rfl : (0 : Int32) = 0), ifT ie, xe, ← hrK, ← hrT]
    rcases Rq with ⟨b1, b2, b3, b4, b5⟩ | ⟨b1, b2, b3, b4, b5⟩ | ⟨b1, b2, b3, ⟨w, c1, c2, c3, c4⟩, ⟨a, b, f1, f2, f3, f4, f5, f6⟩, os', p', d1, d2, d3, d4⟩ | ⟨b1, b2, b3, b4, ⟨os', p', d1, d2, d3, d4⟩, os2, p2, g1, g2, g3, g4⟩ | ⟨b1, b2, b3, b4, os', p', d1, d2, d3, d4⟩ | ⟨b1, -⟩
    · rw [b2, b3, ifF (show ¬ (61 : Int32) = 15 by decide), ifF (show ¬ (61 : Int32) = 16 by decide), ifF (show ¬ (61 : Int32) = 17 by decide), ifF (show ¬ (61 : Int32) = 18 by decide), ifF (show ¬ (61 : Int32) = 19 by decide), ifF (show ¬ (61 : Int32) = 20 by decide), ifF (show ¬ (61 : Int32) = 21 by decide), ifT e2, ifT (rfl : (1 : Int32) = 1), ifT ie]
      exact eq_61 hB1 hi h Nx ke he b4 b5
    · rw [b2, b3, ifT (rfl : (15 : Int32) = 15), ifF (show ¬ (2 : Int32) = 1 by decide), ifT (rfl : (2 : Int32) = 2), ifT ie, ifT ie]
      refine (z_connect hB1 hi h ke b4 b5).seq (fun _ _ => rfl) (fun M' σ' w y g => ⟨(), σ', Nx.2 _ g.ne, g⟩) (fun D' M' σ' K' N' E' A' Wn' r y h' le bt => Nx.1 D' M' σ' K' N' E' A' Wn' h' le bt)
    · rw [b2, b3, ifF (show ¬ (18 : Int32) = 15 by decide), ifF (show ¬ (18 : Int32) = 16 by decide), ifF (show ¬ (18 : Int32) = 17 by decide), ifT (rfl : (18 : Int32) = 18), ifT e2, f1, nm_eq, ifF (show ¬ (3 : Int32) = 1 by decide), ifF (show ¬ (3 : Int32) = 2 by decide), ifT (rfl : (3 : Int32) = 3), ifT ie, f2, nm_eq]
      have hFU : 200 < FU := by unfold FU; decide
      have lp := for_lp (lx := l) (jx := nI j) ih (by omega : Lp + 1 + d ≤ 18 ∧ 1 ≤ d) hi he.1 ⟨c2, c3⟩ f6 (b + 1 - a) a FU FU D M σ K N E A Wn (by omega) (by omega) (by omega) h ke he.2 ⟨c1, c4⟩ ⟨f4, f5⟩ d1 d2 d4
      exact lp.seq (fun _ _ => rfl) (fun M' σ' w y g => ⟨(), σ', Nx.2 _ g.ne, g⟩) (fun D' M' σ' K' N' E' A' Wn' r y h' le bt => Nx.1 D' M' σ' K' N' E' A' Wn' h' le bt)
    · rw [b2, b3, ifF (show ¬ (21 : Int32) = 15 by decide), ifF (show ¬ (21 : Int32) = 16 by decide), ifF (show ¬ (21 : Int32) = 17 by decide), ifF (show ¬ (21 : Int32) = 18 by decide), ifF (show ¬ (21 : Int32) = 19 by decide), ifF (show ¬ (21 : Int32) = 20 by decide), ifT (rfl : (21 : Int32) = 21), ifF (show ¬ (4 : Int32) = 1 by decide), ifF (show ¬ (4 : Int32) = 2 by decide), ifF (show ¬ (4 : Int32) = 3 by decide), ifT (rfl : (4 : Int32) = 4), ifT ie]
      exact eq_21 ih (by omega) hB1 hi h Nx ke he b4 d1 d2 d4 g1 g2 g4
    · rw [b2, b3, ifF (show ¬ (16 : Int32) = 15 by decide), ifT (rfl : (16 : Int32) = 16), ifF (show ¬ (5 : Int32) = 1 by decide), ifF (show ¬ (5 : Int32) = 2 by decide), ifF (show ¬ (5 : Int32) = 3 by decide), ifF (show ¬ (5 : Int32) = 4 by decide)]
      exact (z_when hB1 hi h ke ⟨by omega, by omega⟩ he b4 d1 d2 d4).seq (fun _ _ => rfl) (fun M' σ' w y g => ⟨(), σ', Nx.2 _ g.ne, g⟩) (fun D' M' σ' K' N' E' A' Wn' r y h' le bt => Nx.1 D' M' σ' K' N' E' A' Wn' h' le bt)
    · exact absurd b1 hs
theorem ls_all (hB1 : B ≤ 1280) : ∀ d kf tf, d < kf → d < tf → LsH z7 C B P mss fss V I Bm L d (KG_X0_list kf) (G_equationsOf tf) := by
  have fin : ∀ {cfK : Nat → Nat → CM → Option ((Unit ⊕ Nat) × CM)} {cfT : Int32 → Int32 → TS → Option (Unit × TS)} {Lp i : Nat} {D : FQ} {M : CM} {σ : TS} {K N E A Wn l p : Nat}, BO (γ := Unit) (β := Unit) 1 z7 C B P mss fss V I Bm Lp 0 Sum.inr D M σ K N E A Wn (KL_X0_list_2 cfK FU ((pl D 99).getD i 0) l (nI 0) M) (L_equationsOf_2 cfT FU (nI i) (nI p) σ) → BO (γ := Unit) (β := Unit) 1 z7 C B P mss fss V I Bm Lp 0 id D M σ K N E A Wn (KB_X0_list cfK ((pl D 99).getD i 0) l M) (B_equationsOf cfT (nI p) (nI i) σ) := by
    intro cfK cfT Lp i D M σ K N E A Wn l p h
    unfold KB_X0_list B_equationsOf
    refine h.seq (fun _ _ => rfl) (fun M' σ' w y g => ⟨(), σ', rfl, g⟩) (fun D' M' σ' K' N' E' A' Wn' r y h' le bt => ?_)
    exact Or.inr ⟨D', M', σ', K', N', E', A', Wn', (), (), rfl, rfl, h', ⟨Nat.le_refl _, Nat.le_refl _, Nat.le_refl _, Nat.le_refl _, Nat.le_refl _⟩, BTr.rf h'.cn⟩
  have hFU : 1000002 < FU := by unfold FU; decide
  intro d
  induction d with
  | zero =>
    intro kf tf hk ht Lp s i D M σ K N E A Wn l os p E0 hs hL hi h hl hE hq
    obtain ⟨kf, rfl⟩ : ∃ g, kf = g + 1 := ⟨kf - 1, by omega⟩
    obtain ⟨tf, rfl⟩ : ∃ g, tf = g + 1 := ⟨tf - 1, by omega⟩
    refine fin (cfK := KG_X0_list kf) (cfT := G_equationsOf tf) ?_
    cases os with
    | cons o os => exact absurd hq.2.1 (fun z => z)
    | nil =>
      have hp : p = 0 := hq
      have kl : mk M l = 22 := hl.1.1
      obtain ⟨G, hG, -⟩ := FUg
      refine Or.inr ⟨D, M, σ, K, N, E, A, Wn, (), (), ?_, ?_, h, ⟨Nat.le_refl _, Nat.le_refl _, Nat.le_refl _, Nat.le_refl _, Nat.le_refl _⟩, BTr.rf h.cn⟩
      · rw [hG]
        unfold KL_X0_list_2
        rw [ifT kl, ls_size hl.1, ob_some, ifT (show nI ([] : List Nat).length ≤ nI 0 from (bI_le (by decide) (by decide)).mpr (by decide))]
      · rw [hG]
        unfold L_equationsOf_2
        rw [hp, ifT (show nI 0 = 0 from rfl)]
  | succ d ihd =>
    intro kf tf hk ht Lp s i D M σ K N E A Wn l os p E0 hs hL hi h hl hE hq
    obtain ⟨kf, rfl⟩ : ∃ g, kf = g + 1 := ⟨kf - 1, by omega⟩
    obtain ⟨tf, rfl⟩ : ∃ g, tf = g + 1 := ⟨tf - 1, by omega⟩
    refine fin (cfK := KG_X0_list kf) (cfT := G_equationsOf tf) ?_
    have ll := hl.1.2.2.1
    exact list_lp (ihd kf tf (by omega) (by omega)) hB1 hi hL hs hE.2 os 0 p FU FU D M σ K N E A Wn (by omega) (fun q _ => by rw [Nat.zero_add]) (by omega) (by omega) h hl hE.1 hq
end LIST8
