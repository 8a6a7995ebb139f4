/-! Layer B: both readers stand at one token -/
set_option maxRecDepth 100000
theorem t_next18 {σ σ' : TS} (h : F_next σ = some ((), σ')) : tI σ' 18 = tI σ 18 + 1 := by
  unfold F_next at h
  obtain ⟨_, s1, e1, h⟩ := obE h
  have f1 := (fS_L_next_0 _ _ _ _ e1 18 rfl).1
  unfold J_next_38 at h
  rw [nm_eq, nm_eq] at h
  rw [← f1]
  have h0 : tI (tsI (tsI s1 12 (tI s1 10)) 18 (tI (tsI s1 12 (tI s1 10)) 18 + 1)) 18 = tI s1 18 + 1 := rfl
  generalize tsI (tsI s1 12 (tI s1 10)) 18 (tI (tsI s1 12 (tI s1 10)) 18 + 1) = s2 at h h0
  rw [← h0]
  by_cases c : tI s2 10 = tI s2 8
  · rw [ifT c, nm_eq, nm_eq] at h
    cases h; rfl
  rw [ifF c] at h
  obtain ⟨r3, s3, e3, h⟩ := obE h
  have f3 := (fS_F_byteAt _ _ _ _ e3 18 rfl).1
  obtain ⟨r4, s4, e4, h⟩ := obE h
  have f4 := (fS_F_isLetter _ _ _ _ e4 18 rfl).1
  rw [← f3, ← f4]
  by_cases c : r4 = 0
  · rw [ifT c] at h
    obtain ⟨r5, s5, e5, h⟩ := obE h
    have f5 := (fS_F_isDigit _ _ _ _ e5 18 rfl).1
    rw [← f5]
    by_cases c : r5 = 0
    · rw [ifT c] at h
      obtain ⟨r6, s6, e6, h⟩ := obE h
      rw [(fS_J_next_321 _ _ _ h 18 rfl).1, (fS_F_readSign _ _ _ _ e6 18 rfl).1]
    · rw [ifF c] at h
      obtain ⟨r6, s6, e6, h⟩ := obE h
      rw [(fS_J_next_321 _ _ _ h 18 rfl).1, (fS_F_readNumeral _ _ _ e6 18 rfl).1]
  · rw [ifF c, nm_eq] at h
    obtain ⟨r6, s6, e6, h⟩ := obE h
    rw [nm_eq, nm_eq, nm_eq] at h
    obtain ⟨r7, s7, e7, h⟩ := obE h
    rw [(fS_J_next_195 _ _ _ _ h 18 rfl).1, (fS_L_next_155 _ _ _ _ _ _ e7 18 rfl).1]
    show tI s6 18 = tI s4 18
    rw [(fS_L_next_102 _ _ _ _ _ e6 18 rfl).1]
def sgOK (c : Int32) : Prop := isSg c ∨ c = 15421 ∨ c = 15422 ∨ c = 15677 ∨ c = 15933
theorem num_bd {b : Nat → Int32} {len s e : Nat} {nu wh : Int32} {ok : Prop} (h : NumS b len s e ok nu wh) (hk : ok) : ∃ x, nu = nI x ∧ x ≤ 2147418112 ∧ (wh = 0 ∨ wh = 1) := by
  obtain ⟨d1, F, h⟩ := h
  rcases h with ⟨_, _, d2, F2, h1, h2⟩ | ⟨_, h1, h2⟩
  · obtain ⟨x1, x2, x3⟩ := h2 hk
    obtain ⟨y1, y2, y3⟩ := h1.mp hk
    refine ⟨_, x3, ?_, Or.inl x2⟩
    have hfd : dec b (d1 + 1) (d2 - (d1 + 1)) < 10 ^ (d2 - (d1 + 1)) := dec_lt (fun _ _ => trivial) _ (fun i hi => by
      have g := F2.2.1 (d1 + 1 + i) (by omega) (by omega)
      have := dt_lt g
      dsimp only at g
      rw [cB_lt this] at g; exact g)
    exact (frac_ok hfd y2).mpr y3
  · obtain ⟨x1, x2, x3⟩ := h2 hk
    obtain ⟨y1, y2⟩ := h1.mp hk
    exact ⟨_, x3, by omega, Or.inr x2⟩
/-- the component's rows of tokens -/
def TKS (M : CM) (b : Nat → Int32) (len m t : Nat) (pos : Nat → Nat) : Prop := t < 2001 ∧ (∀ j, j ≤ t → pos j ≤ len ∧ ∃ e kd, TokK M m b len j (pos j) e kd ∧ (j < t → (kd = 1 ∨ kd = 2 ∨ kd = 3) ∧ e = pos (j + 1) ∧ pos j < pos (j + 1)) ∧ (j = t → kd = 0 ∨ kd = 4))
/-- the token at i, on both sides -/
def Sy (M : CM) (σ : TS) (m i t : Nat) : Prop := ∃ kd s, (mA M 94 i = nI s ∧ s ≤ 2000 ∧ tI σ 12 = nI s ∧ tI σ 11 = nI kd ∧ kd ≤ 4 ∧ (i < t ↔ kd = 1 ∨ kd = 2 ∨ kd = 3)) ∧ ((kd = 0 ∧ mA M 91 i = 4) ∨ (kd = 1 ∧ mA M 91 i = 1 ∧ ∃ w, mA M 92 i = nI w ∧ w < 38 + m ∧ wc M w = tL σ 16) ∨ (kd = 2 ∧ mA M 91 i = 2 ∧ mA M 92 i = tI σ 15 ∧ mA M 93 i = tI σ 17 ∧ ∃ x, tI σ 15 = nI x ∧ x ≤ 2147418112 ∧ (tI σ 17 = 0 ∨ tI σ 17 = 1)) ∨ (kd = 3 ∧ mA M 91 i = tI σ 14 ∧ sgOK (tI σ 14)) ∨ (kd = 4 ∧ mA M 91 i = 3))
/-- the twin's words of the language -/
def KeysT (σ : TS) : Prop := tI σ 22 = 38 ∧ ∀ j, j < 38 → tB σ 23 j = if klen j ≤ 8 then kco j else -1
/-- both readers at token i -/
def Px (M : CM) (σ : TS) (b : Nat → Int32) (len m t : Nat) (pos : Nat → Nat) (i : Nat) : Prop := (KeysOK M ∧ (∃ L, WN M m L) ∧ m ≤ 1280 ∧ 167 ≤ mn M) ∧ TKS M b len m t pos ∧ (mI M 404 90 = nI (t + 1) ∧ mI M 405 90 = nI i ∧ i ≤ t) ∧ (TapeT σ b len ∧ KeysT σ ∧ tI σ 0 = 0 ∧ tI σ 18 = nI (i + 1)) ∧ Sy M σ m i t ∧ ∃ q, q ≤ len ∧ tI σ 10 = nI q ∧ (i < t → q = pos (i + 1))
section SYNC
variable {M M' : CM} {σ σ' : TS} {b : Nat → Int32} {len m t i : Nat} {pos : Nat → Nat}
theorem Sy.of (hT : TKS M b len m t pos) (hi : i ≤ t) {s e kd : Nat} {wd : Int64} {sg nu wh : Int32} (hlen : len ≤ 2000) (h1 : TokS b len (pos i) s e kd wd sg nu wh) (h2 : CurT σ len s e kd wd sg nu wh) : Sy M σ m i t ∧ ∃ q, q ≤ len ∧ tI σ 10 = nI q ∧ (i < t → q = pos (i + 1)) := by
  obtain ⟨ht, hT⟩ := hT
  obtain ⟨hp, e', kd', ⟨s', wd', sg', nu', wh', k1, k2, k3⟩, k4, k5⟩ := hT i hi
  obtain ⟨u1, u2, u3, u4, u5, u6⟩ := h1.uq k1
  subst u1; subst u2
  obtain ⟨c1, c2, c3, c4, c5, q, c6, c7, c8⟩ := h2
  have hkd : i < t ↔ kd' = 1 ∨ kd' = 2 ∨ kd' = 3 := by
    constructor
    · intro z; exact (k4 z).1
    · intro z
      rcases Nat.lt_or_ge i t with g | g
      · exact g
      · have := k5 (by omega); omega
  refine ⟨⟨kd', s', ⟨k2, by have := k1.2.1; omega, c2, c1, ?_, hkd⟩, ?_⟩, q, c6, c7, fun z => ?_⟩
  · rcases k3 with ⟨z, _⟩ | ⟨z, _⟩ | ⟨z, _⟩ | ⟨z, _⟩ | ⟨z, _⟩ <;> omega
  · rcases k3 with q | ⟨q1, q2, w, q3, q4, q5⟩ | ⟨q1, q2, q3, q4⟩ | ⟨q1, q2⟩ | q
    · exact Or.inl q
    · exact Or.inr (Or.inl ⟨q1, q2, w, q3, q4, by rw [q5, c3 q1]; exact u4 q1⟩)
    · obtain ⟨x1, x2⟩ := u5 q1
      obtain ⟨y1, y2⟩ := c4 q1
      refine Or.inr (Or.inr (Or.inl ⟨q1, q2, by rw [q3, y1, x1], by rw [q4, y2, x2], ?_⟩))
      rw [y1, y2]
      rcases h1.2.2 with ⟨_, z, _⟩ | ⟨_, _, q', _, z⟩ | ⟨_, _, _, z⟩ | ⟨_, _, _, z⟩
      · omega
      · rcases z with ⟨_, _, _, z, _⟩ | ⟨_, ⟨_, z, _⟩ | ⟨_, z⟩⟩ <;> omega
      · exact num_bd z q1
      · rcases z with ⟨_, z, _⟩ | ⟨_, _, z, _⟩ | ⟨_, z⟩ <;> omega
    · refine Or.inr (Or.inr (Or.inr (Or.inl ⟨q1, by rw [q2, c5 q1, u6 q1], ?_⟩)))
      rw [c5 q1]
      rcases h1.2.2 with ⟨_, z, _⟩ | ⟨_, _, q', _, z⟩ | ⟨_, _, z, _⟩ | ⟨_, _, _, z⟩
      · omega
      · rcases z with ⟨_, _, _, z, _⟩ | ⟨_, ⟨_, z, _⟩ | ⟨_, z⟩⟩ <;> omega
      · omega
      · rcases z with ⟨z1, _, _, z2⟩ | ⟨_, z, _, _, z2⟩ | ⟨_, z⟩
        · right
          rw [z2]
          rcases z1 with ⟨g1, g2 | g2⟩ | ⟨g1, g2⟩ | ⟨g1, g2⟩ <;> rw [g1, g2] <;> decide
        · rw [z2]; exact Or.inl z
        · omega
    · exact Or.inr (Or.inr (Or.inr (Or.inr q)))
  · have hk := hkd.mp z
    rw [c8 (by omega), (k4 z).2.1.symm]
    exact (u3 (by omega)).symm
theorem TokK.so {j p e kd : Nat} (h : TokK M m b len j p e kd) (h91 : So M M' 91) (h92 : So M M' 92) (h93 : So M M' 93) (h94 : So M M' 94) (hw : ∀ w, w < 38 + m → wc M' w = wc M w) : TokK M' m b len j p e kd := h.mono (Nat.le_refl _) (h91.a j) (h92.a j) (h93.a j) (h94.a j) hw
/-- what is fixed while a text is read stays -/
theorem wc_so (h4 : So M M' 4) (hN : So M M' (mR M 201 4)) (w : Nat) : wc M' w = wc M w := by
  unfold wc
  rw [h4.r, hN.lo]
theorem WN.so {L : Nat} (h : WN M m L) (hn : mn M ≤ mn M') (h4 : So M M' 4) (hN : So M M' (mR M 201 4)) : WN M' m L := by
  obtain ⟨w1, w2, w3, w4, w5, w6, w7, w8, w9, w10⟩ := h
  unfold WN
  rw [h4.r, h4.i, hN.k, hN.l]
  exact ⟨w1, w2, w3, w4, w5, w6, w7, by omega, fun k hk => by rw [hN.lo]; exact w9 k hk, fun i j hi hj q => by rw [hN.lo, hN.lo] at q; exact w10 i j hi hj q⟩
theorem KeysOK.so (h : KeysOK M) (hs : ∀ o, o < 90 → So M M' o) : KeysOK M' := by
  obtain ⟨⟨h1, h2, h3, h4, h5, h6⟩, h7⟩ := h
  refine ⟨⟨by rw [(hs 5 (by decide)).k]; exact h1, by rw [(hs 5 (by decide)).r]; exact h2, by rw [(hs 5 (by decide)).i]; exact h3, by rw [(hs 79 (by decide)).k]; exact h4, by rw [(hs 79 (by decide)).l]; exact h5, by rw [(hs 4 (by decide)).k]; exact h6⟩, fun j hj => ?_⟩
  have kl : ∀ j, j < 38 → kid j < 90 ∧ kar j < 90 := by decide +kernel
  obtain ⟨⟨a1, a2, a3, a4, a5, a6⟩, a7⟩ := h7 j hj
  have hi := hs _ (kl j hj).1
  have ha := hs _ (kl j hj).2
  exact ⟨⟨by rw [(hs 79 (by decide)).x]; exact a1, by rw [hi.k]; exact a2, by rw [hi.r]; exact a3, by rw [hi.i]; exact a4, by rw [ha.k]; exact a5, by rw [ha.l]; exact a6⟩, fun i hi => by rw [ha.a]; exact a7 i hi⟩
/-- the reader goes on: to token i' -/
theorem Px.go {X : Nat → Prop} {i' : Nat} (P : Px M σ b len m t pos i) (F : Fz X M M') (hX : ∀ o, X o → o = 90 ∨ (95 ≤ o ∧ o ≠ mR M 201 4)) (h404 : mI M' 404 90 = mI M 404 90) (h405 : mI M' 405 90 = nI i') (hi : i' ≤ t) (hT : TapeT σ' b len) (hK : KeysT σ') (h0 : tI σ' 0 = 0) (h18 : tI σ' 18 = nI (i' + 1)) (hS : Sy M σ' m i' t) (hq : ∃ q, q ≤ len ∧ tI σ' 10 = nI q ∧ (i' < t → q = pos (i' + 1))) : Px M' σ' b len m t pos i' := by
  obtain ⟨⟨p1, ⟨L, p2⟩, p3, p4⟩, ⟨p5, p6⟩, ⟨p7, p8, p9⟩, _⟩ := P
  have w8 := p2.2.2.2.2.2.2.2.1
  have so : ∀ o, o < 95 → o ≠ 90 → So M M' o := fun o ho hne => F.so (by omega) (fun z => by rcases hX o z with z | z <;> omega)
  have hN : So M M' (mR M 201 4) := F.so w8 (fun z => by
    have w7 := p2.2.2.2.2.2.2.1
    rcases hX _ z with z | z
    · omega
    · exact z.2 rfl)
  have h4 := so 4 (by decide) (by decide)
  have hw : ∀ w, w < 38 + m → wc M' w = wc M w := fun w _ => wc_so h4 hN w
  have s91 := so 91 (by decide) (by decide)
  have s92 := so 92 (by decide) (by decide)
  have s93 := so 93 (by decide) (by decide)
  have s94 := so 94 (by decide) (by decide)
  refine ⟨⟨p1.so (fun o ho => so o (by omega) (by omega)), ⟨L, p2.so F.1 h4 hN⟩, p3, Nat.le_trans p4 F.1⟩, ⟨p5, fun j hj => ?_⟩, ⟨by rw [h404]; exact p7, h405, hi⟩, ⟨hT, hK, h0, h18⟩, ?_, hq⟩
  · obtain ⟨a0, e, kd, a1, a2⟩ := p6 j hj
    exact ⟨a0, e, kd, a1.so s91 s92 s93 s94 hw, a2⟩
  · obtain ⟨kd, s, ⟨b1, b2⟩, b3⟩ := hS
    refine ⟨kd, s, ⟨by rw [s94.a]; exact b1, b2⟩, ?_⟩
    rw [s91.a, s92.a, s93.a]
    rcases b3 with q | ⟨q1, q2, w, q3, q4, q5⟩ | q | q | q
    · exact Or.inl q
    · exact Or.inr (Or.inl ⟨q1, q2, w, q3, q4, by rw [hw w q4]; exact q5⟩)
    · exact Or.inr (Or.inr (Or.inl q))
    · exact Or.inr (Or.inr (Or.inr (Or.inl q)))
    · exact Or.inr (Or.inr (Or.inr (Or.inr q)))
theorem KeysT.kp {S : List Nat} (h : KeysT σ) (f : Ft S σ σ') (h1 : S.contains 22 = false) (h2 : S.contains 23 = false) : KeysT σ' := ⟨by rw [(f 22 h1).1]; exact h.1, fun j hj => by rw [(f 23 h2).2.2.2]; exact h.2 j hj⟩
/-- the next token, for both -/
theorem y_next (P : Px M σ b len m t pos i) (hi : i < t) : ∃ σ', F_next σ = some ((), σ') ∧ Px (msI M 405 90 (nI (i + 1))) σ' b len m t pos (i + 1) := by
  have P0 := P
  obtain ⟨p1, hT, ⟨p7, p8, p9⟩, ⟨p10, p11, p12, p13⟩, p14, q, p15, p16, p17⟩ := P
  have hlen := p10.2.1
  have hq := p17 hi
  obtain ⟨σ', s, e, kd, wd, sg, nu, wh, n1, n2, n3⟩ := t_next p10 p16 p15
  rw [hq] at n2
  have fr := fS_F_next _ _ _ n1
  obtain ⟨S1, S2⟩ := Sy.of (σ := σ') hT (i := i + 1) (by omega) hlen n2 n3
  refine ⟨σ', n1, P0.go (X := fun o => o = 90) (Fz.rf.msI (fun _ => rfl)) (fun o z => Or.inl z) (by rw [mI_msI, ifF (by omega)]) (by rw [mI_msI, ifT ⟨rfl, rfl⟩]) (by omega) (p10.kp fr rfl rfl) (p11.kp fr rfl rfl) (by rw [(fr 0 rfl).1]; exact p12) (by rw [t_next18 n1, p13, nI_addL]) S1 S2⟩
/-- in a text that is bad the twin still reads on -/
theorem b_next (T : TapeT σ b len) {q : Nat} (hq : q ≤ len) (h10 : tI σ 10 = nI q) : ∃ σ', F_next σ = some ((), σ') ∧ TapeT σ' b len ∧ ∃ q', q' ≤ len ∧ tI σ' 10 = nI q' := by
  obtain ⟨σ', s, e, kd, wd, sg, nu, wh, n1, n2, n3⟩ := t_next T h10 hq
  have fr := fS_F_next _ _ _ n1
  obtain ⟨_, _, _, _, _, q', c6, c7, _⟩ := n3
  exact ⟨σ', n1, T.kp fr rfl rfl, q', c6, c7⟩
theorem Px.in1 (P : Px M σ b len m t pos i) : inb (mI M 405 90) 2001 ∧ ix (mI M 405 90) = i := by
  obtain ⟨-, hT, ⟨-, p8, p9⟩, -⟩ := P
  have := hT.1
  rw [p8]
  exact ⟨inb_nI' (by omega) (by decide), ix_nI (by omega)⟩
theorem kco_inj : ∀ j, j < 38 → ∀ k, k < 38 → kco j = kco k → j = k := by decide +kernel
theorem wc_key {L w j : Nat} (W : WN M m L) (hw : w < 38 + m) (hj : j < 38) : wc M w = kco j ↔ w = j := by
  constructor
  · intro h
    unfold wc at h
    by_cases c : w < 38
    · rw [ifT c] at h; exact kco_inj w c j hj h
    · rw [ifF c] at h
      exact absurd h ((W.2.2.2.2.2.2.2.2.1 (w - 38) (by omega)).2 j hj)
  · intro h; subst h
    unfold wc
    rw [ifT hj]
theorem wc_inj {L w w' : Nat} (W : WN M m L) (hw : w < 38 + m) (hw' : w' < 38 + m) : wc M w = wc M w' ↔ w = w' := by
  constructor
  · intro h
    by_cases c : w' < 38
    · have e : wc M w' = kco w' := by unfold wc; rw [ifT c]
      rw [e] at h; exact (wc_key W hw c).mp h
    · by_cases c2 : w < 38
      · have e : wc M w = kco w := by unfold wc; rw [ifT c2]
        rw [e] at h; exact ((wc_key W hw' c2).mp h.symm).symm
      · unfold wc at h
        rw [ifF c, ifF c2] at h
        have := W.2.2.2.2.2.2.2.2.2 (w - 38) (w' - 38) (by omega) (by omega) h
        omega
  · intro h; rw [h]
/-- a word of the language stands here, for both or for none -/
theorem y_key (P : Px M σ b len m t pos i) {j : Nat} {x : Int32} {c : Int64} (hx : x = nI j) (hj : j < 38) (hc : c = kco j) : (K_X2_isKey x M = some (1, M) ∧ F_isWord c σ = some (1, σ) ∧ i < t ∧ tI σ 11 = 1 ∧ mA M 92 i = x) ∨ (K_X2_isKey x M = some (0, M) ∧ F_isWord c σ = some (0, σ) ∧ ¬ (tI σ 11 = 1 ∧ tL σ 16 = c)) := by
  obtain ⟨g1, g2⟩ := P.in1
  obtain ⟨⟨-, ⟨L, W⟩, -⟩, -, -, -, ⟨kd, s, ⟨b1, b2, b3, b4, b5, b6⟩, b7⟩, -⟩ := P
  subst hx hc
  unfold K_X2_isKey F_isWord
  rw [ifT g1, ifT g1, g2, b4]
  rcases b7 with ⟨q, q2⟩ | ⟨q, q2, w, q3, q4, q5⟩ | ⟨q, q2, _⟩ | ⟨q, q2, q3⟩ | ⟨q, q2⟩
  · right; subst q; rw [q2, ifF (by decide), ifF (by decide)]; exact ⟨rfl, rfl, fun z => absurd z.1 (by decide)⟩
  · subst q
    rw [q2, ifT rfl, q3, ifT (show nI 1 = (1 : Int32) from rfl)]
    have hm : w < 2147483648 := by have := W.2.2.2.1; have := W.2.2.2.2.2.1; omega
    by_cases e : w = j
    · subst e
      left
      rw [ifT rfl, ifT (lg_eq.mpr (by rw [← q5]; exact (wc_key W q4 hj).mpr rfl))]
      exact ⟨rfl, rfl, b6.mpr (Or.inl rfl), rfl, rfl⟩
    · right
      rw [ifF (fun z => e ((bI_eq hm (by omega)).mp z)), ifF (fun z => e ((wc_key W q4 hj).mp (by rw [q5]; exact lg_eq.mp z)))]
      exact ⟨rfl, rfl, fun z => e ((wc_key W q4 hj).mp (by rw [q5]; exact z.2))⟩
  · right; subst q; rw [q2, ifF (by decide), ifF (by decide)]; exact ⟨rfl, rfl, fun z => absurd z.1 (by decide)⟩
  · right; subst q
    have : ¬ tI σ 14 = 1 := fun z => by
      rw [z] at q3
      rcases q3 with h | h | h | h | h
      · rcases h with h | h | h | h | h | h | h | h | h | h | h | h | h | h | h <;> exact absurd h (by decide)
      all_goals exact absurd h (by decide)
    rw [q2, ifF this, ifF (by decide)]; exact ⟨rfl, rfl, fun z => absurd z.1 (by decide)⟩
  · right; subst q; rw [q2, ifF (by decide), ifF (by decide)]; exact ⟨rfl, rfl, fun z => absurd z.1 (by decide)⟩
/-- a sign stands here, for both or for none -/
theorem y_sign (P : Px M σ b len m t pos i) {c : Int32} (hc : c ≠ 1 ∧ c ≠ 2 ∧ c ≠ 3 ∧ c ≠ 4) : (K_X2_isSign c M = some (1, M) ∧ F_isSign c σ = some (1, σ) ∧ i < t ∧ tI σ 11 = 3 ∧ tI σ 14 = c) ∨ (K_X2_isSign c M = some (0, M) ∧ F_isSign c σ = some (0, σ) ∧ ¬ (tI σ 11 = 3 ∧ tI σ 14 = c)) := by
  obtain ⟨g1, g2⟩ := P.in1
  obtain ⟨-, -, -, -, ⟨kd, s, ⟨b1, b2, b3, b4, b5, b6⟩, b7⟩, -⟩ := P
  unfold K_X2_isSign F_isSign
  rw [ifT g1, g2, b4]
  rcases b7 with ⟨q, q2⟩ | ⟨q, q2, w, q3, q4, q5⟩ | ⟨q, q2, _⟩ | ⟨q, q2, q3⟩ | ⟨q, q2⟩
  · right; subst q; rw [q2, ifF (fun z => hc.2.2.2 z.symm), ifF (by decide)]; exact ⟨rfl, rfl, fun z => absurd z.1 (by decide)⟩
  · right; subst q; rw [q2, ifF (fun z => hc.1 z.symm), ifF (by decide)]; exact ⟨rfl, rfl, fun z => absurd z.1 (by decide)⟩
  · right; subst q; rw [q2, ifF (fun z => hc.2.1 z.symm), ifF (by decide)]; exact ⟨rfl, rfl, fun z => absurd z.1 (by decide)⟩
  · subst q
    rw [q2]
    by_cases e : tI σ 14 = c
    · left; rw [ifT e, ifT (by decide), ifT e]; exact ⟨rfl, rfl, b6.mpr (by decide), by decide, e⟩
    · right; rw [ifF e, ifT (by decide), ifF e]; exact ⟨rfl, rfl, fun z => e z.2⟩
  · right; subst q; rw [q2, ifF (fun z => hc.2.2.1 z.symm), ifF (by decide)]; exact ⟨rfl, rfl, fun z => absurd z.1 (by decide)⟩
end SYNC
