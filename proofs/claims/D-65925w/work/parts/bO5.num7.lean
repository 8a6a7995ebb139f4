/-! Layer B: the flat model: relations are numbered, the loops -/
set_option maxRecDepth 100000
/-- numbering goes on -/
def NP (zb : Nat) (z7 : Nat → Nat) (C : PC) (B : Nat) (P : Nat → Prop) (mss fss : List Nat) (V I Bm Lp : Nat) (x3 : Int32) (D : FQ) (K N E A Wn : Nat) (M : CM) (σ : TS) (S : Nat → Prop) (M' : CM) (s' : TS) (q' : Nat) (S' : Nat → Prop) : Prop := BS zb z7 C B P mss fss V I Bm Lp x3 D M' s' K N E A Wn ∧ BTn V C P K N D M σ D M' s' ∧ NQ D K M' s' q' S' ∧ tI s' 140 = nI 0 ∧ (NuM M M' ∧ Ft [0, 1, 139, 153, 154, 162] σ s' ∧ ∀ k, S' k → S k ∨ RlN V K N D M' s' k) ∧ ∀ k, S k → S' k
def CvE (D : FQ) (M : CM) (S : Nat → Prop) (k : Nat) : Prop := CvS D M S (mR M 3600 ((pl D 111).getD k 0)) ∧ CvS D M S (mR M 3601 ((pl D 111).getD k 0))
def CvA (D : FQ) (M : CM) (S : Nat → Prop) (k : Nat) : Prop := CvS D M S (mR M 4002 ((pl D 112).getD k 0))
def CvW (D : FQ) (M : CM) (σ : TS) (S : Nat → Prop) (k : Nat) : Prop := CvS D M S (mR M 3800 ((pl D 113).getD k 0)) ∧ ∀ f m, tA σ 146 k = nI f → tA σ 147 k = nI m → f + m ≤ 200 → ∀ i, f ≤ i → i < f + m → CvA D M S i
/-- places that are done: a left sides, b right sides, d actions, e whens -/
def Slx (a b d e c i : Nat) : Prop := (c = 0 ∧ i < a) ∨ (c = 1 ∧ i < b) ∨ (c = 2 ∧ i < d) ∨ (c = 3 ∧ i < e)
/-- what has a number stands in a tree that is done -/
def SdP (a b d e : Nat) (σ : TS) (N : Nat) (S : Nat → Prop) : Prop := ∀ k, S k → ∃ c i n, Slx a b d e c i ∧ tA σ (arr4 141 142 c) i = nI n ∧ OcT σ N 100 n (k + 1)
section NUMBER7
variable {zb : Nat} {fx : Int32} {C : PC} {D : FQ} {M M' M1 M2 : CM} {σ σ' σ1 σ2 σ0 s s' s1 s2 s3 : TS} {mss fss : List Nat} {B V I Bm Lp K N E A Wn v l k h h1 h2 n p q q' q2 c1 c2 c3 tf a d : Nat} {L L1 L2 L3 : List Nat} {x x2 x3 y r : Int32} {S S' S1 S2 : Nat → Prop} {P : Nat → Prop} {z7 : Nat → Nat}
theorem arr4_f {Q : List Nat} (hQ : [141, 142, 145, 151].all (fun k => !Q.contains k) = true) (c : Nat) : Q.contains (arr4 141 142 c) = false := by
  have hf : ∀ k, k ∈ [141, 142, 145, 151] → Q.contains k = false := fun k hk => by simpa using List.all_eq_true.mp hQ k hk
  unfold arr4
  by_cases z : c = 0
  · rw [ifT z]; exact hf 141 (by decide)
  · rw [ifF z]
    by_cases z : c = 1
    · rw [ifT z]; exact hf 142 (by decide)
    · rw [ifF z]
      by_cases z : c = 2
      · rw [ifT z]; exact hf 151 (by decide)
      · rw [ifF z]; exact hf 145 (by decide)
theorem SdP.mv {a b d e a' b' d' e' : Nat} {Q : List Nat} (p : SdP a b d e σ N S) (f : Ft Q σ σ') (hQ : [121, 122, 123, 124].all (fun k => !Q.contains k) = true) (hQ2 : [141, 142, 145, 151].all (fun k => !Q.contains k) = true) (ha : a ≤ a' ∧ b ≤ b' ∧ d ≤ d' ∧ e ≤ e') : SdP a' b' d' e' σ' N S := fun k hk => by
  obtain ⟨c, i, n, p1, p2, p3⟩ := p k hk
  exact ⟨c, i, n, by unfold Slx at *; omega, by rw [(f _ (arr4_f hQ2 c)).2.2.1]; exact p2, OcT.mv (Nd4.ft f hQ) (Nat.le_refl _) _ _ _ _ (Nat.le_refl _) p3⟩
theorem SdP.add {a b d e a' b' d' e' c i : Nat} {Q : List Nat} (p : SdP a b d e σ N S) (o : ∀ k, S' k → S k ∨ OcT σ N 100 n (k + 1)) (t : tA σ (arr4 141 142 c) i = nI n) (f : Ft Q σ σ') (hQ : [121, 122, 123, 124].all (fun k => !Q.contains k) = true) (hQ2 : [141, 142, 145, 151].all (fun k => !Q.contains k) = true) (ha : a ≤ a' ∧ b ≤ b' ∧ d ≤ d' ∧ e ≤ e') (hs : Slx a' b' d' e' c i) : SdP a' b' d' e' σ' N S' := fun k hk => by
  rcases o k hk with h | h
  · exact p.mv f hQ hQ2 ha k h
  · exact ⟨c, i, n, hs, by rw [(f _ (arr4_f hQ2 c)).2.2.1]; exact t, OcT.mv (Nd4.ft f hQ) (Nat.le_refl _) _ _ _ _ (Nat.le_refl _) h⟩
theorem SdP.no {a b d e c i : Nat} (p : SdP a b d e σ N S) (h : BS zb z7 C B P mss fss V I Bm Lp x3 D M σ K N E A Wn) (hz : zb ≤ 1) (hb : a ≤ E ∧ b ≤ E ∧ d ≤ A ∧ e ≤ Wn) (t : tA σ (arr4 141 142 c) i = nI n) (hs : Slt E A Wn c i) (hn : ¬ Slx a b d e c i) : ∀ k, S k → ¬ OcT σ N 100 n (k + 1) := fun k hk o => by
  obtain ⟨c', i', n', p1, p2, p3⟩ := p k hk
  obtain ⟨-, -, -, -, -, -, -, -, -, dj⟩ := h.2.2.2.2.2.2.2.2.2 hz
  exact dj c' i' c i (by unfold Slx Slt at *; omega) hs (fun z => hn (by rw [← z.1, ← z.2]; exact p1)) n' n _ p2 t p3 o
theorem NP.tr (h : NP zb z7 C B P mss fss V I Bm Lp x3 D K N E A Wn M σ S M1 s1 q S1) (g : NP zb z7 C B P mss fss V I Bm Lp x3 D K N E A Wn M1 s1 S1 M2 s2 q' S2) : NP zb z7 C B P mss fss V I Bm Lp x3 D K N E A Wn M σ S M2 s2 q' S2 :=
  ⟨g.1, h.2.1.tr g.2.1 (Nat.le_refl _) (Nat.le_refl _), g.2.2.1, g.2.2.2.1, ⟨h.2.2.2.2.1.1.tr g.2.2.2.2.1.1, h.2.2.2.2.1.2.1.tr g.2.2.2.2.1.2.1, fun k hk => by
    rcases g.2.2.2.2.1.2.2 k hk with q | q
    · rcases h.2.2.2.2.1.2.2 k q with p | p
      · exact Or.inl p
      · exact Or.inr (p.mv g.2.1.2.2.1 (Nat.le_refl _) (Nat.le_refl _) (h.2.2.1.2.2 k q).1 g.2.2.2.2.1.2.1 (by decide))
    · exact Or.inr q⟩, fun k hk => g.2.2.2.2.2 k (h.2.2.2.2.2 k hk)⟩
theorem CvE.nu (g : CvE D M S k) (m : NuM M M') (hs : ∀ k, S k → S' k) : CvE D M' S' k := ⟨by rw [m.2.2]; exact (g.1.nu m).mono hs, by rw [m.2.2]; exact (g.2.nu m).mono hs⟩
theorem CvA.nu (g : CvA D M S k) (m : NuM M M') (hs : ∀ k, S k → S' k) : CvA D M' S' k := by unfold CvA; rw [m.2.2]; exact (CvS.nu g m).mono hs
theorem CvW.nu (g : CvW D M σ S k) (m : NuM M M') (f : Ft [0, 1, 139, 153, 154, 162] σ σ') (hs : ∀ k, S k → S' k) : CvW D M' σ' S' k := ⟨by rw [m.2.2]; exact (g.1.nu m).mono hs, fun c d e1 e2 hh i h1 h2 => (g.2 c d (by rw [← (f 146 rfl).2.2.1]; exact e1) (by rw [← (f 147 rfl).2.2.1]; exact e2) hh i h1 h2).nu m hs⟩
theorem t_n2b (h : tI s 0 ≠ 0) (x : Int32) : L_numberAll_2 (k + 1) x s = some ((), s) := by
  unfold L_numberAll_2
  by_cases q : tI s 143 ≤ x
  · rw [ifT q]
  · rw [ifF q, t_isBad1 h, ob_some, ifF (show ¬ (1 : Int32) = 0 by decide)]
theorem t_n45b (h : tI s 0 ≠ 0) (x : Int32) : L_numberAll_45 (k + 1) x s = some ((), s) := by
  unfold L_numberAll_45
  by_cases q : tI s 148 ≤ x
  · rw [ifT q]
  · rw [ifF q, t_isBad1 h, ob_some, ifF (show ¬ (1 : Int32) = 0 by decide)]
theorem FfB.f139 (h : FfB C B P mss fss M M' σ s v) (f : Ft [139] s s') : FfB C B P mss fss M M' σ s' v := h.tws f (by decide) (by decide) ⟨rfl, rfl⟩ ⟨rfl, rfl, rfl⟩
/-- relations of equations -/
theorem z_nEq (hz : zb ≤ 1) : ∀ (m j kf tf : Nat) (M : CM) (σ : TS) (q : Nat) (S : Nat → Prop), j + m = E → m < kf → m < tf → BS zb z7 C B P mss fss V I Bm Lp x3 D M σ K N E A Wn → NQ D K M σ q S → tI σ 140 = nI 0 → (∀ k, k < j → CvE D M S k) → SdP j j 0 0 σ N S →
    (∃ M' w s', KL_X0_numberRelations_2 kf (nI j) M = some (.inr (.inr w), M') ∧ L_numberAll_2 tf (nI j) σ = some ((), s') ∧ FfB C B P mss fss M M' σ s' w) ∨
    ∃ M' s' q' S', KL_X0_numberRelations_2 kf (nI j) M = some (.inl (), M') ∧ L_numberAll_2 tf (nI j) σ = some ((), s') ∧ NP zb z7 C B P mss fss V I Bm Lp x3 D K N E A Wn M σ S M' s' q' S' ∧ (∀ k, k < E → CvE D M' S' k) ∧ SdP E E 0 0 s' N S' := by
  intro m
  induction m with
  | zero =>
    intro j kf tf M σ q S hj hk ht h g h140 hc hp
    obtain ⟨kf, rfl⟩ : ∃ g, kf = g + 1 := ⟨kf - 1, by omega⟩
    obtain ⟨tf, rfl⟩ : ∃ g, tf = g + 1 := ⟨tf - 1, by omega⟩
    obtain ⟨⟨c1, c2, c3, c4⟩, c5⟩ := h.2.2.1
    have le : nI E ≤ nI j := (bI_le (by omega) (by omega)).mpr (by omega)
    refine Or.inr ⟨M, σ, q, S, ?_, ?_, ⟨h, (BTr.rf h.cn).wk, g, h140, ⟨NuM.rf, Ft.rf _ σ, fun k hk => Or.inl hk⟩, fun k hk => hk⟩, fun k hk => hc k (by omega), hp.mv (Ft.rf [] σ) (by decide) (by decide) (by omega)⟩
    · unfold KL_X0_numberRelations_2
      rw [c1, ifT le]
    · unfold L_numberAll_2
      rw [c2, ifT le]
  | succ m ih =>
    intro j kf tf M σ q S hj hk ht h g h140 hc hp
    obtain ⟨kf, rfl⟩ : ∃ g, kf = g + 1 := ⟨kf - 1, by omega⟩
    obtain ⟨tf, rfl⟩ : ∃ g, tf = g + 1 := ⟨tf - 1, by omega⟩
    obtain ⟨⟨c1, c2, c3, c4⟩, c5⟩ := h.2.2.1
    have le : ¬ nI E ≤ nI j := fun z => by have := (bI_le (by omega) (by omega)).mp z; omega
    have nx : nI j + 1 = nI (j + 1) := nI_addL j 1
    have ij : inb (nI j) 400 := inb_nI' (by omega) (by decide)
    have xj : ix (nI j) = j := ix_nI (by omega)
    have gt : ∀ {M' s'}, BS zb z7 C B P mss fss V I Bm Lp x3 D M' s' K N E A Wn → K_J2_get 111 (nI j) M' = some ((pl D 111).getD j 0, M') ∧ mk M' ((pl D 111).getD j 0) = 19 := fun h => ⟨ls_get (h.fw.2.1.1 111 (by decide)).1 (by omega), (h.fw.2.1.2.1 111 (by decide) j (by omega)).1⟩
    have tl : ∀ s : TS, tI s 0 ≠ 0 → ∀ x, L_numberAll_2 tf x s = some ((), s) := fun s hs x => by
      obtain ⟨tf', rfl⟩ : ∃ g, tf = g + 1 := ⟨tf - 1, by omega⟩
      exact t_n2b hs x
    obtain ⟨⟨n1, a1, a2⟩, n2, b1, b2⟩ := c5 j (by omega)
    obtain ⟨kg, kk⟩ := gt h
    unfold KL_X0_numberRelations_2 L_numberAll_2
    rw [c1, c2, ifF le, ifF le, kg, ob_some, ifT (Or.inr kk), ifT kk, t_isBad0 h.h0, ob_some, ifT (rfl : (0 : Int32) = 0), ifT ij, xj, a1]
    have z1 := z_nT h g h140 a2 (h.rtE (by omega) (Or.inl a1)) (hp.no h hz (by omega) (c := 0) (i := j) a1 (Or.inl ⟨rfl, by omega⟩) (by unfold Slx; omega))
    have zb2 := z_nTb h b2
    rcases z1 with ⟨M1, w, s1, e1, e2, e3, e4⟩ | ⟨M1, s1, q1, S1, e1, e2, h1, bt1, g1, p1, ⟨m1, f1⟩, hs1, cv1, oc1⟩
    · obtain ⟨b', u1, u2⟩ := zb2 s1 e4
      rw [e1, obS_inr, e2, ob_some, ifT ij, (e4.1.1 142 rfl).2.2.1, b1, u1, ob_some, nm_eq, tl b' (e4.fr u2).2.1]
      exact Or.inl ⟨M1, w, b', rfl, rfl, e3.f139 u2⟩
    · obtain ⟨kg1, kk1⟩ := gt h1
      obtain ⟨-, n2', b1', b2'⟩ := h1.2.2.1.2 j (by omega)
      rw [e1, obS_inl, kg1, ob_some, ifT (Or.inr kk1), ifT kk1, e2, ob_some, ifT ij, b1']
      have hp1 : SdP (j + 1) j 0 0 s1 N S1 := hp.add oc1 (c := 0) (i := j) a1 f1.1 (by decide) (by decide) (by omega) (Or.inl ⟨rfl, by omega⟩)
      have z2 := z_nT h1 g1 p1 b2' (h1.rtE (by omega) (Or.inr b1')) (hp1.no h1 hz (by omega) (c := 1) (i := j) b1' (Or.inr (Or.inl ⟨rfl, by omega⟩)) (by unfold Slx; omega))
      have np1 : NP zb z7 C B P mss fss V I Bm Lp x3 D K N E A Wn M σ S M1 s1 q1 S1 := ⟨h1, bt1, g1, p1, ⟨m1, f1⟩, hs1⟩
      rcases z2 with ⟨M2, w, s2, u1, u2, u3, u4⟩ | ⟨M2, s2, q2, S2, u1, u2, h2, bt2, g2, p2, ⟨m2, f2⟩, hs2, cv2, oc2⟩
      · rw [u1, obS_inr, u2, ob_some, nm_eq, tl s2 u4.2.1]
        exact Or.inl ⟨M2, w, s2, rfl, rfl, u3.pre bt1.2.2.2.1⟩
      · have np2 : NP zb z7 C B P mss fss V I Bm Lp x3 D K N E A Wn M σ S M2 s2 q2 S2 := np1.tr ⟨h2, bt2, g2, p2, ⟨m2, f2⟩, hs2⟩
        rw [u1, obS_inl, nm_eq, u2, ob_some, nm_eq, nx]
        have hc2 : ∀ k, k < j + 1 → CvE D M2 S2 k := fun k hk => by
          by_cases z : k = j
          · rw [z]
            exact ⟨by rw [np2.2.2.2.2.1.1.2.2]; exact ((cv1.nu m1).nu m2).mono hs2, by rw [m2.2.2]; exact cv2.nu m2⟩
          · exact (hc k (by omega)).nu np2.2.2.2.2.1.1 np2.2.2.2.2.2
        rcases ih (j + 1) kf tf M2 s2 q2 S2 (by omega) (by omega) (by omega) h2 g2 p2 hc2 (hp1.add oc2 (c := 1) (i := j) b1' f2.1 (by decide) (by decide) (by omega) (Or.inr (Or.inl ⟨rfl, by omega⟩))) with ⟨M', w, s', v1, v2, v3⟩ | ⟨M', s', q', S', v1, v2, v3, v4⟩
        · exact Or.inl ⟨M', w, s', v1, v2, v3.pre np2.2.1.2.2.2.1⟩
        · exact Or.inr ⟨M', s', q', S', v1, v2, np2.tr v3, v4⟩
end NUMBER7
