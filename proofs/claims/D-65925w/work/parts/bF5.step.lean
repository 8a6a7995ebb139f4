/-! Layer B: the flat model: a step of the making of instances -/
set_option maxRecDepth 100000
/-- the most rows there are at depth d -/
def trR (d : Nat) : Nat := 213 * d * (d - 1)
theorem trR_succ : ∀ d, d < 13 → trR (d + 1) = trR d + 426 * d := by decide
theorem trR_le : ∀ d, d < 14 → trR d ≤ 33228 := by decide
def Lv (d len R E cb : Nat) (ks : List (Nat × Nat)) : Prop := (1 ≤ d ∧ d ≤ 12) ∧ len ≤ 426 * (d - 1) ∧ R ≤ trR d ∧ E ≤ R ∧ cb + ks.length ≤ d
/-- where both sides are when the elements of a class come into instance i: entries W of the instance, the chain ks, rows from fr -/
def Cx (C : PC) (P : Nat → Prop) (D : FQ) (M : CM) (σ : TS) (I R E d i tf cb fr : Nat) (W : List (Nat × Nat × Nat)) (ks : List (Nat × Nat)) : Prop := i < I ∧ CvT σ E i tf cb W ks ∧ RsR C P D M σ I fr (W ++ wcE i ks) ∧ fr + (W ++ wcE i ks).length ≤ R ∧ Lv d (W ++ wcE i ks).length R E cb ks ∧ ∀ c, c < (W ++ wcE i ks).length → hit D M (fr + c) = 0 ∨ hit D M (fr + c) = 1
/-- whose the writes are -/
def TsF (V I Bm i t : Nat) : Prop := t = 1 ∨ (98 ≤ t ∧ t ≤ 102) ∨ (tg 98 V ≤ t ∧ t < tg 99 0) ∨ (tg 99 I ≤ t ∧ t < tg 100 0) ∨ (tg 100 Bm ≤ t ∧ t < tg 102 0) ∨ (tg 200 V ≤ t ∧ t < tg 201 0) ∨ (tg 201 I ≤ t ∧ t < tg 202 0) ∨ tg 202 I ≤ t ∨ t = tg 201 i ∨ t = tg 202 i
/-- what of the twin stays -/
def KpT (σ σ' : TS) (V I Bm E i : Nat) : Prop := (∀ f, f ∈ [74, 75, 76, 77, 78, 79] → ∀ n, n < I → tA σ' f n = tA σ f n) ∧ (∀ n, n < I → n ≠ i → tA σ' 88 n = tA σ 88 n) ∧ (∀ f, f ∈ [83, 84, 85, 86, 87] → ∀ b, b < Bm → tA σ' f b = tA σ f b) ∧ (∀ f, f ∈ [94, 95, 96, 97, 98, 99, 100, 101, 102, 103] → ∀ v, v < V → tA σ' f v = tA σ f v) ∧ (∀ f, f ∈ [90, 91, 92] → ∀ j, j < E → tA σ' f j = tA σ f j) ∧ (tI σ' 113 = tI σ 113 ∧ tI σ' 114 = tI σ 114) ∧ ∀ c, c < ix (tI σ 114) → tA σ' 112 c = tA σ 112 c
/-- a step -/
def SqM (C : PC) (P : Nat → Prop) (V I Bm R E i : Nat) (D D' : FQ) (M M' : CM) (σ σ' : TS) : Prop := Wz C C P M M' σ σ' ∧ Dx D D' M ∧ (∀ r, r < R → RwS D M D' M' r) ∧ Fq D (TsF V I Bm i) M M' ∧ O1 [15, 16, 17, 18, 31] M M' ∧ Ft fiS σ σ' ∧ KpT σ σ' V I Bm E i
/-- a member that is whole -/
def MbC (D : FQ) (mss : List Nat) (M : CM) (σ : TS) (V I b : Nat) : Prop := ∃ e, (tA σ 84 b = nI e ∧ e < ix (tI σ 58)) ∧ ((¬ tA σ 52 e &&& 16 = 0 ∧ tA σ 85 b = -1 ∧ tA σ 86 b = -1 ∧ mI M 3001 ((pl D 100).getD b 0) = mI M 2002 (mR M 3003 ((pl D 100).getD b 0)) ∧ (pl D 100).getD b 0 ∈ pl D 102) ∨ (tA σ 52 e &&& 16 = 0 ∧ ∃ f z, (mI M 3005 ((pl D 100).getD b 0) = nI f ∧ tA σ 85 b = nI f) ∧ (tA σ 53 e = nI z ∧ z ≤ 9) ∧ ((tB σ 51 e = 0 ∧ mI M 3001 ((pl D 100).getD b 0) = 12 ∧ tA σ 86 b = -1 ∧ f + many z ≤ V) ∨ (tB σ 51 e ≠ 0 ∧ f + many z ≤ I ∧ (∀ j, j < many z → ∃ n, (f ≤ n ∧ n < I ∧ (j = 0 → n = f)) ∧ tA σ 75 n = tA σ 83 b ∧ tA σ 76 n = nI e ∧ tA σ 77 n = nI (if z = 0 then 0 else j + 1)) ∧ ∃ k, k < mss.length ∧ tA σ 86 b = nI k ∧ mI M 1800 (mss.getD k 0) = mI M 3001 ((pl D 100).getD b 0)))))
/-- a member from a to b of instance i that isn't outer has the name -/
def hs (σ : TS) (a b i : Nat) (x : Int64) : Prop := ∃ m e, (a ≤ m ∧ m < b) ∧ tA σ 83 m = nI i ∧ (tA σ 84 m = nI e ∧ e < 480) ∧ tA σ 52 e &&& 16 = 0 ∧ tB σ 50 e = x
def hsL (σ : TS) (a b i : Nat) (en : Nat × Nat × Nat) : Prop := ∃ x, hs σ a b i x ∧ ldB σ x en = true
/-- rows that lead to such a member are hit -/
def HitP (D D' : FQ) (M M' : CM) (σ' : TS) (a b i fr R : Nat) (W : List (Nat × Nat × Nat)) : Prop := (∀ r, r < R → ¬ (fr ≤ r ∧ r < fr + W.length) → hit D' M' r = hit D M r) ∧ ∀ c, c < W.length → (hsL σ' a b i (ge W c) → hit D' M' (fr + c) = 1) ∧ (¬ hsL σ' a b i (ge W c) → hit D' M' (fr + c) = hit D M (fr + c))
section STEP
variable {C C' : PC} {D D' D2 : FQ} {M M' M1 M2 : CM} {σ σ' σ0 σ2 : TS} {mss fss xs bs qs os : List Nat} {B l k n o m u w Q I I' L V V' Bm Bm' b b2 c v r R R' E E' cr i i' k0 fr e eo fl z env kk tf cb d : Nat} {P P' X T : Nat → Prop} {S S' : List Nat} {a : Nat} {A W W1 W2 : List (Nat × Nat × Nat)} {ks : List (Nat × Nat)} {x : Int64}
theorem KpT.rf : KpT σ σ V I Bm E i := ⟨fun _ _ _ _ => rfl, fun _ _ _ => rfl, fun _ _ _ _ => rfl, fun _ _ _ _ => rfl, fun _ _ _ _ => rfl, ⟨rfl, rfl⟩, fun _ _ => rfl⟩
theorem KpT.tr (h : KpT σ σ' V I Bm E i) (g : KpT σ' σ2 V' I' Bm' E' i') (h1 : V ≤ V') (h2 : I ≤ I') (h3 : Bm ≤ Bm') (h4 : E ≤ E') (h5 : i' = i ∨ I ≤ i') : KpT σ σ2 V I Bm E i := by
  obtain ⟨a1, a2, a3, a4, a5, ⟨a6, a7⟩, a8⟩ := h
  obtain ⟨c1, c2, c3, c4, c5, ⟨c6, c7⟩, c8⟩ := g
  exact ⟨fun f hf n hn => (c1 f hf n (by omega)).trans (a1 f hf n hn), fun n hn hi => (c2 n (by omega) (by omega)).trans (a2 n hn hi), fun f hf n hn => (c3 f hf n (by omega)).trans (a3 f hf n hn), fun f hf n hn => (c4 f hf n (by omega)).trans (a4 f hf n hn), fun f hf n hn => (c5 f hf n (by omega)).trans (a5 f hf n hn), ⟨c6.trans a6, c7.trans a7⟩, fun c hc => (c8 c (by rw [a7]; exact hc)).trans (a8 c hc)⟩
theorem TsF.mono {t : Nat} (h1 : V ≤ V') (h2 : I ≤ I') (h3 : Bm ≤ Bm') (h5 : i' = i ∨ I ≤ i') (hi : i' < 200) (h : TsF V' I' Bm' i' t) : TsF V I Bm i t := by
  unfold TsF tg at *
  omega
theorem TsF.f {t : Nat} (hi : i < 200) (h : TsF V I Bm i t) : TFf t := by unfold TsF tg at h; unfold TFf; omega
theorem SqM.rf (hnf : cnf C ≤ 12) : SqM C P V I Bm R E i D D M M σ σ := ⟨Wz.rf hnf, Dx.rf D M, fun _ _ => RwS.rf, Fq.rf, O1.rf _ _, Ft.rf _ _, KpT.rf⟩
theorem SqM.tr (h : SqM C P V I Bm R E i D D' M M' σ σ') (g : SqM C P V' I' Bm' R' E' i' D' D2 M' M2 σ' σ2) (h1 : V ≤ V') (h2 : I ≤ I') (h3 : Bm ≤ Bm') (h4 : E ≤ E') (h5 : i' = i ∨ I ≤ i') (h6 : R ≤ R') (hi : i' < 200) : SqM C P V I Bm R E i D D2 M M2 σ σ2 := by
  obtain ⟨a1, a2, a3, a4, a5, a6, a7⟩ := h
  obtain ⟨c1, c2, c3, c4, c5, c6, c7⟩ := g
  exact ⟨a1.tr c1 (fun _ z => z), a2.tr c2 a1.1.1, fun r hr => (a3 r hr).tr (c3 r (by omega)), a4.tr (c4.mono (fun t z => z.mono h1 h2 h3 h5 hi)) a2, a5.tr c5, a6.tr c6, a7.tr c7 h1 h2 h3 h4 h5⟩
/-- a fault after a step -/
theorem SqM.ff {w : Nat} (h : SqM C P V I Bm R E i D D' M M' σ σ') (g : FfO C B P mss fss TFf fiS [15, 16, 17, 18, 31] D' D2 M' M2 σ' σ2 w) (hi : i < 200) : FfO C B P mss fss TFf fiS [15, 16, 17, 18, 31] D D2 M M2 σ σ2 w := g.tr h.1 h.2.1 (h.2.2.2.1.mono (fun t z => z.f hi)) h.2.2.2.2.1 h.2.2.2.2.2.1
theorem CvT.kp (h : CvT σ E i tf cb W ks) (f : Ft fiS σ σ') (k : KpT σ σ' V I Bm E i') (hi : i < I) : CvT σ' E i tf cb W ks := by
  obtain ⟨⟨a1, a2, a3, a4⟩, h2, h3, ⟨c1, c2, c3, c4⟩, h5⟩ := h
  obtain ⟨k1, k2, k3, k4, k5, ⟨k6, k7⟩, k8⟩ := k
  have hfi : fiS.all fiS.contains = true := by decide
  refine ⟨⟨a1, by rw [k1 78 (by decide) i hi]; exact a2, by rw [k1 79 (by decide) i hi]; exact a3, a4⟩, h2.mv f (fun j _ h => ⟨k5 90 (by decide) j (by omega), k5 91 (by decide) j (by omega), k5 92 (by decide) j (by omega)⟩), fun a ha => (h3 a ha).ft f hfi, ⟨by rw [k6]; exact c1, by rw [k7]; exact c2, c3, fun j hj => ⟨?_, (c4 j hj).2.ft f hfi⟩⟩, h5⟩
  rw [k8 (cb + j) (by rw [c2, ix_nI (by omega)]; omega)]
  exact (c4 j hj).1
theorem Cx.st (h : Cx C P D M σ I R E d i tf cb fr W ks) (s : SqM C P V I Bm R E i' D D' M M' σ σ') (hI : I ≤ (pl D 99).length ∧ I ≤ I') (hh : ∀ c, c < (W ++ wcE i ks).length → hit D' M' (fr + c) = 0 ∨ hit D' M' (fr + c) = 1) : Cx C P D' M' σ' I' R E d i tf cb fr W ks := by
  obtain ⟨h1, h2, h3, h4, h5, -⟩ := h
  obtain ⟨a1, a2, a3, a4, a5, a6, a7⟩ := s
  exact ⟨by omega, h2.kp a6 a7 h1, h3.mv a1 a2 (fun j hj => a3 _ (by omega)) hI a6, h4, h5, hh⟩
theorem hs.mv (f : Ft fiS σ σ') (k : KpT σ σ' V I Bm E i') (hb : b ≤ Bm) : hs σ' a b i x ↔ hs σ a b i x := by
  have g : ∀ m, m < b → tA σ' 83 m = tA σ 83 m ∧ tA σ' 84 m = tA σ 84 m := fun m hm => ⟨k.2.2.1 83 (by decide) m (by omega), k.2.2.1 84 (by decide) m (by omega)⟩
  constructor
  · rintro ⟨m, e, ⟨q1, q2⟩, q3, q4, q5, q6⟩
    rw [(g m q2).1] at q3
    rw [(g m q2).2] at q4
    rw [(f 52 rfl).2.2.1] at q5
    rw [(f 50 rfl).2.2.2] at q6
    exact ⟨m, e, ⟨q1, q2⟩, q3, q4, q5, q6⟩
  · rintro ⟨m, e, ⟨q1, q2⟩, q3, q4, q5, q6⟩
    exact ⟨m, e, ⟨q1, q2⟩, by rw [(g m q2).1]; exact q3, by rw [(g m q2).2]; exact q4, by rw [(f 52 rfl).2.2.1]; exact q5, by rw [(f 50 rfl).2.2.2]; exact q6⟩
theorem hs.cut (h1 : a ≤ b) (h2 : b ≤ c) : hs σ a c i x ↔ hs σ a b i x ∨ hs σ b c i x := by
  constructor
  · rintro ⟨m, e, ⟨q1, q2⟩, q3⟩
    by_cases z : m < b
    · exact Or.inl ⟨m, e, ⟨q1, z⟩, q3⟩
    · exact Or.inr ⟨m, e, ⟨by omega, q2⟩, q3⟩
  · rintro (⟨m, e, ⟨q1, q2⟩, q3⟩ | ⟨m, e, ⟨q1, q2⟩, q3⟩)
    · exact ⟨m, e, ⟨q1, by omega⟩, q3⟩
    · exact ⟨m, e, ⟨by omega, q2⟩, q3⟩
theorem ldB_ft (f : Ft fiS σ σ') {en : Nat × Nat × Nat} : ldB σ' x en = ldB σ x en := by
  unfold ldB
  rw [(f 62 rfl).2.2.1, (f 63 rfl).2.2.2, pth_ft f rfl rfl, (f 29 rfl).2.2.2]
theorem hsL.mv (f : Ft fiS σ σ') (k : KpT σ σ' V I Bm E i') (hb : b ≤ Bm) {en : Nat × Nat × Nat} : hsL σ' a b i en ↔ hsL σ a b i en := by
  unfold hsL
  constructor
  · rintro ⟨x, h, g⟩
    rw [ldB_ft f] at g
    exact ⟨x, (hs.mv f k hb).mp h, g⟩
  · rintro ⟨x, h, g⟩
    exact ⟨x, (hs.mv f k hb).mpr h, by rw [ldB_ft f]; exact g⟩
theorem hsL.cut (h1 : a ≤ b) (h2 : b ≤ c) {en : Nat × Nat × Nat} : hsL σ a c i en ↔ hsL σ a b i en ∨ hsL σ b c i en := by
  unfold hsL
  constructor
  · rintro ⟨x, h, g⟩
    rcases (hs.cut h1 h2).mp h with h | h
    · exact Or.inl ⟨x, h, g⟩
    · exact Or.inr ⟨x, h, g⟩
  · rintro (⟨x, h, g⟩ | ⟨x, h, g⟩)
    · exact ⟨x, (hs.cut h1 h2).mpr (Or.inl h), g⟩
    · exact ⟨x, (hs.cut h1 h2).mpr (Or.inr h), g⟩
theorem HitP.tr (h : HitP D D' M M' σ' a b i fr R W) (g : HitP D' D2 M' M2 σ2 b c i fr R W) (f : Ft fiS σ' σ2) (k : KpT σ' σ2 V I Bm E i') (hb : b ≤ Bm) (h1 : a ≤ b) (h2 : b ≤ c) : HitP D D2 M M2 σ2 a c i fr R W := by
  refine ⟨fun r hr hn => (g.1 r hr hn).trans (h.1 r hr hn), fun n hn => ⟨fun z => ?_, fun z => ?_⟩⟩
  · rcases (hsL.cut h1 h2).mp z with q | q
    · have e := (h.2 n hn).1 ((hsL.mv f k hb).mp q)
      by_cases y : hsL σ2 b c i (ge W n)
      · exact (g.2 n hn).1 y
      · exact ((g.2 n hn).2 y).trans e
    · exact (g.2 n hn).1 q
  · have z1 : ¬ hsL σ2 b c i (ge W n) := fun q => z ((hsL.cut h1 h2).mpr (Or.inr q))
    have z2 : ¬ hsL σ' a b i (ge W n) := fun q => z ((hsL.cut h1 h2).mpr (Or.inl ((hsL.mv f k hb).mpr q)))
    exact ((g.2 n hn).2 z1).trans ((h.2 n hn).2 z2)
theorem HitP.z1 (h : HitP D D' M M' σ' a b i fr R W) (g : ∀ c, c < W.length → hit D M (fr + c) = 0 ∨ hit D M (fr + c) = 1) (hn : n < W.length) : hit D' M' (fr + n) = 0 ∨ hit D' M' (fr + n) = 1 := by
  by_cases z : hsL σ' a b i (ge W n)
  · exact Or.inr ((h.2 n hn).1 z)
  · rw [(h.2 n hn).2 z]; exact g n hn
theorem MbC.mv (h : MbC D mss M σ V I b) (v : Wz C C P M M' σ σ') (f : Ft fiS σ σ') (hP : ∀ k, k < mss.length → P (mss.getD k 0)) (e1 : (pl D' 100).getD b 0 = (pl D 100).getD b 0) (s : So M M' ((pl D 100).getD b 0)) (pe : P (mR M 3003 ((pl D 100).getD b 0))) (hx : Dx D D' M) (t : tA σ' 84 b = tA σ 84 b ∧ tA σ' 85 b = tA σ 85 b ∧ tA σ' 86 b = tA σ 86 b) (t83 : tA σ' 83 b = tA σ 83 b) (ti : ∀ f, f ∈ [74, 75, 76, 77, 78, 79] → ∀ n, n < I → tA σ' f n = tA σ f n) (hV : V ≤ V') (hI : I ≤ I') : MbC D' mss M' σ' V' I' b := by
  obtain ⟨e, ⟨h1, h2⟩, h3⟩ := h
  unfold MbC
  rw [e1, t.1, t.2.1, t.2.2, (f 58 rfl).1]
  refine ⟨e, ⟨h1, h2⟩, ?_⟩
  rw [(f 52 rfl).2.2.1, (f 53 rfl).2.2.1, (f 51 rfl).2.2.2, s.i, s.i, s.r]
  rcases h3 with ⟨q1, q2, q3, q4, q5⟩ | ⟨q1, g, z, q2, q3, q4⟩
  · refine Or.inl ⟨q1, q2, q3, by rw [(v.2.1.1 _ pe).i]; exact q4, ?_⟩
    obtain ⟨c, hc, ec⟩ := List.getElem_of_mem q5
    obtain ⟨d1, d2⟩ := hx.1 102 c hc
    have e2 : (pl D 102).getD c 0 = (pl D 100).getD b 0 := by rw [List.getD_eq_getElem?_getD, List.getElem?_eq_getElem hc]; exact ec
    rw [e2, List.getD_eq_getElem?_getD, List.getElem?_eq_getElem d1] at d2
    rw [← d2]; exact List.getElem_mem d1
  · refine Or.inr ⟨q1, g, z, q2, q3, ?_⟩
    rcases q4 with ⟨y1, y2, y3, y4⟩ | ⟨y1, y2, yB, k, y3, y4, y5⟩
    · exact Or.inl ⟨y1, y2, y3, by omega⟩
    · refine Or.inr ⟨y1, by omega, fun j hj => ?_, k, y3, y4, by rw [(v.2.1.1 _ (hP k y3)).i]; exact y5⟩
      obtain ⟨n, ⟨n1, n2, n3⟩, n4, n5, n6⟩ := yB j hj
      exact ⟨n, ⟨n1, by omega, n3⟩, by rw [ti 75 (by decide) n n2, t83]; exact n4, by rw [ti 76 (by decide) n n2]; exact n5, by rw [ti 77 (by decide) n n2]; exact n6⟩
/-- a class is found by its name later too -/
theorem classOf_fr {S : List Nat} {s : TS} {x : Int64} (f : Ft S σ s) (hS : [41, 45, 46, 49, 51, 57].all (fun k => !S.contains k) = true) {r : Int32} (h : F_classOf x σ = some (r, σ)) : F_classOf x s = some (r, s) := by
  have hf : ∀ k, k ∈ [41, 45, 46, 49, 51, 57] → S.contains k = false := fun k hk => by simpa using List.all_eq_true.mp hS k hk
  have loop : ∀ (n : Nat) (j : Int32), (L_classOf_2 n x j σ = none ∧ L_classOf_2 n x j s = none) ∨ ∃ y, L_classOf_2 n x j σ = some (y, σ) ∧ L_classOf_2 n x j s = some (y, s) := by
    intro n
    induction n with
    | zero => intro j; exact Or.inl ⟨rfl, rfl⟩
    | succ n ih =>
      intro j
      rw [L_classOf_2, L_classOf_2, (f 49 (hf 49 (by decide))).1]
      by_cases q : tI σ 49 ≤ j
      · rw [ifT q, ifT q]; exact Or.inr ⟨_, rfl, rfl⟩
      · rw [ifF q, ifF q]
        by_cases q2 : inb j 24
        · rw [ifT q2, ifT q2, (f 41 (hf 41 (by decide))).2.2.2]
          by_cases q3 : lg_cmp (tB σ 41 (ix j)) x = 0
          · rw [ifT q3, ifT q3]; exact Or.inr ⟨_, rfl, rfl⟩
          · rw [ifF q3, ifF q3, nm_eq, nm_eq]; exact ih _
        · rw [ifF q2, ifF q2]; exact Or.inl ⟨rfl, rfl⟩
  unfold F_classOf at h ⊢
  rcases loop FU 0 with ⟨h1, h2⟩ | ⟨y, h1, h2⟩
  · rw [h1] at h; exact absurd h (by intro z; cases z)
  · rw [h1] at h
    rw [h2]
    cases y with
    | inl u =>
      rw [obS_inl] at h ⊢
      have := congrArg Prod.fst (Option.some.inj h)
      have this : (-1 : Int32) = r := this
      rw [this]
    | inr u =>
      rw [obS_inr] at h ⊢
      have := congrArg Prod.fst (Option.some.inj h)
      have this : u = r := this
      rw [this]
/-- all that class k extends is there, g deep -/
def ExD (σ : TS) : Nat → Nat → Prop
  | 0, _ => False
  | g + 1, k => k < 24 ∧ ∀ e E0 len, tA σ 45 k = nI E0 → tA σ 46 k = nI len → E0 + len ≤ 480 → E0 ≤ e → e < E0 + len → ¬ tA σ 57 e = 0 → ∃ k2, F_classOf (tB σ 51 e) σ = some (nI k2, σ) ∧ ExD σ g k2
theorem ExD.fwd {S : List Nat} {s : TS} (f : Ft S σ s) (hS : [41, 45, 46, 49, 51, 57].all (fun k => !S.contains k) = true) : ∀ g k, ExD σ g k → ExD s g k
  | 0, _, h => h.elim
  | g + 1, k, h => by
    have hf : ∀ k, k ∈ [41, 45, 46, 49, 51, 57] → S.contains k = false := fun k hk => by simpa using List.all_eq_true.mp hS k hk
    refine ⟨h.1, fun e E0 len h1 h2 h3 h4 h5 h6 => ?_⟩
    rw [(f 45 (hf 45 (by decide))).2.2.1] at h1
    rw [(f 46 (hf 46 (by decide))).2.2.1] at h2
    rw [(f 57 (hf 57 (by decide))).2.2.1] at h6
    obtain ⟨k2, a, b⟩ := h.2 e E0 len h1 h2 h3 h4 h5 h6
    exact ⟨k2, by rw [(f 51 (hf 51 (by decide))).2.2.2]; exact classOf_fr f hS a, ExD.fwd f hS g k2 b⟩
/-- member b is real and not outer -/
def VrE (σ : TS) (b : Nat) : Prop := ∃ e, tA σ 84 b = nI e ∧ e < ix (tI σ 58) ∧ tB σ 51 e = 0 ∧ tA σ 52 e &&& 16 = 0
/-- its variables are f .. f' -/
def VoB (σ : TS) (b f f' : Nat) : Prop := ∃ e z, (tA σ 84 b = nI e ∧ e < ix (tI σ 58) ∧ tB σ 51 e = 0 ∧ tA σ 52 e &&& 16 = 0) ∧ tA σ 53 e = nI z ∧ z ≤ 9 ∧ tA σ 85 b = nI f ∧ f' = f + many z ∧ ∀ v, f ≤ v → v < f' → tA σ 96 v = tA σ 83 b
/-- variables V .. V' belong to members Bm .. Bm', in order -/
def VoS (σ : TS) (V V' Bm Bm' : Nat) : Prop := ∃ fv : Nat → Nat, fv Bm = V ∧ fv Bm' = V' ∧ ∀ b, Bm ≤ b → b < Bm' → VoB σ b (fv b) (fv (b + 1)) ∨ (¬ VrE σ b ∧ fv (b + 1) = fv b)
theorem VoS.nil {V Bm : Nat} : VoS σ V V Bm Bm := ⟨fun _ => V, rfl, rfl, fun b h1 h2 => by omega⟩
theorem VoS.one {V V' b : Nat} (h : VoB σ b V V') : VoS σ V V' b (b + 1) := ⟨fun c => if c = b then V else V', ifT rfl, ifF (by omega), fun c h1 h2 => Or.inl (by
  have e : c = b := by omega
  rw [e]
  show VoB σ b (if b = b then V else V') (if b + 1 = b then V else V')
  rw [ifT rfl, ifF (by omega)]; exact h)⟩
theorem VoS.no {V b : Nat} (h : ¬ VrE σ b) : VoS σ V V b (b + 1) := ⟨fun _ => V, rfl, rfl, fun c h1 h2 => Or.inr ⟨by rw [show c = b by omega]; exact h, rfl⟩⟩
theorem VoB.le {b f f' : Nat} (h : VoB σ b f f') : f ≤ f' := by
  obtain ⟨e, z, -, -, -, -, h, -⟩ := h
  omega
theorem VoS.le {V V' Bm Bm' : Nat} (h : VoS σ V V' Bm Bm') (hB : Bm ≤ Bm') : V ≤ V' := by
  obtain ⟨fv, h1, h2, h3⟩ := h
  have : ∀ d, Bm + d ≤ Bm' → V ≤ fv (Bm + d) := fun d => by
    induction d with
    | zero => intro _; rw [Nat.add_zero, h1]; exact Nat.le_refl _
    | succ d ih =>
      intro hd
      have a := ih (by omega)
      have b : fv (Bm + d) ≤ fv (Bm + d + 1) := by
        rcases h3 (Bm + d) (by omega) (by omega) with g | ⟨-, g⟩
        · exact g.le
        · omega
      have : Bm + (d + 1) = Bm + d + 1 := rfl
      rw [this]; omega
  have := this (Bm' - Bm) (by omega)
  rw [show Bm + (Bm' - Bm) = Bm' by omega, h2] at this
  exact this
theorem VoS.tr {V V1 V2 Bm B1 B2 : Nat} (h : VoS σ V V1 Bm B1) (g : VoS σ V1 V2 B1 B2) (hB : Bm ≤ B1 ∧ B1 ≤ B2) : VoS σ V V2 Bm B2 := by
  obtain ⟨f1, a1, a2, a3⟩ := h
  obtain ⟨f2, b1, b2, b3⟩ := g
  have lo : ∀ c, c ≤ B1 → (if c < B1 then f1 c else f2 c) = f1 c := fun c hc => by
    by_cases q : c < B1
    · rw [ifT q]
    · rw [ifF q, show c = B1 by omega, a2, b1]
  have hi : ∀ c, B1 ≤ c → (if c < B1 then f1 c else f2 c) = f2 c := fun c hc => ifF (by omega)
  refine ⟨fun c => if c < B1 then f1 c else f2 c, (lo Bm hB.1).trans a1, (hi B2 hB.2).trans b2, fun c h1 h2 => ?_⟩
  show VoB σ c (if c < B1 then f1 c else f2 c) (if c + 1 < B1 then f1 (c + 1) else f2 (c + 1)) ∨ (¬ VrE σ c ∧ (if c + 1 < B1 then f1 (c + 1) else f2 (c + 1)) = if c < B1 then f1 c else f2 c)
  by_cases q : c < B1
  · rw [lo c (by omega), lo (c + 1) (by omega)]; exact a3 c h1 q
  · rw [hi c (by omega), hi (c + 1) (by omega)]; exact b3 c (by omega) h2
theorem VoS.mv {V V' Bm Bm' : Nat} {s : TS} (h : VoS σ V V' Bm Bm') (hB : Bm ≤ Bm') (f : Ft fiS σ s) (k : ∀ b, Bm ≤ b → b < Bm' → (tA s 83 b = tA σ 83 b ∧ tA s 84 b = tA σ 84 b) ∧ (VrE σ b → tA s 85 b = tA σ 85 b)) (k9 : ∀ v, V ≤ v → v < V' → tA s 96 v = tA σ 96 v) : VoS s V V' Bm Bm' := by
  have hh := h
  obtain ⟨fv, h1, h2, h3⟩ := h
  refine ⟨fv, h1, h2, fun b b1 b2 => ?_⟩
  obtain ⟨⟨k3, k4⟩, k5⟩ := k b b1 b2
  have up : V ≤ fv b := by
    have : VoS σ V (fv b) Bm b := ⟨fv, h1, rfl, fun c c1 c2 => h3 c c1 (by omega)⟩
    exact this.le b1
  have dn : fv (b + 1) ≤ V' := by
    have : VoS σ (fv (b + 1)) V' (b + 1) Bm' := ⟨fv, rfl, h2, fun c c1 c2 => h3 c (by omega) c2⟩
    exact this.le (by omega)
  rcases h3 b b1 b2 with ⟨e, z, g1, g2, g3, g4, g5, g6⟩ | ⟨g1, g2⟩
  · left
    refine ⟨e, z, ⟨by rw [k4]; exact g1.1, by rw [(f 58 rfl).1]; exact g1.2.1, by rw [(f 51 rfl).2.2.2]; exact g1.2.2.1, by rw [(f 52 rfl).2.2.1]; exact g1.2.2.2⟩, by rw [(f 53 rfl).2.2.1]; exact g2, g3, by rw [k5 ⟨e, g1⟩]; exact g4, g5, fun v v1 v2 => ?_⟩
    rw [k9 v (by omega) (by omega), k3]; exact g6 v v1 v2
  · right
    refine ⟨fun ⟨e, y1, y2, y3, y4⟩ => g1 ⟨e, by rw [← k4]; exact y1, by rw [← (f 58 rfl).1]; exact y2, by rw [← (f 51 rfl).2.2.2]; exact y3, by rw [← (f 52 rfl).2.2.1]; exact y4⟩, g2⟩
theorem VoS.ft {V V' Bm Bm' : Nat} {s : TS} (f : Ft S σ s) (hS : [51, 52, 53, 58, 83, 84, 85, 96].all (fun k => !S.contains k) = true) (h : VoS σ V V' Bm Bm') : VoS s V V' Bm Bm' := by
  have hf : ∀ k, k ∈ [51, 52, 53, 58, 83, 84, 85, 96] → S.contains k = false := fun k hk => by simpa using List.all_eq_true.mp hS k hk
  unfold VoS VoB VrE at h ⊢
  simp only [(f 51 (hf 51 (by decide))).2.2.2, (f 52 (hf 52 (by decide))).2.2.1, (f 53 (hf 53 (by decide))).2.2.1, (f 58 (hf 58 (by decide))).1, (f 83 (hf 83 (by decide))).2.2.1, (f 84 (hf 84 (by decide))).2.2.1, (f 85 (hf 85 (by decide))).2.2.1, (f 96 (hf 96 (by decide))).2.2.1]
  exact h
theorem FiS.e480 (F : FiS C B P mss fss D M σ V I Bm cr R E) : ix (tI σ 58) ≤ 480 := by
  obtain ⟨E0, e1, e2⟩ := F.1.1.2.2.2.2.2.2.1
  have h24 := F.1.1.2.2.2.2.1.1.1
  rw [e1, ix_nI (by omega)]
  omega
/-- new instances stand in instance i or in new ones; how deep they are -/
def NwI (σ' : TS) (I I' i d0 : Nat) : Prop := ∃ dp : Nat → Nat, ∀ n, I ≤ n → n < I' → ∃ p, tA σ' 75 n = nI p ∧ p < 200 ∧ ((p = i ∧ d0 < dp n) ∨ (I ≤ p ∧ p < n ∧ dp p < dp n)) ∧ dp n ≤ 13 ∧ ∃ k g, tA σ' 74 n = nI k ∧ ExD σ' g k ∧ g ≤ 13
theorem NwI.nil {d0 : Nat} (h : I' ≤ I) : NwI σ' I I' i d0 := ⟨fun _ => 0, fun n h1 h2 => by omega⟩
theorem NwI.mono {d0 d1 : Nat} (h : NwI σ' I I' i d1) (hd : d0 ≤ d1) : NwI σ' I I' i d0 := by
  obtain ⟨dp, h⟩ := h
  refine ⟨dp, fun n h1 h2 => ?_⟩
  obtain ⟨p, p1, p2, p3, p4⟩ := h n h1 h2
  exact ⟨p, p1, p2, by rcases p3 with q | q; exact Or.inl ⟨q.1, by omega⟩; exact Or.inr q, p4⟩
theorem NwI.tr {I2 d0 : Nat} (h : NwI σ' I I' i d0) (g : NwI σ2 I' I2 i d0) (hI : I ≤ I') (k : ∀ n, n < I' → tA σ2 75 n = tA σ' 75 n) (k4 : ∀ n, n < I' → tA σ2 74 n = tA σ' 74 n) (f : Ft fiS σ' σ2) : NwI σ2 I I2 i d0 := by
  obtain ⟨dp1, h⟩ := h
  obtain ⟨dp2, g⟩ := g
  refine ⟨fun n => if n < I' then dp1 n else dp2 n, fun n h1 h2 => ?_⟩
  by_cases q : n < I'
  · rw [k n q, k4 n q]
    obtain ⟨p, p1, p2, p3, p4, kk, gg, p5, p6, p7⟩ := h n h1 q
    refine ⟨p, p1, p2, ?_, by show (if n < I' then dp1 n else dp2 n) ≤ 13; rw [ifT q]; exact p4, kk, gg, p5, p6.fwd f (by decide) _ _, p7⟩
    rcases p3 with ⟨a, b⟩ | ⟨a, b, c⟩
    · exact Or.inl ⟨a, by show d0 < (if n < I' then dp1 n else dp2 n); rw [ifT q]; exact b⟩
    · exact Or.inr ⟨a, b, by show (if p < I' then dp1 p else dp2 p) < (if n < I' then dp1 n else dp2 n); rw [ifT q, ifT (show p < I' by omega)]; exact c⟩
  · obtain ⟨p, p1, p2, p3, p4, p5⟩ := g n (by omega) h2
    refine ⟨p, p1, p2, ?_, by show (if n < I' then dp1 n else dp2 n) ≤ 13; rw [ifF q]; exact p4, p5⟩
    rcases p3 with ⟨a, b⟩ | ⟨a, b, c⟩
    · exact Or.inl ⟨a, by show d0 < (if n < I' then dp1 n else dp2 n); rw [ifF q]; exact b⟩
    · exact Or.inr ⟨by omega, b, by show (if p < I' then dp1 p else dp2 p) < (if n < I' then dp1 n else dp2 n); rw [ifF q, ifF (show ¬ p < I' by omega)]; exact c⟩
end STEP
