/-! Layer B: the flat model: instances, members, variables on both sides -/
set_option maxRecDepth 100000
/-- an expression that stands in an instance, or none: object a in x, the twin's e in i -/
def AxR (C : PC) (P : Nat → Prop) (D : FQ) (M : CM) (σ : TS) (I a x : Nat) (e i : Int32) : Prop := (a = 0 ∧ e = 0) ∨ (a ≠ 0 ∧ ∃ n d, e = nI n ∧ 1 ≤ n ∧ n < 9000 ∧ AR P (tN σ) (tQ σ) (cm C) (car C) (cnf C) (cfn C) M σ d 0 a n ∧ ∃ j, j < I ∧ x = (pl D 99).getD j 0 ∧ i = nI j)
/-- instance x of class element e -/
def EXr (σ : TS) (e x : Nat) : Prop := (e < ix (tI σ 58) ∧ ∃ z, tA σ 53 e = nI z ∧ (z ≤ 9 ∧ x ≤ z) ∧ (z = 0 ∨ 1 ≤ x)) ∧ ¬ tB σ 51 e = 0 ∧ tA σ 52 e &&& 16 = 0
/-- an instance -/
def InR (C : PC) (P : Nat → Prop) (D : FQ) (mss : List Nat) (M : CM) (σ : TS) (Bm n : Nat) : Prop := mI M 2600 ((pl D 99).getD n 0) = nI n ∧
  ((n = 0 ∧ mR M 2601 ((pl D 99).getD n 0) = 0 ∧ tA σ 75 n = -1) ∨ (1 ≤ n ∧ ∃ p b e, (p < n ∧ mR M 2601 ((pl D 99).getD n 0) = (pl D 99).getD p 0 ∧ tA σ 75 n = nI p) ∧ (b < Bm ∧ tA σ 83 b = nI p ∧ tA σ 84 b = nI e ∧ tA σ 76 n = nI e ∧ mI M 2603 ((pl D 99).getD n 0) = mI M 3000 ((pl D 100).getD b 0)) ∧ ∃ x, (x ≤ 9 ∧ EXr σ e x) ∧ mI M 2604 ((pl D 99).getD n 0) = nI x ∧ tA σ 77 n = nI x ∧ ∀ n', n' < n → tA σ 75 n' = nI p → (tA σ 76 n' = nI e → ∃ x', x' < x ∧ tA σ 77 n' = nI x') ∧ ∃ b', b' ≤ b ∧ tA σ 83 b' = nI p ∧ tA σ 84 b' = tA σ 76 n')) ∧
  (∃ k, k < mss.length ∧ mR M 2602 ((pl D 99).getD n 0) = mss.getD k 0 ∧ tA σ 74 n = nI k) ∧
  ∃ bs : List Nat, Ls M (mR M 2605 ((pl D 99).getD n 0)) (bs.map fun b => (pl D 100).getD b 0) ∧ (∀ b, b ∈ bs → b < Bm ∧ tA σ 83 b = nI n) ∧ ChR σ bs.reverse (tA σ 88 n) ∧ (∀ b c, b ∈ bs → c ∈ bs → mI M 3000 ((pl D 100).getD b 0) = mI M 3000 ((pl D 100).getD c 0) → b = c) ∧ (∀ b, b < Bm → tA σ 83 b = nI n → b ∈ bs) ∧ bs.Pairwise (· < ·)
/-- a member: what it is -/
def MbZ (z7 : Nat → Nat) (C : PC) (P : Nat → Prop) (D : FQ) (M : CM) (σ : TS) (I b : Nat) : Prop := ∃ n e eo w, (n < I ∧ mR M 3006 ((pl D 100).getD b 0) = (pl D 99).getD n 0 ∧ tA σ 83 b = nI n) ∧ (tA σ 84 b = nI e ∧ e < ix (tI σ 58) ∧ tA σ 57 e = 0) ∧ (mR M 3003 ((pl D 100).getD b 0) = eo ∧ ElR C P M σ eo e) ∧ (mI M 3000 ((pl D 100).getD b 0) = nI w ∧ 38 ≤ w ∧ w < 38 + cm C ∧ tB σ 50 e = wc M w) ∧ mI M 3002 ((pl D 100).getD b 0) = tA σ 53 e ∧ mI M 3004 ((pl D 100).getD b 0) = (if tB σ 51 e = 0 then 1 else 0) ∧ mR M 3007 ((pl D 100).getD b 0) = z7 b
abbrev MbA (C : PC) (P : Nat → Prop) (D : FQ) (M : CM) (σ : TS) (I b : Nat) : Prop := MbZ (fun _ => 0) C P D M σ I b
/-- the twin's word for three exponents -/
def unT (v : Nat → Nat) : Int32 := if v 0 = 8 ∧ v 1 = 8 ∧ v 2 = 8 then 0 else nI (v 0 + 32 * v 1 + 1024 * v 2 + 1048576)
/-- a variable's values, when it is new -/
def VzR (D : FQ) (M : CM) (v : Nat) : Prop := mR M 3210 ((pl D 98).getD v 0) = 0 ∧ mR M 3211 ((pl D 98).getD v 0) = 0 ∧ mI M 3212 ((pl D 98).getD v 0) = 0 ∧ mI M 3213 ((pl D 98).getD v 0) = 0 ∧ mI M 3214 ((pl D 98).getD v 0) = 0
/-- a variable -/
def VrR (zf : Nat) (C : PC) (P : Nat → Prop) (D : FQ) (M : CM) (σ : TS) (I v : Nat) : Prop := (∃ n e w, (n < I ∧ mR M 3200 ((pl D 98).getD v 0) = (pl D 99).getD n 0 ∧ tA σ 96 v = nI n) ∧ (tA σ 97 v = nI e ∧ e < ix (tI σ 58)) ∧ mI M 3201 ((pl D 98).getD v 0) = nI w ∧ 38 ≤ w ∧ w < 38 + cm C ∧ tB σ 50 e = wc M w) ∧ (∃ x, x ≤ 9 ∧ mI M 3202 ((pl D 98).getD v 0) = nI x ∧ tA σ 98 v = nI x) ∧ (∃ x, x < 3 ∧ mI M 3203 ((pl D 98).getD v 0) = nI x ∧ tA σ 94 v = nI x) ∧ (∃ vv, (∀ k, k < 3 → mA M (mR M 3204 ((pl D 98).getD v 0)) k = nI (vv k) - 8 ∧ 1 ≤ vv k ∧ vv k ≤ 15) ∧ tA σ 95 v = unT vv) ∧ ((mI M 3205 ((pl D 98).getD v 0) = 0 ∧ tA σ 99 v = 0) ∨ (mI M 3205 ((pl D 98).getD v 0) = 1 ∧ tA σ 99 v = 1)) ∧ AxR C P D M σ I (mR M 3206 ((pl D 98).getD v 0)) (mR M 3207 ((pl D 98).getD v 0)) (tA σ 100 v) (tA σ 101 v) ∧ AxR C P D M σ I (mR M 3208 ((pl D 98).getD v 0)) (mR M 3209 ((pl D 98).getD v 0)) (tA σ 102 v) (tA σ 103 v) ∧ (zf = 0 → VzR D M v)
/-- all of them: V variables, I instances, Bm members -/
def FInZ (z7 : Nat → Nat) (C : PC) (P : Nat → Prop) (D : FQ) (mss : List Nat) (M : CM) (σ : TS) (V I Bm : Nat) : Prop := (V ≤ (pl D 98).length ∧ I ≤ (pl D 99).length ∧ Bm ≤ (pl D 100).length) ∧ (∀ n, n < I → InR C P D mss M σ Bm n) ∧ (∀ b, b < Bm → MbZ z7 C P D M σ I b) ∧ ∀ v, v < V → VrR (z7 100000) C P D M σ I v
abbrev FIn (C : PC) (P : Nat → Prop) (D : FQ) (mss : List Nat) (M : CM) (σ : TS) (V I Bm : Nat) : Prop := FInZ (fun _ => 0) C P D mss M σ V I Bm
/-- the twin's rows of them stay -/
def Tk (σ σ' : TS) (V I Bm : Nat) : Prop := (∀ f, f ∈ [74, 75, 76, 77, 88] → ∀ n, n < I → tA σ' f n = tA σ f n) ∧ (∀ f, f ∈ [83, 84, 87] → ∀ b, b < Bm → tA σ' f b = tA σ f b) ∧ ∀ f, f ∈ [94, 95, 96, 97, 98, 99, 100, 101, 102, 103] → ∀ v, v < V → tA σ' f v = tA σ f v
/-- what isn't theirs -/
def Tn (V I Bm t : Nat) : Prop := (∀ v, v < V → t ≠ tg 98 v ∧ t ≠ tg 200 v) ∧ (∀ n, n < I → t ≠ tg 99 n ∧ t ≠ tg 201 n ∧ t ≠ tg 202 n) ∧ ∀ b, b < Bm → t ≠ tg 100 b
section INST
variable {C C' : PC} {D D' D2 : FQ} {M M' M2 : CM} {σ σ' σ2 : TS} {mss fss xs bs qs r : List Nat} {B l k n o m u w Q I I' L V V' Bm Bm' b v : Nat} {P P' X T : Nat → Prop} {S S' : List Nat}
theorem Tk.rf : Tk σ σ V I Bm := ⟨fun _ _ _ _ => rfl, fun _ _ _ _ => rfl, fun _ _ _ _ => rfl⟩
theorem Tk.tr (h : Tk σ σ' V I Bm) (g : Tk σ' σ2 V' I' Bm') (h1 : V ≤ V') (h2 : I ≤ I') (h3 : Bm ≤ Bm') : Tk σ σ2 V I Bm := ⟨fun f hf n hn => (g.1 f hf n (by omega)).trans (h.1 f hf n hn), fun f hf n hn => (g.2.1 f hf n (by omega)).trans (h.2.1 f hf n hn), fun f hf n hn => (g.2.2 f hf n (by omega)).trans (h.2.2 f hf n hn)⟩
theorem Tk.ft (f : Ft S σ σ') (h : [74, 75, 76, 77, 83, 84, 87, 88, 94, 95, 96, 97, 98, 99, 100, 101, 102, 103].all (fun k => !S.contains k) = true) : Tk σ σ' V I Bm := by
  have hf : ∀ k, k ∈ [74, 75, 76, 77, 83, 84, 87, 88, 94, 95, 96, 97, 98, 99, 100, 101, 102, 103] → S.contains k = false := fun k hk => by
    have := List.all_eq_true.mp h k hk
    simpa using this
  have sub : ∀ L : List Nat, L.all (fun k => [74, 75, 76, 77, 83, 84, 87, 88, 94, 95, 96, 97, 98, 99, 100, 101, 102, 103].contains k) = true → ∀ k, k ∈ L → S.contains k = false := fun L hL k hk => hf k (by
    have := List.all_eq_true.mp hL k hk
    simpa using this)
  exact ⟨fun g hg n _ => (f g (sub _ (by decide) g hg)).2.2.1 n, fun g hg n _ => (f g (sub _ (by decide) g hg)).2.2.1 n, fun g hg n _ => (f g (sub _ (by decide) g hg)).2.2.1 n⟩
theorem AxR.mv {a x : Nat} {e i : Int32} (h : AxR C P D M σ I a x e i) (v : Wz C C' P M M' σ σ') (hP : ∀ o, P o → P' o) (hx : Dx D D' M) (hI : I ≤ (pl D 99).length) (hI' : I ≤ I') : AxR C' P' D' M' σ' I' a x e i := by
  rcases h with h | ⟨h0, n, d, h1, h2, h3, h4, j, h5, h6, h7⟩
  · exact Or.inl h
  · refine Or.inr ⟨h0, n, d, h1, h2, h3, ?_, j, by omega, by rw [(hx.1 99 j (by omega)).2]; exact h6, h7⟩
    rw [v.2.2.2.2.2.2]
    exact AR.wz v hP v.nf d d 0 _ n (Nat.le_refl _) h4
theorem ChR.mv : ∀ (r : List Nat) (x : Int32), (∀ b, b ∈ r → tA σ' 87 b = tA σ 87 b) → ChR σ r x → ChR σ' r x
  | [], _, _, h => h
  | b :: r, _, hb, ⟨h1, h2⟩ => ⟨h1, by rw [hb b List.mem_cons_self]; exact ChR.mv r _ (fun c hc => hb c (List.mem_cons_of_mem _ hc)) h2⟩
/-- by whose it is: an object that isn't written -/
theorem Fq.so (F : Fq D T M M') (ho : 167 ≤ o ∧ o < mn M) (ht : ow D o = n) (hn : ¬ T n) : So M M' o := Fz.so F ho.2 (fun z => hn (by rw [tgo_d ho.1, ht] at z; exact z))
theorem PoW.so3 (h : PoW D M) (hl : l ∈ flL) (hk : k < (pl D l).length) (F : Fq D T M M') (hn : ¬ T (tg l k)) : So M M' ((pl D l).getD k 0) := by
  obtain ⟨a1, a2, a3⟩ := h.2.1 l hl k hk
  exact F.so a2 a3 hn
/-- what of an instance is not its members -/
def InH (C : PC) (P : Nat → Prop) (D : FQ) (mss : List Nat) (M : CM) (σ : TS) (Bm n : Nat) : Prop := mI M 2600 ((pl D 99).getD n 0) = nI n ∧
  ((n = 0 ∧ mR M 2601 ((pl D 99).getD n 0) = 0 ∧ tA σ 75 n = -1) ∨ (1 ≤ n ∧ ∃ p b e, (p < n ∧ mR M 2601 ((pl D 99).getD n 0) = (pl D 99).getD p 0 ∧ tA σ 75 n = nI p) ∧ (b < Bm ∧ tA σ 83 b = nI p ∧ tA σ 84 b = nI e ∧ tA σ 76 n = nI e ∧ mI M 2603 ((pl D 99).getD n 0) = mI M 3000 ((pl D 100).getD b 0)) ∧ ∃ x, (x ≤ 9 ∧ EXr σ e x) ∧ mI M 2604 ((pl D 99).getD n 0) = nI x ∧ tA σ 77 n = nI x ∧ ∀ n', n' < n → tA σ 75 n' = nI p → (tA σ 76 n' = nI e → ∃ x', x' < x ∧ tA σ 77 n' = nI x') ∧ ∃ b', b' ≤ b ∧ tA σ 83 b' = nI p ∧ tA σ 84 b' = tA σ 76 n')) ∧
  (∃ k, k < mss.length ∧ mR M 2602 ((pl D 99).getD n 0) = mss.getD k 0 ∧ tA σ 74 n = nI k)
/-- more may be written at members (their class and their first), at the list of instance i0 -/
theorem FInZ.kpx3 {z7 z7' : Nat → Nat} {i0 : Nat} (h : FInZ z7 C P D mss M σ V I Bm) (W : PoW D M) (F : Fq D T M M') (hT : ∀ t, T t → (∀ v, v < V → t ≠ tg 200 v) ∧ ∀ n, n < I → t ≠ tg 99 n ∧ (n ≠ i0 → t ≠ tg 201 n ∧ t ≠ tg 202 n)) (hmb : ∀ b, b < Bm → (∀ f, f ≠ 3001 → f ≠ 3005 → mI M' f ((pl D 100).getD b 0) = mI M f ((pl D 100).getD b 0)) ∧ (∀ f, f ≠ 3007 → mR M' f ((pl D 100).getD b 0) = mR M f ((pl D 100).getD b 0)) ∧ mR M' 3007 ((pl D 100).getD b 0) = z7' b) (hv9 : ∀ k, k < V → (∀ f, 3000 ≤ f → f < 3210 → mI M' f ((pl D 98).getD k 0) = mI M f ((pl D 98).getD k 0)) ∧ ∀ f, 3000 ≤ f → f < 3210 → mR M' f ((pl D 98).getD k 0) = mR M f ((pl D 98).getD k 0)) (hz : z7' 100000 = 0 → z7 100000 = 0 ∧ ∀ k, k < V → (∀ f, mI M' f ((pl D 98).getD k 0) = mI M f ((pl D 98).getD k 0)) ∧ ∀ f, mR M' f ((pl D 98).getD k 0) = mR M f ((pl D 98).getD k 0)) (v : Wz C C' P M M' σ σ') (hx : Dx D D' M) (tk1 : ∀ f, f ∈ [74, 75, 76, 77] → ∀ n, n < I → tA σ' f n = tA σ f n) (tk8 : ∀ n, n < I → n ≠ i0 → tA σ' 88 n = tA σ 88 n) (tk2 : ∀ f, f ∈ [83, 84, 87] → ∀ b, b < Bm → tA σ' f b = tA σ f b) (tk3 : ∀ f, f ∈ [94, 95, 96, 97, 98, 99, 100, 101, 102, 103] → ∀ v, v < V → tA σ' f v = tA σ f v) : (V ≤ (pl D' 98).length ∧ I ≤ (pl D' 99).length ∧ Bm ≤ (pl D' 100).length) ∧ (∀ n, n < I → InH C' P D' mss M' σ' Bm n ∧ (n ≠ i0 → InR C' P D' mss M' σ' Bm n)) ∧ (∀ b, b < Bm → MbZ z7' C' P D' M' σ' I b) ∧ ∀ v, v < V → VrR (z7' 100000) C' P D' M' σ' I v := by
  obtain ⟨⟨l1, l2, l3⟩, h1, h2, h3⟩ := h
  have e98 : ∀ k, k < V → (pl D' 98).getD k 0 = (pl D 98).getD k 0 := fun k hk => (hx.1 98 k (by omega)).2
  have e99 : ∀ k, k < I → (pl D' 99).getD k 0 = (pl D 99).getD k 0 := fun k hk => (hx.1 99 k (by omega)).2
  have e100 : ∀ k, k < Bm → (pl D' 100).getD k 0 = (pl D 100).getD k 0 := fun k hk => (hx.1 100 k (by omega)).2
  have len : ∀ l n, n ≤ (pl D l).length → n ≤ (pl D' l).length := fun l n hn => by
    by_cases q : n = 0
    · omega
    · have := (hx.1 l (n - 1) (by omega)).1; omega
  have s99 : ∀ k, k < I → So M M' ((pl D 99).getD k 0) := fun k hk => W.so3 (by decide) (by omega) F (fun z => ((hT _ z).2 k hk).1 rfl)
  have hE := v.2.2.2.1.2.2.2
  refine ⟨⟨len _ _ l1, len _ _ l2, len _ _ l3⟩, fun n hn => ?_, fun b hb => ?_, fun k hk => ?_⟩
  · obtain ⟨a1, a2, ⟨k, k1, k2, k3⟩, bs, b1, b2, b3, b4, b5, b6⟩ := h1 n hn
    have s := s99 n hn
    obtain ⟨⟨ys, y0, y1⟩, y2, y3, y4⟩ := W.2.2.2.1 n (by omega)
    have tb : ∀ b, b < Bm → tA σ' 83 b = tA σ 83 b ∧ tA σ' 84 b = tA σ 84 b ∧ tA σ' 87 b = tA σ 87 b := fun b hb => ⟨tk2 83 (by decide) b hb, tk2 84 (by decide) b hb, tk2 87 (by decide) b hb⟩
    have mp : (bs.map fun b => (pl D' 100).getD b 0) = bs.map fun b => (pl D 100).getD b 0 := List.map_congr_left (fun b hb => e100 b (b2 b hb).1)
    have w3 : ∀ b, b < Bm → mI M' 3000 ((pl D' 100).getD b 0) = mI M 3000 ((pl D 100).getD b 0) := fun b hb => by rw [e100 b hb]; exact (hmb b hb).1 _ (by decide) (by decide)
    have hd : InH C' P D' mss M' σ' Bm n := by
      unfold InH
      rw [e99 n hn]
      refine ⟨by rw [s.i]; exact a1, ?_, ⟨k, k1, by rw [s.r]; exact k2, by rw [tk1 74 (by decide) n hn]; exact k3⟩⟩
      rw [tk1 75 (by decide) n hn, tk1 76 (by decide) n hn, tk1 77 (by decide) n hn, s.r, s.i, s.i]
      rcases a2 with q | ⟨q0, p, b, e, ⟨q1, q2, q3⟩, ⟨q4, q5, q6, q7, q8⟩, q9⟩
      · exact Or.inl q
      · refine Or.inr ⟨q0, p, b, e, ⟨q1, by rw [e99 p (by omega)]; exact q2, q3⟩, ⟨q4, by rw [(tb b q4).1]; exact q5, by rw [(tb b q4).2.1]; exact q6, q7, by rw [w3 b q4]; exact q8⟩, ?_⟩
        obtain ⟨x, x1, x2, x3, x4⟩ := q9
        refine ⟨x, ⟨x1.1, by
          obtain ⟨⟨u1, z, u2, u3⟩, u4, u5⟩ := x1.2
          obtain ⟨ha, hbb⟩ := hE.2 e u1
          exact ⟨⟨by have := hE.1; omega, z, by rw [ha 53 (by decide)]; exact u2, u3⟩, by rw [hbb 51 (by decide)]; exact u4, by rw [ha 52 (by decide)]; exact u5⟩⟩, x2, x3, fun n' h1 h2 => ?_⟩
        rw [tk1 75 (by decide) n' (by omega)] at h2
        obtain ⟨u1, b', u2, u3, u4⟩ := x4 n' h1 h2
        rw [tk1 76 (by decide) n' (by omega), tk1 77 (by decide) n' (by omega)]
        exact ⟨u1, b', u2, by rw [(tb b' (by omega)).1]; exact u3, by rw [(tb b' (by omega)).2.1]; exact u4⟩
    refine ⟨hd, fun hi => ⟨hd.1, hd.2.1, hd.2.2, bs, ?_, fun b hb => ⟨(b2 b hb).1, by rw [(tb b (b2 b hb).1).1]; exact (b2 b hb).2⟩, ?_, fun b c hb hc e => ?_, fun b hb e => ?_, b6⟩⟩
    · have sl := F.so y2 y3 (fun z => (((hT _ z).2 n hn).2 hi).1 rfl)
      have sa : mR M 4201 (mR M 2605 ((pl D 99).getD n 0)) ≠ 4398046511104 → So M M' (mR M 4201 (mR M 2605 ((pl D 99).getD n 0))) := fun z => by
        rcases y0.lt with q | q
        · exact absurd q z
        · exact F.so ⟨(y4 z).1.2, q⟩ (y4 z).1.1 (fun z => (((hT _ z).2 n hn).2 hi).2 rfl)
      rw [mp, e99 n hn, s.r]
      exact b1.kp F.1 (fun o ho => F.k ho) sl sa
    · rw [tk8 n hn hi]
      exact b3.mv _ _ (fun b hb => (tb b (b2 b (List.mem_reverse.mp hb)).1).2.2)
    · rw [w3 b (b2 b hb).1, w3 c (b2 c hc).1] at e
      exact b4 b c hb hc e
    · rw [(tb b hb).1] at e
      exact b5 b hb e
  · obtain ⟨n, e, eo, w, ⟨a1, a2, a3⟩, ⟨a4, a5, a6⟩, ⟨a7, a8⟩, ⟨a9, a10, a11, a12⟩, a13, a14, a15⟩ := h2 b hb
    obtain ⟨si, sr, s7⟩ := hmb b hb
    obtain ⟨ha, hbb⟩ := hE.2 e a5
    have hm := v.2.2.1.1
    unfold MbZ
    rw [e100 b hb]
    refine ⟨n, e, eo, w, ⟨a1, by rw [sr 3006 (by decide), e99 n a1]; exact a2, by rw [tk2 83 (by decide) b hb]; exact a3⟩, ⟨by rw [tk2 84 (by decide) b hb]; exact a4, by have := hE.1; omega, by rw [ha 57 (by decide)]; exact a6⟩, ⟨by rw [sr 3003 (by decide)]; exact a7, a8.wz v (fun _ z => z) a5⟩, ⟨by rw [si 3000 (by decide) (by decide)]; exact a9, a10, by have := v.2.2.1.1; omega, by rw [hbb 50 (by decide), v.2.2.1.2 w a11]; exact a12⟩, by rw [si 3002 (by decide) (by decide), ha 53 (by decide)]; exact a13, by rw [si 3004 (by decide) (by decide), hbb 51 (by decide)]; exact a14, s7⟩
  · obtain ⟨⟨n, e, w, ⟨a1, a2, a3⟩, ⟨a4, a5⟩, a6, a7, a8, a9⟩, ⟨x, c1, c2, c3⟩, ⟨y, d1, d2, d3⟩, ⟨vv, f1, f2⟩, g, j1, j2, j3⟩ := h3 k hk
    obtain ⟨vi, vr⟩ := hv9 k hk
    obtain ⟨ha, hbb⟩ := hE.2 e a5
    obtain ⟨u1, u2, u3⟩ := W.2.2.1 k (by omega)
    have su := F.so u2 u3 (fun z => (hT _ z).1 k hk rfl)
    have t9 : ∀ f, f ∈ [94, 95, 96, 97, 98, 99, 100, 101, 102, 103] → tA σ' f k = tA σ f k := fun f hf => tk3 f hf k hk
    unfold VrR
    rw [e98 k hk, vr 3200 (by decide) (by decide), vr 3204 (by decide) (by decide), vr 3206 (by decide) (by decide), vr 3207 (by decide) (by decide), vr 3208 (by decide) (by decide), vr 3209 (by decide) (by decide), vi 3201 (by decide) (by decide), vi 3202 (by decide) (by decide), vi 3203 (by decide) (by decide), vi 3205 (by decide) (by decide), t9 94 (by decide), t9 95 (by decide), t9 96 (by decide), t9 97 (by decide), t9 98 (by decide), t9 99 (by decide), t9 100 (by decide), t9 101 (by decide), t9 102 (by decide), t9 103 (by decide)]
    exact ⟨⟨n, e, w, ⟨a1, by rw [e99 n a1]; exact a2, a3⟩, ⟨a4, by have := hE.1; omega⟩, a6, a7, by have := v.2.2.1.1; omega, by rw [hbb 50 (by decide), v.2.2.1.2 w a8]; exact a9⟩, ⟨x, c1, c2, c3⟩, ⟨y, d1, d2, d3⟩, ⟨vv, fun k hk => by rw [su.a]; exact f1 k hk, f2⟩, g, j1.mv v (fun _ z => z) hx l2 (Nat.le_refl _), j2.mv v (fun _ z => z) hx l2 (Nat.le_refl _), fun z => by
      obtain ⟨z1, z2⟩ := hz z
      obtain ⟨z3, z4⟩ := z2 k hk
      unfold VzR
      rw [e98 k hk, z3, z3, z3, z4, z4]
      exact j3 z1⟩
/-- the same, what 3007 says stays -/
theorem FInZ.kpx2 {z7 : Nat → Nat} {i0 : Nat} (h : FInZ z7 C P D mss M σ V I Bm) (W : PoW D M) (F : Fq D T M M') (hT : ∀ t, T t → (∀ v, v < V → t ≠ tg 98 v ∧ t ≠ tg 200 v) ∧ ∀ n, n < I → t ≠ tg 99 n ∧ (n ≠ i0 → t ≠ tg 201 n ∧ t ≠ tg 202 n)) (hmb : ∀ b, b < Bm → (∀ f, f ≠ 3001 → f ≠ 3005 → mI M' f ((pl D 100).getD b 0) = mI M f ((pl D 100).getD b 0)) ∧ ∀ f, mR M' f ((pl D 100).getD b 0) = mR M f ((pl D 100).getD b 0)) (v : Wz C C P M M' σ σ') (hx : Dx D D' M) (tk1 : ∀ f, f ∈ [74, 75, 76, 77] → ∀ n, n < I → tA σ' f n = tA σ f n) (tk8 : ∀ n, n < I → n ≠ i0 → tA σ' 88 n = tA σ 88 n) (tk2 : ∀ f, f ∈ [83, 84, 87] → ∀ b, b < Bm → tA σ' f b = tA σ f b) (tk3 : ∀ f, f ∈ [94, 95, 96, 97, 98, 99, 100, 101, 102, 103] → ∀ v, v < V → tA σ' f v = tA σ f v) : (V ≤ (pl D' 98).length ∧ I ≤ (pl D' 99).length ∧ Bm ≤ (pl D' 100).length) ∧ (∀ n, n < I → InH C P D' mss M' σ' Bm n ∧ (n ≠ i0 → InR C P D' mss M' σ' Bm n)) ∧ (∀ b, b < Bm → MbZ z7 C P D' M' σ' I b) ∧ ∀ v, v < V → VrR (z7 100000) C P D' M' σ' I v := h.kpx3 W F (fun t z => ⟨fun v hv => ((hT t z).1 v hv).2, (hT t z).2⟩) (fun b hb => ⟨(hmb b hb).1, fun f _ => (hmb b hb).2 f, by
  obtain ⟨n, e, eo, w, -, -, -, -, -, -, a15⟩ := h.2.2.1 b hb
  rw [(hmb b hb).2]; exact a15⟩) (fun k hk => by
  have l1 := h.1.1
  have s := W.so3 (k := k) (l := 98) (by decide) (by omega) F (fun z => ((hT _ z).1 k hk).1 rfl)
  exact ⟨fun f _ _ => s.i f, fun f _ _ => s.r f⟩) (fun z => ⟨z, fun k hk => by
  have l1 := h.1.1
  have s := W.so3 (k := k) (l := 98) (by decide) (by omega) F (fun z => ((hT _ z).1 k hk).1 rfl)
  exact ⟨fun f => s.i f, fun f => s.r f⟩⟩) v hx tk1 tk8 tk2 tk3
theorem FIn.kpx2 {i0 : Nat} (h : FIn C P D mss M σ V I Bm) (W : PoW D M) (F : Fq D T M M') (hT : ∀ t, T t → (∀ v, v < V → t ≠ tg 98 v ∧ t ≠ tg 200 v) ∧ ∀ n, n < I → t ≠ tg 99 n ∧ (n ≠ i0 → t ≠ tg 201 n ∧ t ≠ tg 202 n)) (hmb : ∀ b, b < Bm → (∀ f, f ≠ 3001 → f ≠ 3005 → mI M' f ((pl D 100).getD b 0) = mI M f ((pl D 100).getD b 0)) ∧ ∀ f, mR M' f ((pl D 100).getD b 0) = mR M f ((pl D 100).getD b 0)) (v : Wz C C P M M' σ σ') (hx : Dx D D' M) (tk1 : ∀ f, f ∈ [74, 75, 76, 77] → ∀ n, n < I → tA σ' f n = tA σ f n) (tk8 : ∀ n, n < I → n ≠ i0 → tA σ' 88 n = tA σ 88 n) (tk2 : ∀ f, f ∈ [83, 84, 87] → ∀ b, b < Bm → tA σ' f b = tA σ f b) (tk3 : ∀ f, f ∈ [94, 95, 96, 97, 98, 99, 100, 101, 102, 103] → ∀ v, v < V → tA σ' f v = tA σ f v) : (V ≤ (pl D' 98).length ∧ I ≤ (pl D' 99).length ∧ Bm ≤ (pl D' 100).length) ∧ (∀ n, n < I → InH C P D' mss M' σ' Bm n ∧ (n ≠ i0 → InR C P D' mss M' σ' Bm n)) ∧ (∀ b, b < Bm → MbA C P D' M' σ' I b) ∧ ∀ v, v < V → VrR 0 C P D' M' σ' I v := FInZ.kpx2 h W F hT hmb v hx tk1 tk8 tk2 tk3
/-- more may be written at members: their class and their first -/
theorem FInZ.kpx {z7 : Nat → Nat} (h : FInZ z7 C P D mss M σ V I Bm) (W : PoW D M) (F : Fq D T M M') (hT : ∀ t, T t → (∀ v, v < V → t ≠ tg 98 v ∧ t ≠ tg 200 v) ∧ ∀ n, n < I → t ≠ tg 99 n ∧ t ≠ tg 201 n ∧ t ≠ tg 202 n) (hmb : ∀ b, b < Bm → (∀ f, f ≠ 3001 → f ≠ 3005 → mI M' f ((pl D 100).getD b 0) = mI M f ((pl D 100).getD b 0)) ∧ ∀ f, mR M' f ((pl D 100).getD b 0) = mR M f ((pl D 100).getD b 0)) (v : Wz C C P M M' σ σ') (hx : Dx D D' M) (tk : Tk σ σ' V I Bm) : FInZ z7 C P D' mss M' σ' V I Bm := by
  obtain ⟨h1, h2, h3⟩ := h.kpx2 (i0 := I) W F (fun t z => ⟨(hT t z).1, fun n hn => ⟨((hT t z).2 n hn).1, fun _ => ((hT t z).2 n hn).2⟩⟩) hmb v hx (fun f hf n hn => tk.1 f (by simp only [List.mem_cons, List.not_mem_nil, or_false] at hf ⊢; omega) n hn) (fun n hn _ => tk.1 88 (by decide) n hn) tk.2.1 tk.2.2
  exact ⟨h1, fun n hn => (h2 n hn).2 (by omega), h3⟩
theorem FIn.kpx (h : FIn C P D mss M σ V I Bm) (W : PoW D M) (F : Fq D T M M') (hT : ∀ t, T t → (∀ v, v < V → t ≠ tg 98 v ∧ t ≠ tg 200 v) ∧ ∀ n, n < I → t ≠ tg 99 n ∧ t ≠ tg 201 n ∧ t ≠ tg 202 n) (hmb : ∀ b, b < Bm → (∀ f, f ≠ 3001 → f ≠ 3005 → mI M' f ((pl D 100).getD b 0) = mI M f ((pl D 100).getD b 0)) ∧ ∀ f, mR M' f ((pl D 100).getD b 0) = mR M f ((pl D 100).getD b 0)) (v : Wz C C P M M' σ σ') (hx : Dx D D' M) (tk : Tk σ σ' V I Bm) : FIn C P D' mss M' σ' V I Bm := FInZ.kpx h W F hT hmb v hx tk
theorem FInZ.kp {z7 : Nat → Nat} (h : FInZ z7 C P D mss M σ V I Bm) (W : PoW D M) (F : Fq D T M M') (hT : ∀ t, T t → Tn V I Bm t) (v : Wz C C P M M' σ σ') (hx : Dx D D' M) (tk : Tk σ σ' V I Bm) : FInZ z7 C P D' mss M' σ' V I Bm := h.kpx W F (fun t z => ⟨(hT t z).1, (hT t z).2.1⟩) (fun b hb => by
  have l3 := h.1.2.2
  have s := W.so3 (k := b) (l := 100) (by decide) (by omega) F (fun z => (hT _ z).2.2 b hb rfl)
  exact ⟨fun f _ _ => s.i f, fun f => s.r f⟩) v hx tk
theorem FIn.kp (h : FIn C P D mss M σ V I Bm) (W : PoW D M) (F : Fq D T M M') (hT : ∀ t, T t → Tn V I Bm t) (v : Wz C C P M M' σ σ') (hx : Dx D D' M) (tk : Tk σ σ' V I Bm) : FIn C P D' mss M' σ' V I Bm := FInZ.kp h W F hT v hx tk
end INST
