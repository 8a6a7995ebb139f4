/-! Layer B: the flat model: nodes of each sort, both sides -/
set_option maxRecDepth 100000
/-- what flattening leaves -/
def FlO (md x0 l X N0 : Nat) (z7 : Nat → Nat) (C : PC) (B : Nat) (P : Nat → Prop) (mss fss : List Nat) (V I Bm Lp dc : Nat) (x3 : Int32) (s h L : Nat) (D : FQ) (M : CM) (σ : TS) (K N : Nat) (kr : Option ((Nat ⊕ Nat) × CM)) (tr : Option (Int32 × TS)) : Prop :=
  (∃ M' σ' w y, kr = some (.inr w, M') ∧ tr = some (y, σ') ∧ FfG C B P mss fss M M' σ σ' w ∧ inb y 70000 ∧ ∃ N', N' ≤ 70000 ∧ tI σ' 126 = nI N') ∨
  (∃ D' M' σ' K' N' a n, kr = some (.inl a, M') ∧ tr = some (nI n, σ') ∧ FSt md x0 l X N0 z7 C B P mss fss D' M' σ' V I Bm K' N' Lp dc x3 ∧ (K ≤ K' ∧ N ≤ N') ∧ FTr x0 C P l K N dc D M σ D' M' σ' ∧ NdR x3 D' M' σ' l V h s K' N' a n ∧ ∃ z, SzR σ' N' h n z ∧ z + L ≤ n + 1)
section MKS
variable {C : PC} {D D' D1 D2 : FQ} {M M' M1 M2 M3 : CM} {σ σ' σ1 σ2 : TS} {mss fss ps : List Nat} {B V I Bm b c e f z w q z1 z2 z3 L Lp dc n j p x o md x0 l X N0 K K' K1 N N' N1 ar k h s a a1 a2 a3 n1 n2 n3 t1 t2 t3 c1 c2 c3 v : Nat} {P T : Nat → Prop} {x3 x4 tw op op' vl y2 y3 y4 hv sz tok : Int32} {z7 : Nat → Nat} {S : List Nat} {kr : Option ((Nat ⊕ Nat) × CM)} {tr : Option (Int32 × TS)}
theorem FlO.pre (F : FTr x0 C P l K N dc D M σ D1 M1 σ1) (hK : K ≤ K1) (hN : N ≤ N1) (h' : FlO md x0 l X N0 z7 C B P mss fss V I Bm Lp dc x3 s h L D1 M1 σ1 K1 N1 kr tr) : FlO md x0 l X N0 z7 C B P mss fss V I Bm Lp dc x3 s h L D M σ K N kr tr := by
  rcases h' with ⟨M', σ', w, y, b1, b2, b3, b4⟩ | ⟨D', M', σ', K', N', a, n, b1, b2, b3, ⟨b4, b5⟩, b6, b7⟩
  · exact Or.inl ⟨M', σ', w, y, b1, b2, b3.tr F.2.2.2.1, b4⟩
  · exact Or.inr ⟨D', M', σ', K', N', a, n, b1, b2, b3, ⟨by omega, by omega⟩, F.tr b6 hK hN, b7⟩
/-- one node -/
theorem FSt.make (Fs : FSt md x0 l X N0 z7 C B P mss fss D M σ V I Bm K N Lp dc x3) (g1 : ChO D M l K c1 t1) (g2 : ChO D M l K c2 t2) (g3 : ChO D M l K c3 t3) (ht : hgt t1 t2 t3 ≤ h ∧ h ≤ 100) (hF : N < 70000 → F_make op' y2 y3 y4 σ = J_make_433 (nI N) hv (ndT σ N op' y2 y3 y4 sz)) (hh : hv + 1 = nI (hgt t1 t2 t3)) (new : ∀ D' M' σ', NdK D M σ D' M' σ' l K N → mI M' 3400 ((pl D' l).getD K 0) = op → mI M' 3401 ((pl D' l).getD K 0) = vl → mR M' 3405 ((pl D' l).getD K 0) = c1 ∧ mR M' 3406 ((pl D' l).getD K 0) = c2 ∧ mR M' 3407 ((pl D' l).getD K 0) = c3 → tA σ' 121 N = op' ∧ tA σ' 122 N = y2 ∧ tA σ' 123 N = y3 ∧ tA σ' 124 N = y4 → ((l = 106 → N = K + 1) ∧ 1 ≤ N ∧ N < N + 1) → (∃ t, mI M' 3404 ((pl D' l).getD K 0) = nI t ∧ tA σ' 134 N = nI t ∧ 1 ≤ t ∧ t ≤ h ∧ (mI M' 3400 ((pl D' l).getD K 0) ∉ rlO → mI M' 3403 ((pl D' l).getD K 0) = -1)) → NdR x3 D' M' σ' l V h s (K + 1) (N + 1) ((pl D' l).getD K 0) N) (hL : 1 ≤ L) (hz : ∀ σ', Nd4 σ σ' N → tA σ' 121 N = op' ∧ tA σ' 122 N = y2 ∧ tA σ' 123 N = y3 ∧ tA σ' 124 N = y4 → ∃ z, SzR σ' (N + 1) h N z ∧ z + L ≤ N + 1) (hk : op' = 0 → 0 ≤ y2) : FlO md x0 l X N0 z7 C B P mss fss V I Bm Lp dc x3 s h L D M σ K N (K_X3_make x0 op vl c1 c2 c3 M) (F_make op' y2 y3 y4 σ) := by
  have Fs0 := Fs
  obtain ⟨W, FX, NS, LP, CA, hd, h3, h0⟩ := Fs
  rcases z_make (op := op) (vl := vl) W FX NS h0 g1 g2 g3 (by omega) hF hh (fun s' d4 e4 => by
      obtain ⟨z, q1, q2⟩ := hz s' d4 e4
      exact ⟨z, SzR.mv Nd4.rf (Nat.le_refl _) _ _ _ _ _ ht.2 (Nat.le_refl _) q1, by omega⟩) hk with ⟨M', σ', w, y, b1, b2, b3, b4⟩ | ⟨D', M', σ', b1, b2, W', FX', NS', h0', v', dx, hp, nk, fq, sg, f, ⟨f1, f2, f3, f4, f5, f6, f7, f8⟩, e1, e2, e3, e4, e5⟩
  · exact Or.inl ⟨M', σ', w, y, b1, b2, b3, b4⟩
  · obtain ⟨Fs', Ft'⟩ := Fs0.mkd W' FX' NS' h0' v' dx hp nk fq sg f
    have n1 := NS.2.2.1
    have h1 : 1 ≤ hgt t1 t2 t3 := by
      have : ∀ p q : Nat, p ≤ mx p q := fun p q => by
        unfold mx
        by_cases z : p < q
        · rw [ifT z]; omega
        · rw [ifF z]; omega
      have := this (mx (mx 1 (t1 + 1)) (t2 + 1)) (t3 + 1)
      have q2 : ∀ p q : Nat, p ≤ mx p q := fun p q => by
        unfold mx
        by_cases z : p < q
        · rw [ifT z]; omega
        · rw [ifF z]; omega
      have := q2 (mx 1 (t1 + 1)) (t2 + 1)
      have := q2 1 (t1 + 1)
      unfold hgt; omega
    exact Or.inr ⟨D', M', σ', K + 1, N + 1, _, N, b1, b2, Fs', ⟨by omega, by omega⟩, Ft', new D' M' σ' nk f1 f2 ⟨f6, f7, f8⟩ ⟨e1, e2, e3, e4⟩ ⟨fun q => by have := NS.2.2.2.2.2.2.1 q; omega, by omega, by omega⟩ ⟨_, f5, e5, h1, ht.1, fun _ => f4⟩, hz σ' (fun f hf n hn => nk.2.1 f (by simp only [List.mem_cons, List.not_mem_nil, or_false] at hf ⊢; omega) n hn) ⟨e1, e2, e3, e4⟩⟩
theorem lfk : ∀ x, x ∈ lfT → x ∉ kd2 := by decide
theorem lfk2 : ∀ x, x ∈ lfT → x ∉ kd3 ∧ x ∉ kd4 := by decide
theorem unk : ∀ x, x ∈ unT_ → x ∉ kd3 ∧ x ∉ kd4 := by decide
theorem bik : ∀ x, x ∈ biT → x ∉ kd4 := by decide
theorem ChO0 : ChO D M l K 0 0 := Or.inl ⟨rfl, rfl⟩
/-- a constant, a variable, the time -/
theorem mk_lf (Fs : FSt md x0 l X N0 z7 C B P mss fss D M σ V I Bm K N Lp dc x3) (hh : h + 1 ≤ 100) (hop : (op = 0 ∧ op' = 0 ∧ vl = y2 ∧ 0 ≤ y2) ∨ ((op, op') ∈ vrF ∧ ∃ v, v < V ∧ vl = nI v ∧ y2 = nI v ∧ (x3 = 1 → op = 1 ∧ tA σ 94 v = 1) ∧ ((op' = 3 → tA σ 94 v = 0) ∧ (op' = 4 → ¬ tA σ 94 v = 1))) ∨ (op = 2 ∧ op' = 1 ∧ ¬ x3 = 1)) (hL : 1 ≤ L ∧ L ≤ N) : FlO md x0 l X N0 z7 C B P mss fss V I Bm Lp dc x3 0 (h + 1) L D M σ K N (K_X3_make x0 op vl 0 0 0 M) (F_make op' y2 0 0 σ) := by
  have lf : op' ∈ lfT := by
    rcases hop with ⟨-, q, -⟩ | ⟨q, -⟩ | ⟨-, q, -⟩
    · rw [q]; decide
    · simp only [List.mem_cons, List.not_mem_nil, or_false, Prod.mk.injEq] at q
      rcases q with ⟨-, q⟩ | ⟨-, q⟩ | ⟨-, q⟩ <;> rw [q] <;> decide
    · rw [q]; decide
  refine Fs.make (t1 := 0) (t2 := 0) (t3 := 0) ChO0 ChO0 ChO0 ⟨by rw [hgt0]; omega, hh⟩ (fun hN => t_mkLf ⟨Fs.2.2.1.2.2.1.1, hN⟩ lf) (by rw [hgt0]; rfl) (fun D' M' σ' nk f1 f2 f3 e1 hN ht => ⟨⟨⟨K, Nat.lt_succ_self K, rfl, hN.1⟩, hN.2⟩, ht, ?_⟩) hL.1 (fun s' d4 e4 => ⟨1, SzR.lf (Nat.lt_succ_self N) (by rw [e4.1]; exact lfk _ lf) (by rw [e4.1]; exact (lfk2 _ lf).1) (by rw [e4.1]; exact (lfk2 _ lf).2), by omega⟩) (fun q => by
    rcases hop with ⟨-, -, -, y⟩ | ⟨y, -⟩ | ⟨-, y, -⟩
    · exact y
    · rw [q] at y; simp only [List.mem_cons, List.not_mem_nil, or_false, Prod.mk.injEq] at y; rcases y with ⟨-, y⟩ | ⟨-, y⟩ | ⟨-, y⟩ <;> exact absurd y (by decide)
    · rw [q] at y; exact absurd y (by decide))
  rw [f1, f2, e1.1, e1.2.1]
  rcases hop with ⟨q1, q2, q3, -⟩ | ⟨q1, v, q2, q3, q4, q5, q6⟩ | ⟨q1, q2, q3⟩
  · exact Or.inl ⟨rfl, q1, q2, q3, f3⟩
  · exact Or.inr (Or.inl ⟨rfl, q1, ⟨v, q2, q3, q4, fun y => by rw [nk.2.2]; exact q5 y, ⟨fun y => by rw [nk.2.2]; exact q6.1 y, fun y => by rw [nk.2.2]; exact q6.2 y⟩⟩, f3⟩)
  · exact Or.inr (Or.inr (Or.inl ⟨rfl, q1, q2, q3, f3⟩))
/-- with one part -/
theorem mk_un (Fs : FSt md x0 l X N0 z7 C B P mss fss D M σ V I Bm K N Lp dc x3) (hh : h + 1 ≤ 100) (c1 : NdR x3 D M σ l V h s K N a1 n1) (hop : (s = 0 ∧ (op, op') ∈ unF) ∨ (s = 1 ∧ op = 28 ∧ op' = 23)) (hL : 1 ≤ L) (k1 : SzR σ N h n1 z1) (hz : z1 + L ≤ n1 + 1) : FlO md x0 l X N0 z7 C B P mss fss V I Bm Lp dc x3 s (h + 1) L D M σ K N (K_X3_make x0 op vl a1 0 0 M) (F_make op' (nI n1) 0 0 σ) := by
  have un : op' ∈ unT_ := by
    rcases hop with ⟨-, q⟩ | ⟨-, -, q⟩
    · simp only [List.mem_cons, List.not_mem_nil, or_false, Prod.mk.injEq] at q
      rcases q with ⟨-, q⟩ | ⟨-, q⟩ | ⟨-, q⟩ | ⟨-, q⟩ | ⟨-, q⟩ <;> rw [q] <;> decide
    · rw [q]; decide
  obtain ⟨t, g1, -, g2, g3, g4⟩ := c1.ch (by omega)
  obtain ⟨nb1, nb2⟩ := c1.nb
  refine Fs.make (t1 := t) (t2 := 0) (t3 := 0) g1 ChO0 ChO0 ⟨by rw [hgt1 g3]; omega, hh⟩ (fun hN => t_mkUn ⟨Fs.2.2.1.2.2.1.1, hN⟩ un (inb_nI' (by omega) (by decide))) ?_ (fun D' M' σ' nk f1 f2 f3 e1 hN ht => ⟨⟨⟨K, Nat.lt_succ_self K, rfl, hN.1⟩, hN.2⟩, ht, ?_⟩) hL (fun s' d4 e4 => ⟨N + 1 - L, SzR.un (Nat.lt_succ_self N) (by rw [e4.1]; exact (unk _ un).1) (by rw [e4.1]; exact (unk _ un).2) e4.2.1 (SzR.mv d4 (Nat.le_succ N) _ _ _ _ _ (Nat.le_refl _) (Nat.le_refl _) k1) ⟨by omega, by omega, by omega⟩, by omega⟩) (fun q => by rw [q] at un; exact absurd un (by decide))
  · have := Fs.2.2.1.2.2.1
    have ax := Fs.2.2.1.2.1.2.2.1
    have ax2 : X ≤ 40000 := by rcases Fs.2.2.1.1.2 with ⟨-, -, rfl, -⟩ | ⟨-, -, rfl, -⟩ | ⟨-, -, rfl, -⟩ | ⟨-, -, rfl, -⟩ <;> decide
    rw [hgt1 g3, ix_nI (by omega), g2, show (0 : Int32) = nI 0 from rfl, mmax_nI (by omega) (by decide), nI_addL]
    have : mx t 0 = t := by unfold mx; rw [ifF (by omega)]
    rw [this]
  · have c1' := c1.mv nk (Nat.le_succ K) (Nat.le_succ N) (Nat.le_refl V) h h s a1 n1 (Nat.le_refl h)
    rw [f1, e1.1, e1.2.1, f3.1, f3.2.1, f3.2.2]
    rcases hop with ⟨q1, q2⟩ | ⟨q1, q2, q3⟩
    · rw [q1] at c1' ⊢
      exact Or.inr (Or.inr (Or.inr (Or.inl ⟨rfl, q2, ⟨n1, rfl, c1'⟩, rfl, rfl⟩)))
    · rw [q1] at c1' ⊢
      exact Or.inr (Or.inr (Or.inr (Or.inr (Or.inr (Or.inr (Or.inr (Or.inr (Or.inl ⟨rfl, q2, q3, ⟨n1, rfl, c1'⟩, rfl, rfl⟩))))))))
/-- with two -/
theorem mk_bi (Fs : FSt md x0 l X N0 z7 C B P mss fss D M σ V I Bm K N Lp dc x3) (hh : h + 1 ≤ 100) (c1 : NdR x3 D M σ l V h s K N a1 n1) (c2 : NdR x3 D M σ l V h s K N a2 n2) (hop : (s = 0 ∧ (op, op') ∈ biF) ∨ (s = 1 ∧ (op, op') ∈ coF)) (hL : 1 ≤ L) (k1 : SzR σ N h n1 z1) (k2 : SzR σ N h n2 z2) (hz : z1 + L ≤ n1 + 1 ∧ n1 + z2 ≤ n2) : FlO md x0 l X N0 z7 C B P mss fss V I Bm Lp dc x3 s (h + 1) L D M σ K N (K_X3_make x0 op vl a1 a2 0 M) (F_make op' (nI n1) (nI n2) 0 σ) := by
  have bi : op' ∈ biT := by
    rcases hop with ⟨-, q⟩ | ⟨-, q⟩
    · simp only [List.mem_cons, List.not_mem_nil, or_false, Prod.mk.injEq] at q
      rcases q with ⟨-, q⟩ | ⟨-, q⟩ | ⟨-, q⟩ | ⟨-, q⟩ | ⟨-, q⟩ | ⟨-, q⟩ <;> rw [q] <;> decide
    · simp only [List.mem_cons, List.not_mem_nil, or_false, Prod.mk.injEq] at q
      rcases q with ⟨-, q⟩ | ⟨-, q⟩ <;> rw [q] <;> decide
  obtain ⟨t, g1, -, g2, g3, g4⟩ := c1.ch (by omega)
  obtain ⟨nb1, nb2⟩ := c1.nb
  obtain ⟨t', g1', -, g2', g3', g4'⟩ := c2.ch (by omega)
  obtain ⟨nb1', nb2'⟩ := c2.nb
  refine Fs.make (t1 := t) (t2 := t') (t3 := 0) g1 g1' ChO0 ⟨by rw [hgt2 g3 g3']; have := mx_le g4 g4'; omega, hh⟩ (fun hN => t_mkBi ⟨Fs.2.2.1.2.2.1.1, hN⟩ bi (inb_nI' (by omega) (by decide)) (inb_nI' (by omega) (by decide))) ?_ (fun D' M' σ' nk f1 f2 f3 e1 hN ht => ⟨⟨⟨K, Nat.lt_succ_self K, rfl, hN.1⟩, hN.2⟩, ht, ?_⟩) hL (fun s' d4 e4 => ⟨N + 1 - L, SzR.bi (Nat.lt_succ_self N) (by rw [e4.1]; exact bik _ bi) e4.2.1 (SzR.mv d4 (Nat.le_succ N) _ _ _ _ _ (Nat.le_refl _) (Nat.le_refl _) k1) e4.2.2.1 (SzR.mv d4 (Nat.le_succ N) _ _ _ _ _ (Nat.le_refl _) (Nat.le_refl _) k2) ⟨by omega, ⟨by omega, by omega⟩, ⟨by omega, by omega⟩, by omega⟩, by omega⟩) (fun q => by rw [q] at bi; exact absurd bi (by decide))
  · have := Fs.2.2.1.2.2.1
    have ax := Fs.2.2.1.2.1.2.2.1
    have ax2 : X ≤ 40000 := by rcases Fs.2.2.1.1.2 with ⟨-, -, rfl, -⟩ | ⟨-, -, rfl, -⟩ | ⟨-, -, rfl, -⟩ | ⟨-, -, rfl, -⟩ <;> decide
    rw [hgt2 g3 g3', ix_nI (by omega), ix_nI (by omega), g2, g2', mmax_nI (by omega) (by omega), nI_addL]
  · have c1' := c1.mv nk (Nat.le_succ K) (Nat.le_succ N) (Nat.le_refl V) h h s a1 n1 (Nat.le_refl h)
    have c2' := c2.mv nk (Nat.le_succ K) (Nat.le_succ N) (Nat.le_refl V) h h s a2 n2 (Nat.le_refl h)
    rw [f1, e1.1, e1.2.1, e1.2.2.1, f3.1, f3.2.1, f3.2.2]
    rcases hop with ⟨q1, q2⟩ | ⟨q1, q2⟩
    · rw [q1] at c1' c2' ⊢
      exact Or.inr (Or.inr (Or.inr (Or.inr (Or.inl ⟨rfl, q2, ⟨n1, rfl, c1'⟩, ⟨n2, rfl, c2'⟩, rfl⟩))))
    · rw [q1] at c1' c2' ⊢
      exact Or.inr (Or.inr (Or.inr (Or.inr (Or.inr (Or.inr (Or.inr (Or.inl ⟨rfl, q2, ⟨n1, rfl, c1'⟩, ⟨n2, rfl, c2'⟩, rfl⟩)))))))
/-- a relation -/
theorem mk_rl (Fs : FSt md x0 l X N0 z7 C B P mss fss D M σ V I Bm K N Lp dc x3) (hh : h + 1 ≤ 100) (c1 : NdR x3 D M σ l V h 0 K N a1 n1) (c2 : NdR x3 D M σ l V h 0 K N a2 n2) (hop : (op, tok) ∈ rlF) (hL : 1 ≤ L) (k1 : SzR σ N h n1 z1) (k2 : SzR σ N h n2 z2) (hz : z1 + L ≤ n1 + 1 ∧ n1 + z2 ≤ n2) : FlO md x0 l X N0 z7 C B P mss fss V I Bm Lp dc x3 1 (h + 1) L D M σ K N (K_X3_make x0 op vl a1 a2 0 M) (F_make 20 tok (nI n1) (nI n2) σ) := by
  obtain ⟨t, g1, -, g2, g3, g4⟩ := c1.ch (by omega)
  obtain ⟨nb1, nb2⟩ := c1.nb
  obtain ⟨t', g1', -, g2', g3', g4'⟩ := c2.ch (by omega)
  obtain ⟨nb1', nb2'⟩ := c2.nb
  refine Fs.make (t1 := t) (t2 := t') (t3 := 0) g1 g1' ChO0 ⟨by rw [hgt2 g3 g3']; have := mx_le g4 g4'; omega, hh⟩ (fun hN => t_mkRl ⟨Fs.2.2.1.2.2.1.1, hN⟩ (inb_nI' (by omega) (by decide)) (inb_nI' (by omega) (by decide))) ?_ (fun D' M' σ' nk f1 f2 f3 e1 hN ht => ⟨⟨⟨K, Nat.lt_succ_self K, rfl, hN.1⟩, hN.2⟩, ht, ?_⟩) hL (fun s' d4 e4 => ⟨N + 1 - L, SzR.rl (Nat.lt_succ_self N) (by rw [e4.1]; decide) e4.2.2.1 (SzR.mv d4 (Nat.le_succ N) _ _ _ _ _ (Nat.le_refl _) (Nat.le_refl _) k1) e4.2.2.2 (SzR.mv d4 (Nat.le_succ N) _ _ _ _ _ (Nat.le_refl _) (Nat.le_refl _) k2) ⟨by omega, ⟨by omega, by omega⟩, ⟨by omega, by omega⟩, by omega⟩, by omega⟩) (fun q => absurd q (by decide))
  · have := Fs.2.2.1.2.2.1
    have ax := Fs.2.2.1.2.1.2.2.1
    have ax2 : X ≤ 40000 := by rcases Fs.2.2.1.1.2 with ⟨-, -, rfl, -⟩ | ⟨-, -, rfl, -⟩ | ⟨-, -, rfl, -⟩ | ⟨-, -, rfl, -⟩ <;> decide
    rw [hgt2 g3 g3', ix_nI (by omega), ix_nI (by omega), g2, g2', mmax_nI (by omega) (by omega), nI_addL]
  · have c1' := c1.mv nk (Nat.le_succ K) (Nat.le_succ N) (Nat.le_refl V) h h 0 a1 n1 (Nat.le_refl h)
    have c2' := c2.mv nk (Nat.le_succ K) (Nat.le_succ N) (Nat.le_refl V) h h 0 a2 n2 (Nat.le_refl h)
    rw [f1, e1.1, e1.2.1, e1.2.2.1, e1.2.2.2, f3.1, f3.2.1, f3.2.2]
    exact Or.inr (Or.inr (Or.inr (Or.inr (Or.inr (Or.inr (Or.inl ⟨rfl, rfl, hop, ⟨n1, rfl, c1'⟩, ⟨n2, rfl, c2'⟩, rfl⟩))))))
/-- if -/
theorem mk_if (Fs : FSt md x0 l X N0 z7 C B P mss fss D M σ V I Bm K N Lp dc x3) (hh : h + 1 ≤ 100) (c1 : NdR x3 D M σ l V h 1 K N a1 n1) (c2 : NdR x3 D M σ l V h 0 K N a2 n2) (c3 : NdR x3 D M σ l V h 0 K N a3 n3) (hL : 1 ≤ L) (k1 : SzR σ N h n1 z1) (k2 : SzR σ N h n2 z2) (k3 : SzR σ N h n3 z3) (hz : z1 + L ≤ n1 + 1 ∧ n1 + z2 ≤ n2 ∧ n2 + z3 ≤ n3) : FlO md x0 l X N0 z7 C B P mss fss V I Bm Lp dc x3 0 (h + 1) L D M σ K N (K_X3_make x0 14 vl a1 a2 a3 M) (F_make 16 (nI n1) (nI n2) (nI n3) σ) := by
  obtain ⟨t, g1, -, g2, g3, g4⟩ := c1.ch (by omega)
  obtain ⟨nb1, nb2⟩ := c1.nb
  obtain ⟨t', g1', -, g2', g3', g4'⟩ := c2.ch (by omega)
  obtain ⟨nb1', nb2'⟩ := c2.nb
  obtain ⟨t'', g1'', -, g2'', g3'', g4''⟩ := c3.ch (by omega)
  obtain ⟨nb1'', nb2''⟩ := c3.nb
  refine Fs.make (t1 := t) (t2 := t') (t3 := t'') g1 g1' g1'' ⟨by rw [hgt3 g3 g3' g3'']; have := mx_le (mx_le g4 g4') g4''; omega, hh⟩ (fun hN => t_mkIf ⟨Fs.2.2.1.2.2.1.1, hN⟩ (inb_nI' (by omega) (by decide)) (inb_nI' (by omega) (by decide)) (inb_nI' (by omega) (by decide))) ?_ (fun D' M' σ' nk f1 f2 f3 e1 hN ht => ⟨⟨⟨K, Nat.lt_succ_self K, rfl, hN.1⟩, hN.2⟩, ht, ?_⟩) hL (fun s' d4 e4 => ⟨N + 1 - L, SzR.if_ (Nat.lt_succ_self N) e4.2.1 (SzR.mv d4 (Nat.le_succ N) _ _ _ _ _ (Nat.le_refl _) (Nat.le_refl _) k1) e4.2.2.1 (SzR.mv d4 (Nat.le_succ N) _ _ _ _ _ (Nat.le_refl _) (Nat.le_refl _) k2) e4.2.2.2 (SzR.mv d4 (Nat.le_succ N) _ _ _ _ _ (Nat.le_refl _) (Nat.le_refl _) k3) ⟨by omega, ⟨by omega, by omega⟩, ⟨by omega, by omega⟩, ⟨by omega, by omega⟩, by omega, by omega⟩, by omega⟩) (fun q => absurd q (by decide))
  · have := Fs.2.2.1.2.2.1
    have ax := Fs.2.2.1.2.1.2.2.1
    have ax2 : X ≤ 40000 := by rcases Fs.2.2.1.1.2 with ⟨-, -, rfl, -⟩ | ⟨-, -, rfl, -⟩ | ⟨-, -, rfl, -⟩ | ⟨-, -, rfl, -⟩ <;> decide
    have m2 := mx_le g4' g4''
    rw [hgt3 g3 g3' g3'', ix_nI (by omega), ix_nI (by omega), ix_nI (by omega), g2, g2', g2'', mmax_nI (by omega) (by omega), mmax_nI (by omega) (by omega), nI_addL, mx_as]
  · have c1' := c1.mv nk (Nat.le_succ K) (Nat.le_succ N) (Nat.le_refl V) h h 1 a1 n1 (Nat.le_refl h)
    have c2' := c2.mv nk (Nat.le_succ K) (Nat.le_succ N) (Nat.le_refl V) h h 0 a2 n2 (Nat.le_refl h)
    have c3' := c3.mv nk (Nat.le_succ K) (Nat.le_succ N) (Nat.le_refl V) h h 0 a3 n3 (Nat.le_refl h)
    rw [f1, e1.1, e1.2.1, e1.2.2.1, e1.2.2.2, f3.1, f3.2.1, f3.2.2]
    exact Or.inr (Or.inr (Or.inr (Or.inr (Or.inr (Or.inl ⟨rfl, rfl, rfl, ⟨n1, rfl, c1'⟩, ⟨n2, rfl, c2'⟩, n3, rfl, c3'⟩)))))
end MKS
