/-! Layer B: solved trees: steps that make nodes; copies -/
set_option maxRecDepth 100000
/-- z nodes are made, or there is no room (or E) -/
def OKA (x0 l X : Nat) (D : FQ) (M : CM) (K : Nat) (r : Option ((Nat ⊕ Nat) × CM)) (z : Nat) (Q : FQ → CM → Nat → Nat → Prop) (E : Prop) : Prop :=
  (∃ a D' M' K', r = some (.inl a, M') ∧ ArS x0 l X D' M' K' ∧ StA x0 l D M K D' M' K' ∧ K' = K + z ∧ Q D' M' K' a) ∨ (∃ w M', r = some (.inr w, M') ∧ FlA x0 l X D M K w M' ∧ (X < K + z ∨ E))
section COPY
variable {s s' s1 s2 σ : TS} {D D' D2 : FQ} {M M' M1 M2 : CM} {l V K K0 K' N N' h h' f st a n m p q r k c1 c2 c3 t1 t2 t3 j u v w x0 X H z z1 z2 z3 : Nat} {op vl x kx mo he : Int32} {rs : Option ((Nat ⊕ Nat) × CM)} {kk : Nat → CM → Option ((Nat ⊕ Nat) × CM)} {Q Q' Q1 : FQ → CM → Nat → Nat → Prop} {E E' : Prop} {cf : Nat → CM → Option ((Nat ⊕ Nat) × CM)}
theorem OKA.seq (d : OKA x0 l X D M K rs z1 Q1 E) (hk : ∀ a D1 M1 K1, ArS x0 l X D1 M1 K1 → StA x0 l D M K D1 M1 K1 → K1 = K + z1 → Q1 D1 M1 K1 a → OKA x0 l X D1 M1 K1 (kk a M1) z2 Q E) : OKA x0 l X D M K (obS rs (fun w M => some (.inr w, M)) kk) (z1 + z2) Q E := by
  rcases d with ⟨a, D1, M1, K1, rfl, b1, b2, b3, b4⟩ | ⟨w, M', rfl, b1, b2⟩
  · rw [obS_inl]
    rcases hk a D1 M1 K1 b1 b2 b3 b4 with ⟨a2, D2, M2, K2, c1, c2, c3, c4, c5⟩ | ⟨w, M', c1, c2, c3⟩
    · exact Or.inl ⟨a2, D2, M2, K2, c1, c2, b2.tr c3, by omega, c5⟩
    · exact Or.inr ⟨w, M', c1, c2.pre b2, c3.imp (fun q => by omega) id⟩
  · rw [obS_inr]
    exact Or.inr ⟨w, M', rfl, b1, b2.imp (fun q => by omega) id⟩
theorem OKA.mono (d : OKA x0 l X D M K rs z1 Q1 E) (hz : z1 = z2) (hQ : ∀ D' M' K' a, ArS x0 l X D' M' K' → StA x0 l D M K D' M' K' → K' = K + z1 → Q1 D' M' K' a → Q D' M' K' a) (hE : E → E') : OKA x0 l X D M K rs z2 Q E' := by
  subst hz
  rcases d with ⟨a, D1, M1, K1, b0, b1, b2, b3, b4⟩ | ⟨w, M', b0, b1, b2⟩
  · exact Or.inl ⟨a, D1, M1, K1, b0, b1, b2, b3, hQ _ _ _ _ b1 b2 b3 b4⟩
  · exact Or.inr ⟨w, M', b0, b1, b2.imp id hE⟩
theorem OKA.idr (d : OKA x0 l X D M K rs z Q E) : OKA x0 l X D M K (obS rs (fun w M => some (.inr w, M)) fun r M => some (.inl r, M)) z Q E := by rw [obS_id]; exact d
theorem ka_null (A : ArS x0 l X D M K) : OKA x0 l X D M K (some (.inl 0, M)) 0 (fun D' M' K' a => a = 0 ∧ D' = D ∧ M' = M ∧ K' = K) E := Or.inl ⟨0, D, M, K, rfl, A, StA.rf, rfl, rfl, rfl, rfl, rfl⟩
theorem ka_make (hx : NdS2 x0 l X H) (A : ArS x0 l X D M K) (g1 : ChO D M l K c1 t1) (g2 : ChO D M l K c2 t2) (g3 : ChO D M l K c3 t3) : OKA x0 l X D M K (K_X3_make x0 op vl c1 c2 c3 M) 1 (fun D' M' K' a => a = (pl D' l).getD K 0 ∧ NwS l D' M' K op vl 0 (-1) c1 c2 c3 (hgt t1 t2 t3) ∧ hgt t1 t2 t3 ≤ H) (H < hgt t1 t2 t3) := by
  obtain ⟨k1, k2⟩ := k_mkS (op := op) (vl := vl) hx A g1 g2 g3
  rcases k2 with ⟨q1, q2⟩ | ⟨w, M', a1, a2, a3⟩
  · obtain ⟨D', M', b1, b2, b3, b4⟩ := k1 q1 q2
    exact Or.inl ⟨_, D', M', K + 1, b1, b2, b3, rfl, rfl, b4, q2⟩
  · exact Or.inr ⟨w, M', a1, a2, a3.imp (fun q => by omega) id⟩
/-- two parts at most -/
theorem ka_make2 (hx : NdS2 x0 l X H) (A : ArS x0 l X D M K) (g1 : ChO D M l K c1 t1) (g2 : ChO D M l K c2 t2) : OKA x0 l X D M K (K_X3_make_2 x0 op c1 c2 M) 1 (fun D' M' K' a => a = (pl D' l).getD K 0 ∧ NwS l D' M' K op 0 0 (-1) c1 c2 0 (hgt t1 t2 0) ∧ hgt t1 t2 0 ≤ H) (H < hgt t1 t2 0) := by
  have k4 : mk M x0 = 4 := by
    rcases hx with ⟨rfl, -⟩ | ⟨rfl, -⟩
    · exact (A.2.1.1 (133, 4, 0) (by decide)).1
    · exact (A.2.1.1 (135, 4, 0) (by decide)).1
  unfold K_X3_make_2
  rw [ifT k4]
  exact (ka_make hx A g1 g2 (Or.inl ⟨rfl, rfl⟩)).idr
theorem ka_num (hx : NdS2 x0 l X H) (A : ArS x0 l X D M K) : OKA x0 l X D M K (K_X3_number x0 vl M) 1 (fun D' M' K' a => a = (pl D' l).getD K 0 ∧ NwS l D' M' K 0 vl 0 (-1) 0 0 0 1) False := by
  have k4 : mk M x0 = 4 := by
    rcases hx with ⟨rfl, -⟩ | ⟨rfl, -⟩
    · exact (A.2.1.1 (133, 4, 0) (by decide)).1
    · exact (A.2.1.1 (135, 4, 0) (by decide)).1
  unfold K_X3_number
  rw [ifT k4]
  refine ((ka_make hx A (Or.inl ⟨rfl, rfl⟩) (Or.inl ⟨rfl, rfl⟩) (Or.inl ⟨rfl, rfl⟩)).mono rfl (fun _ _ _ _ _ _ _ q => ⟨q.1, q.2.1⟩) (fun q => ?_)).idr
  have : hgt 0 0 0 = 1 := hgt0
  rcases hx with ⟨-, -, -, rfl⟩ | ⟨-, -, -, rfl⟩ <;> omega
/-- a field of a node is written -/
theorem ArS.wI (A : ArS x0 l X D M K) (hx : NdS2 x0 l X H) (hk : k < K) : ArS x0 l X D (msI M j ((pl D l).getD k 0) x) K ∧ Fq D (fun t => t = tg l k) M (msI M j ((pl D l).getD k 0) x) := by
  obtain ⟨hp, fx, hn, ⟨h604, hK, hKX⟩, rN, rS⟩ := A
  have nu := hx.nu
  obtain ⟨a1, a2, a3⟩ := hp.2.1 l nu.1 k (by omega)
  have F0 : Fz (fun o => o = (pl D l).getD k 0) M (msI M j ((pl D l).getD k 0) x) := Fz.rf.msI (fun _ => rfl)
  have F : Fq D (fun t => t = tg l k) M (msI M j ((pl D l).getD k 0) x) := F0.mono (fun o ho e => by rw [e, tgo_d a2.1]; exact a3)
  have hp' := hp.wr hn nu.1 (by omega) F0 (fun z => by rfl) (fun z => by rfl) (fun o h1 h2 => by have : o < mn M := h2; omega)
  have so : ∀ o, o < 167 → So M (msI M j ((pl D l).getD k 0) x) o := fun o ho => F0.so (by omega) (by omega)
  refine ⟨⟨hp', fx.mv hn F0 (fun q hq => rfl) (fun q hq => (so _ (fixI q hq).2).i _), hn, ⟨by rw [(so x0 (by omega)).i]; exact h604, hK, hKX⟩, ?_⟩, F⟩
  have := rm_same (D := D) (M := M) (M' := msI M j ((pl D l).getD k 0) x) ⟨rfl, rfl⟩ (fun o => ⟨rfl, rfl, rfl⟩)
  rw [this.1, this.2]; exact ⟨rN, rS⟩
theorem StA.wI (h : StA x0 l D M K D' M' K') (hx : NdS2 x0 l X H) (A : ArS x0 l X D' M' K') (hk : K ≤ k ∧ k < K') : StA x0 l D M K D' (msI M' j ((pl D' l).getD k 0) x) K' := by
  have nu := hx.nu
  obtain ⟨a1, a2, a3⟩ := A.1.2.1 l nu.1 k (by have := A.2.2.2.1.2.1; omega)
  have F := (A.wI (j := j) (x := x) hx hk.2).2
  refine ⟨h.1, h.2.1, h.2.2.1, h.2.2.2.1.tr (F.mono (fun t z => Or.inr (Or.inr (by rw [z]; unfold tg; omega)))) h.2.1, ⟨fun g hg => ?_, fun g => h.2.2.2.2.1.2 g⟩, ?_⟩
  · rw [mI_msI, ifF (by omega)]; exact h.2.2.2.2.1.1 g hg
  · have := rm_same (D := D') (M := M') (M' := msI M' j ((pl D' l).getD k 0) x) ⟨rfl, rfl⟩ (fun o => ⟨rfl, rfl, rfl⟩)
    rw [this.1, this.2]; exact h.2.2.2.2.2
theorem NwS.set (h : NwS l D M K op vl 0 (-1) c1 c2 c3 t1) : NwS l D (msI (msI M 3402 ((pl D l).getD K 0) mo) 3403 ((pl D l).getD K 0) he) K op vl mo he c1 c2 c3 t1 := by
  obtain ⟨n1, n2, n3, n4, n5, n6, n7, n8⟩ := h
  refine ⟨?_, ?_, ?_, ?_, ?_, n6, n7, n8⟩
  · rw [mI_msI, ifF (by omega), mI_msI, ifF (by omega)]; exact n1
  · rw [mI_msI, ifF (by omega), mI_msI, ifF (by omega)]; exact n2
  · rw [mI_msI, ifF (by omega), mI_msI, ifT ⟨rfl, rfl⟩]
  · rw [mI_msI, ifT ⟨rfl, rfl⟩]
  · rw [mI_msI, ifF (by omega), mI_msI, ifF (by omega)]; exact n5
/-- a node with what hangs on it is copied -/
theorem k_cpB (hx : NdS2 x0 l X H) (A : ArS x0 l X D M K) (r69 : mR M 69 1 = x0) (hk : k < K) (ha : a = (pl D l).getD k 0)
    {Q1 : FQ → CM → Nat → Nat → Prop} {Q2 : Nat → FQ → CM → Nat → Nat → Prop} {Q3 : Nat → Nat → FQ → CM → Nat → Nat → Prop}
    (C1 : OKA x0 l X D M K (cf (mR M 3405 a) M) z1 Q1 E)
    (C2 : ∀ r1 D1 M1 K1, ArS x0 l X D1 M1 K1 → StA x0 l D M K D1 M1 K1 → Q1 D1 M1 K1 r1 → OKA x0 l X D1 M1 K1 (cf (mR M 3406 a) M1) z2 (Q2 r1) E)
    (C3 : ∀ r1 r2 D2 M2 K2, ArS x0 l X D2 M2 K2 → StA x0 l D M K D2 M2 K2 → Q2 r1 D2 M2 K2 r2 → OKA x0 l X D2 M2 K2 (cf (mR M 3407 a) M2) z3 (Q3 r1 r2) E)
    (hq : ∀ r1 r2 r3 D3 M3 K3, ArS x0 l X D3 M3 K3 → StA x0 l D M K D3 M3 K3 → Q3 r1 r2 D3 M3 K3 r3 → ∃ t1 t2 t3, ChO D3 M3 l K3 r1 t1 ∧ ChO D3 M3 l K3 r2 t2 ∧ ChO D3 M3 l K3 r3 t3 ∧ hgt t1 t2 t3 ≤ H ∧ ∀ D4 M4, ArS x0 l X D4 M4 (K3 + 1) → StA x0 l D3 M3 K3 D4 M4 (K3 + 1) → NwS l D4 M4 K3 (mI M 3400 a) (mI M 3401 a) (mI M 3402 a) (mI M 3403 a) r1 r2 r3 (hgt t1 t2 t3) → Q D4 M4 (K3 + 1) ((pl D4 l).getD K3 0)) :
    OKA x0 l X D M K (KB_X0_copy cf a M) (z1 + (z2 + (z3 + 1))) Q E := by
  have nu := hx.nu
  have ka := A.k18 hx hk
  rw [← ha] at ka
  have sa : ∀ {D1 M1 K1}, StA x0 l D M K D1 M1 K1 → mk M1 a = 18 ∧ (∀ f, mI M1 f a = mI M f a) ∧ (∀ f, mR M1 f a = mR M f a) ∧ mR M1 69 1 = x0 ∧ (pl D1 l).getD k 0 = a := fun {D1 M1 K1} st => by
    obtain ⟨e1, e2, e3⟩ := st.sn hx A k hk
    rw [← ha] at e1 e2 e3
    refine ⟨?_, e2, e3, by rw [(st.s1 hx A.2.2.1 (by decide)).r]; exact r69, e1⟩
    obtain ⟨-, a2, -⟩ := A.1.2.1 l nu.1 k (by have := A.2.2.2.1.2.1; omega)
    rw [← ha] at a2
    rw [st.2.2.2.1.k a2.2]; exact ka.1
  unfold KB_X0_copy
  rw [ifF ka.2, ifT ka.1]
  refine OKA.seq C1 (fun r1 D1 M1 K1 A1 S1 e1 q1 => ?_)
  obtain ⟨b1, b2, b3, b4, -⟩ := sa S1
  rw [ifT b1, b3]
  refine OKA.seq (C2 r1 D1 M1 K1 A1 S1 q1) (fun r2 D2 M2 K2 A2 S2 e2 q2 => ?_)
  have S12 := S1.tr S2
  obtain ⟨b1, b2, b3, b4, -⟩ := sa S12
  rw [ifT b1, ifT b1, ifT b1, b3]
  refine OKA.seq (C3 r1 r2 D2 M2 K2 A2 S12 q2) (fun r3 D3 M3 K3 A3 S3 e3 q3 => ?_)
  have S13 := S12.tr S3
  obtain ⟨d1, d2, d3, d4, -⟩ := sa S13
  have k4 : mk M3 x0 = 4 := by
    rcases hx with ⟨rfl, -⟩ | ⟨rfl, -⟩
    · exact (A3.2.1.1 (133, 4, 0) (by decide)).1
    · exact (A3.2.1.1 (135, 4, 0) (by decide)).1
  rw [b4, b2, b2, ifT k4]
  obtain ⟨t1, t2, t3, g1, g2, g3, ht, fin⟩ := hq r1 r2 r3 D3 M3 K3 A3 S13 q3
  rcases ka_make (op := mI M 3400 a) (vl := mI M 3401 a) hx A3 g1 g2 g3 with ⟨a4, D4, M4, K4, c1, c2, c3, c4, c5, c6, c7⟩ | ⟨w, M', c1, c2, c3⟩
  · subst c4
    have S14 := S13.tr c3
    obtain ⟨f1, f2, f3, f4, f5⟩ := sa S14
    have nk := c2.k18 hx (k := K3) (Nat.lt_succ_self _)
    obtain ⟨w1, w2⟩ := c2.wI (j := 3402) (x := mI M 3402 a) hx (k := K3) (Nat.lt_succ_self _)
    obtain ⟨w3, w4⟩ := w1.wI (j := 3403) (x := mI M 3403 a) hx (k := K3) (Nat.lt_succ_self _)
    have u1 := c3.wI (j := 3402) (x := mI M 3402 a) hx c2 ⟨Nat.le_refl _, Nat.lt_succ_self _⟩
    have u2 := u1.wI (j := 3403) (x := mI M 3403 a) hx w1 ⟨Nat.le_refl _, Nat.lt_succ_self _⟩
    have ne : a ≠ (pl D4 l).getD K3 0 := fun e => by
      have := (c2.1.inj (l := l) (l' := l) nu.1 nu.1 (by have := c2.2.2.2.1.2.1; have := S13.1; omega) (by have := c2.2.2.2.1.2.1; omega) (f5.trans e)).2
      have := S13.1; omega
    left
    refine ⟨(pl D4 l).getD K3 0, D4, _, K3 + 1, ?_, w3, u2, rfl, fin D4 _ w3 u2 c6.set⟩
    rw [c1, obS_inl, c5, ifT f1, ifT nk.1, f2, nm_eq, ifT (show mk (msI M4 3402 ((pl D4 l).getD K3 0) (mI M 3402 a)) a = 18 from f1), ifT (show mk (msI M4 3402 ((pl D4 l).getD K3 0) (mI M 3402 a)) ((pl D4 l).getD K3 0) = 18 from nk.1), mI_msI, ifF (by omega), f2, nm_eq]
  · right
    refine ⟨w, M', by rw [c1, obS_inr], c2, Or.inl ?_⟩
    rcases c3 with c3 | c3 <;> omega
end COPY
