/-! Layer B: K_X0_makeEquations against the twin's loop, from the flat model -/
set_option maxRecDepth 100000
/-- equations, whens, actions are solved -/
def SoE (V E A Wn Kf N : Nat) (s0 : TS) (D : FQ) (M : CM) (K1 K2 : Nat) (s : TS) : Prop :=
  (EnS 133 134 40000 Kf V s0 D M K1 ∧ ArS 135 136 30000 D M K2 ∧ HdV D M V ∧ FlQ V E A Wn Kf N D M s0) ∧ (mI M 65 1 = nI E ∧ tL s 203 = n64 K1) ∧ (∀ e, e < E → EqT D M s0 s V K1 N e) ∧ ((∀ e, e < Wn → WhT V N D M s0 K2 e) ∧ ∀ i, i < A → AcT V N D M s0 K2 i) ∧
  (∀ m r, (EqPs s0 N E m ∨ WhPs s0 N Wn m ∨ AcPs s0 N A m) → isR s0 m → r < 24 → tA s0 162 m = nI r → SxR D M s0 134 V K1 N 100 1 (mX M 137 r) m ∨ SxR D M s0 136 V K2 N 100 1 (mX M 137 r) m) ∧ Ft [201, 202, 203] s0 s
section MKEQ
variable {C : PC} {P : Nat → Prop} {mss fss S : List Nat} {D D1 : FQ} {M0 M M' M1 : CM} {σ s s0 s' : TS} {B V I Bm K Kf N E A Wn q qs h st a n m c U v u h' : Nat} {z7 : Nat → Nat} {hd : Nat → Nat} {sg : Nat → Int32} {fx x : Int32}
theorem DrL.ft (f : Ft S s s') (hS : [121, 122, 123, 124].all (fun k => !S.contains k) = true) : ∀ (h n v : Nat), DrL s h n v → DrL s' h n v
  | 0, _, _, z => z.elim
  | h + 1, n, v, z => by
    have ih := fun n => DrL.ft f hS h n v
    have hf : ∀ k, k ∈ [121, 122, 123, 124] → S.contains k = false := fun k hk => by simpa using List.all_eq_true.mp hS k hk
    rw [DrL] at z ⊢
    rw [(f 121 (hf 121 (by decide))).2.2.1, (f 122 (hf 122 (by decide))).2.2.1, (f 123 (hf 123 (by decide))).2.2.1, (f 124 (hf 124 (by decide))).2.2.1]
    exact z.imp id (fun z => z.imp (fun z => ⟨z.1, ih _ z.2⟩) (fun z => z.imp (fun z => ⟨z.1, ih _ z.2⟩) (fun z => ⟨z.1, ih _ z.2⟩)))
theorem DrL.lt (h7 : N ≤ 70000) (hv : v < 96) (hV : V ≤ 96) : ∀ (h st a n : Nat), NdR fx D M s 106 V h st Kf N a n → DrL s h n v → v < V
  | 0, _, _, _, z, _ => z.elim
  | h + 1, st, a, n, z, d => by
    have ih := fun st a n z d => DrL.lt h7 hv hV h st a n z d
    rw [DrL] at d
    obtain ⟨-, z⟩ := z.view
    rcases z with ⟨-, z⟩ | ⟨-, ⟨q, ⟨s1, x, x1, x2⟩, -⟩ | ⟨q, ⟨s1, x, x1, x2⟩, ⟨s2, y, y1, y2⟩, -⟩ | ⟨q, ⟨s1, x, x1, x2⟩, ⟨s2, y, y1, y2⟩, s3, w, w1, w2⟩ | ⟨q, ⟨s2, y, y1, y2⟩, ⟨s3, w, w1, w2⟩, -⟩⟩
    · have k0 : tA s 121 n ∉ kd2 ∧ tA s 121 n ∉ kd3 ∧ tA s 121 n ∉ kd4 := by
        rcases z with ⟨-, q, -⟩ | ⟨-, q⟩ | ⟨-, q, -⟩ | ⟨q, -⟩
        · rw [q]; decide
        · rw [q]; decide
        · rw [q]; decide
        · simp only [List.mem_cons, Prod.mk.injEq, List.not_mem_nil, or_false] at q
          rcases q with ⟨-, q⟩ | ⟨-, q⟩ | ⟨-, q⟩ <;> rw [q] <;> decide
      rcases d with ⟨d1, d2⟩ | ⟨d, -⟩ | ⟨d, -⟩ | ⟨d, -⟩
      · rcases z with ⟨-, q, -⟩ | ⟨-, q⟩ | ⟨-, q, -⟩ | ⟨-, v', v1, -, v3, -⟩
        · rw [q] at d1; exact absurd d1 (by decide)
        · rw [q] at d1; exact absurd d1 (by decide)
        · rw [q] at d1; exact absurd d1 (by decide)
        · rw [nIq (d2.symm.trans v3) (by omega) (by omega)]; exact v1
      · exact absurd d k0.1
      · exact absurd d k0.2.1
      · exact absurd d k0.2.2
    · have xx : ix (nI x) = x := ix_nI (by have := x2.nb; omega)
      rw [x1, xx] at d
      simp only [List.mem_cons, List.not_mem_nil, or_false] at q
      rcases d with ⟨d, -⟩ | ⟨-, d⟩ | ⟨d, -⟩ | ⟨d, -⟩
      · rcases q with q | q | q | q | q | q <;> rw [q] at d <;> exact absurd d (by decide)
      · exact ih _ _ _ x2 d
      · rcases q with q | q | q | q | q | q <;> rw [q] at d <;> exact absurd d (by decide)
      · rcases q with q | q | q | q | q | q <;> rw [q] at d <;> exact absurd d (by decide)
    · have xx : ix (nI x) = x := ix_nI (by have := x2.nb; omega)
      have yy : ix (nI y) = y := ix_nI (by have := y2.nb; omega)
      rw [x1, xx, y1, yy] at d
      simp only [List.mem_cons, List.not_mem_nil, or_false] at q
      rcases d with ⟨d, -⟩ | ⟨-, d⟩ | ⟨-, d⟩ | ⟨d, -⟩
      · rcases q with q | q | q | q | q | q | q | q <;> rw [q] at d <;> exact absurd d (by decide)
      · exact ih _ _ _ x2 d
      · exact ih _ _ _ y2 d
      · rcases q with q | q | q | q | q | q | q | q <;> rw [q] at d <;> exact absurd d (by decide)
    · have xx : ix (nI x) = x := ix_nI (by have := x2.nb; omega)
      have yy : ix (nI y) = y := ix_nI (by have := y2.nb; omega)
      have ww : ix (nI w) = w := ix_nI (by have := w2.nb; omega)
      rw [x1, xx, y1, yy, w1, ww, q] at d
      rcases d with ⟨d, -⟩ | ⟨-, d⟩ | ⟨-, d⟩ | ⟨-, d⟩
      · exact absurd d (by decide)
      · exact ih _ _ _ x2 d
      · exact ih _ _ _ y2 d
      · exact ih _ _ _ w2 d
    · have yy : ix (nI y) = y := ix_nI (by have := y2.nb; omega)
      have ww : ix (nI w) = w := ix_nI (by have := w2.nb; omega)
      rw [y1, yy, w1, ww, q] at d
      rcases d with ⟨d, -⟩ | ⟨d, -⟩ | ⟨-, d⟩ | ⟨-, d⟩
      · exact absurd d (by decide)
      · exact absurd d (by decide)
      · exact ih _ _ _ y2 d
      · exact ih _ _ _ w2 d
theorem NumT.ms (z : NumT D M0 σ Kf N h n) (k : KF D svI [] svA [] M0 M) (f : Ft sv1 σ s) : NumT D M s Kf N h n := fun m o r => by
  obtain ⟨b, r, c1, c2, c3, c4, c5⟩ := z m (OcT.mv (Nd4.ft f.sy rfl) (Nat.le_refl _) _ _ _ _ (Nat.le_refl _) o) (by unfold isR at *; rw [(f 121 rfl).2.2.1] at r; exact r)
  exact ⟨b, r, c1, by rw [k.i rfl]; exact c2, by rw [(f 162 rfl).2.2.1]; exact c3, by rw [(f 153 rfl).2.2.1]; exact c4, by rw [(f 154 rfl).1]; exact c5⟩
/-- variables, from their heads -/
theorem VaD.of (W : FW C B P mss fss D M0 σ) (X : FlY z7 C P D mss M0 σ V I Bm) (al : AlS D V E M0 σ M s hd sg c) (un : UkR V M s U) (uv : UvR D V σ M s hd U) : VaD D M s V ∧ HdV D M V := by
  obtain ⟨⟨k, f⟩, a1, a2, -⟩ := al
  have Vl := X.1.1.1
  have V96 := X.2.1.1
  refine ⟨⟨by omega, fun v hv => ?_⟩, fun v hv => ⟨hd v, by have := (a1 v hv).1; omega, (a2 v hv).1.1⟩⟩
  obtain ⟨-, ⟨xk, x1, x2, x3⟩, -⟩ := X.vr W hv
  have e94 : tA s 94 v = tA σ 94 v := (f 94 rfl).2.2.1 v
  refine ⟨⟨xk, x1, (k.i rfl _).trans x2, e94.trans x3⟩, fun z => ?_⟩
  rw [e94] at z
  obtain ⟨b1, b2, b3, b4⟩ := a1 v hv
  have hw : hd v < V := by omega
  have h0 : tA σ 94 (hd v) = 0 := by
    by_cases y : hd v = v
    · rw [y]; exact z
    · exact (b3 y).2
  rcases uv (hd v) hw with ⟨-, u, u1, u2, u3⟩ | ⟨y, -⟩
  · have U180 := un.1.2.2
    exact ⟨hd v, sg v, u, hw, (a2 v hv).1.1, (a2 v hv).2.1, u2, ⟨⟨e94.trans z, by omega⟩, ⟨hd v, by omega, (a2 v hv).1.2, u3⟩, by omega, (a2 v hv).2.2, b4⟩, (un.2 u u1).2.2.1⟩
  · exact absurd ⟨h0, b2⟩ y
/-- flat trees, as solving finds them -/
theorem FlQ.of (W : FW C B P mss fss D M0 σ) (h : FP C P mss D M0 σ z7 V I Bm K N E A Wn q qs) (al : AlS D V E M0 σ M s hd sg c) (un : UkR V M s U) (uv : UvR D V σ M s hd U) (de : DeR V E σ s hd) : FlQ V E A Wn K N D M s := by
  obtain ⟨X, ⟨⟨n1, n2, n3⟩, ⟨n4, -⟩, -⟩, -, ⟨⟨e1, e2, e3, e4⟩, eq⟩, ⟨⟨c1, c2, c3⟩, ca⟩, ⟨⟨d1, d2, d3, d4⟩, dw, wc⟩, ⟨⟨-, q154, q24⟩, -, ⟨cv1, cv2⟩, -⟩, -⟩ := h
  obtain ⟨⟨k, f⟩, a1, a2, ⟨g, -⟩, eqs⟩ := id al
  have V96 := X.2.1.1
  have h7 : N ≤ 70000 := by omega
  have nk : NdK D M0 σ D M s 106 K N := ⟨fun j hj => ⟨rfl, fun g hg => k.i (by
    have : ∀ g, g ∈ [3400, 3401, 3402, 3403, 3404] → svI.contains g = false := by decide
    exact this g hg) _, fun g hg => k.r rfl _⟩, fun g hg n _ => (f g (by
    have : ∀ g, g ∈ [121, 122, 123, 124, 134, 162] → sv1.contains g = false := by decide
    exact this g hg)).2.2.1 n, fun v => (f 94 rfl).2.2.1 v⟩
  have nd : ∀ {st a n}, NdR 0 D M0 σ 106 V 100 st K N a n → NdR 0 D M s 106 V 100 st K N a n := fun z => NdR.mv nk (Nat.le_refl _) (Nat.le_refl _) (Nat.le_refl _) 100 100 _ _ _ (Nat.le_refl _) z
  have nt : ∀ {st n}, CvN V K N D M0 σ q st n → NumT D M s K N 100 n := fun z => (NumT.of W.2.1 n2 h7 q24 q154 z).ms k f
  have dr : ∀ {a n e}, e < E → (tA σ 174 e = nI n ∨ tA σ 175 e = nI n) → NdR 0 D M0 σ 106 V 100 0 K N a n → tA s 180 e = 0 → DrD s 100 n := fun {a n e} he hn z z0 v u x d lu => by
    have nN := z.nb
    have d' := DrL.ft f.sy rfl _ _ _ d
    have v96 := lu.1.2
    have hv := DrL.lt h7 v96 V96 _ _ _ _ z d'
    obtain ⟨w, w1, w2, w3⟩ := lu.2.1
    have hw : hd v < V := by have := (a1 v hv).1; omega
    have : w = hd v := nIq (w2.symm.trans (a2 v hv).1.2) (by omega) (by omega)
    subst this
    have ne := de e he z0 v hv (by
      rcases hn with hn | hn
      · exact Or.inl (by rw [hn, ix_nI (by omega)]; exact d')
      · exact Or.inr (by rw [hn, ix_nI (by omega)]; exact d')) u w3 lu.2.2.1
    rcases uv (hd v) hw with ⟨-, u', u1, u2, u3⟩ | ⟨-, -, y⟩
    · have U180 := un.1.2.2
      have := lu.2.2.1
      have : u' = u := nIq (u3.symm.trans w3) (by omega) (by omega)
      subst this
      rcases (un.2 u' u1).2.2.2 with z | ⟨d, -, dU, z⟩
      · exact absurd z ne
      · exact ⟨d, by omega, z⟩
    · have := lu.2.2.1
      exact absurd (w3.symm.trans y) (nI_m1 (by omega))
  have n5 : ∀ {fx st a n}, NdR fx D M0 σ 106 V 100 st K N a n → n < 100000 := fun z => by have := z.nb; omega
  refine ⟨⟨(k.i rfl 1).trans e1, (k.i rfl 1).trans c1, (k.i rfl 1).trans d1⟩, ⟨e3, e4, fun e he => ?_⟩, ⟨c2, c3, fun i hi => ?_⟩, ⟨d3, d4, fun w hw => ?_⟩, g⟩
  · obtain ⟨⟨m1, p1, p2⟩, m2, p3, p4⟩ := eq e he
    obtain ⟨⟨m1', q1, q2⟩, m2', q3, q4⟩ := cv1 e he
    have b1 : m1' < N := by obtain ⟨a, r, -⟩ := q2; exact r.nb.2
    have b2 : m2' < N := by obtain ⟨a, r, -⟩ := q4; exact r.nb.2
    have : m1' = m1 := nIq (q1.symm.trans p1) (by omega) (n5 p2)
    subst this
    have : m2' = m2 := nIq (q3.symm.trans p3) (by omega) (n5 p4)
    subst this
    have r0 : mR M 3600 ((pl D 111).getD e 0) = mR M0 3600 ((pl D 111).getD e 0) := k.r rfl _
    have r1 : mR M 3601 ((pl D 111).getD e 0) = mR M0 3601 ((pl D 111).getD e 0) := k.r rfl _
    unfold EqN
    rw [r0, r1]
    exact ⟨m1', m2', ⟨(eqs e he).1.trans p1, nd p2, nt q2, dr he (Or.inl p1) p2⟩, (eqs e he).2.trans p3, nd p4, nt q4, dr he (Or.inr p3) p4⟩
  · obtain ⟨⟨v, p1, p2, p3⟩, p4, m, p5, p6⟩ := ca i hi
    obtain ⟨F, F0, FW', Fk⟩ := wc
    have hi' : ∃ w, w < Wn ∧ F w ≤ i ∧ i < F (w + 1) := by
      have key : ∀ w, w ≤ Wn → i < F w → ∃ w', w' < w ∧ F w' ≤ i ∧ i < F (w' + 1) := by
        intro w
        induction w with
        | zero => intro _ hlt; omega
        | succ w ih =>
          intro hw hlt
          by_cases y : F w ≤ i
          · exact ⟨w, by omega, y, hlt⟩
          · obtain ⟨w', h1, h2⟩ := ih (by omega) (by omega)
            exact ⟨w', by omega, h2⟩
      exact key Wn (Nat.le_refl _) (by omega)
    obtain ⟨w, w1, w2, w3⟩ := hi'
    have FA : F (w + 1) ≤ A := by
      have key : ∀ d, w + 1 + d ≤ Wn → F (w + 1) ≤ F (w + 1 + d) := by
        intro d
        induction d with
        | zero => intro _; exact Nat.le_refl _
        | succ d ih => intro hd; exact Nat.le_trans (ih (by omega)) (Fk (w + 1 + d) (by omega)).2.1
      have := key (Wn - (w + 1)) (by omega)
      rw [show w + 1 + (Wn - (w + 1)) = Wn by omega] at this
      omega
    obtain ⟨k1, k2, k3⟩ := Fk w w1
    obtain ⟨-, g0, m0, y1, y2, y0, y3⟩ := cv2 w w1
    have eg : g0 = F w := nIq (y1.symm.trans k1) (by omega) (by omega)
    have em : m0 = F (w + 1) - F w := nIq (y2.symm.trans k3) (by omega) (by omega)
    obtain ⟨m', q1, q2⟩ := y3 i (by omega) (by omega)
    have b1 : m' < N := by obtain ⟨a, r, -⟩ := q2; exact r.nb.2
    have : m' = m := nIq (q1.symm.trans p5) (by omega) (n5 p6)
    subst this
    unfold AcN
    rw [k.i rfl, k.i rfl, k.r rfl, (f 150 rfl).2.2.1, (f 149 rfl).2.2.1]
    exact ⟨⟨v, p1, p2, p3.1⟩, p4, m', ((f 151 rfl).2.2.1 i).trans p5, nd p6, nt q2⟩
  · obtain ⟨⟨m, p1, p2⟩, -⟩ := dw w hw
    obtain ⟨⟨m', q1, q2⟩, -⟩ := cv2 w hw
    have b1 : m' < N := by obtain ⟨a, r, -⟩ := q2; exact r.nb.2
    have : m' = m := nIq (q1.symm.trans p1) (by omega) (n5 p2)
    subst this
    unfold WhN
    rw [k.r rfl]
    exact ⟨m', ((f 145 rfl).2.2.1 w).trans p1, nd p2, nt q2⟩
end MKEQ
