/-! Layer B: running: relations, whens and actions may be evaluated -/
set_option maxRecDepth 100000
section RELS
variable {C : PC} {B : Nat} {P : Nat → Prop} {mss fss : List Nat} {V E U S q A Wn K K1 K2 N Nf Kf e r w v u i j m n k : Nat} {D : FQ} {M M' M1 : CM} {σ σ' s : TS} {fx x : Int32} {z7 : Nat → Nat} {I Bm qs c : Nat} {hd : Nat → Nat} {sg : Nat → Int32}
theorem OcT.tr : ∀ (h h2 n k m : Nat), OcT s N h n k → OcT s N h2 k m → OcT s N (h + h2) n m
  | 0, _, _, _, _, q, _ => q.elim
  | h + 1, h2, n, k, m, q, r => by
    obtain ⟨q0, q⟩ := q
    have ih := fun x q => OcT.tr h h2 x k m q r
    rcases q with e | ⟨q, x, x1, x2⟩ | ⟨q, x, x1, x2⟩ | ⟨q, x, x1, x2⟩
    · subst e
      exact OcT.mv (fun _ _ _ _ => rfl) (Nat.le_refl _) _ _ _ _ (by omega) r
    · rw [show h + 1 + h2 = (h + h2) + 1 by omega]
      exact ⟨q0, Or.inr (Or.inl ⟨q, x, x1, ih x x2⟩)⟩
    · rw [show h + 1 + h2 = (h + h2) + 1 by omega]
      exact ⟨q0, Or.inr (Or.inr (Or.inl ⟨q, x, x1, ih x x2⟩))⟩
    · rw [show h + 1 + h2 = (h + h2) + 1 by omega]
      exact ⟨q0, Or.inr (Or.inr (Or.inr ⟨q, x, x1, ih x x2⟩))⟩
/-- what stands in a flat tree stands no deeper than the tree is -/
theorem NdR.dn (h7 : N ≤ 70000) : ∀ (h H st a n m : Nat), NdR fx D M s 106 V h st Kf N a n → OcT s N H n m → OcT s N h n m
  | 0, _, _, _, _, _, z, _ => z.elim
  | _ + 1, 0, _, _, _, _, _, d => d.elim
  | h + 1, H + 1, st, a, n, m, z, d => by
    have ih := fun st a x z d => NdR.dn h7 h H st a x m z d
    obtain ⟨d0, d⟩ := d
    obtain ⟨-, z⟩ := z.view
    have key : (tA s 121 n ∈ kd2 → ∃ st a x, tA s 122 n = nI x ∧ NdR fx D M s 106 V h st Kf N a x) ∧ (tA s 121 n ∈ kd3 → ∃ st a x, tA s 123 n = nI x ∧ NdR fx D M s 106 V h st Kf N a x) ∧ (tA s 121 n ∈ kd4 → ∃ st a x, tA s 124 n = nI x ∧ NdR fx D M s 106 V h st Kf N a x) := by
      rcases z with ⟨-, z⟩ | ⟨-, ⟨q, ⟨s1, x, x1, x2⟩, -⟩ | ⟨q, ⟨s1, x, x1, x2⟩, ⟨s2, y, y1, y2⟩, -⟩ | ⟨q, ⟨s1, x, x1, x2⟩, ⟨s2, y, y1, y2⟩, s3, c, w1, w2⟩ | ⟨q, ⟨s2, y, y1, y2⟩, ⟨s3, c, w1, w2⟩, -⟩⟩
      · have no : tA s 121 n ∉ kd2 ∧ tA s 121 n ∉ kd3 ∧ tA s 121 n ∉ kd4 := by
          rcases z with ⟨-, q, -⟩ | ⟨-, q⟩ | ⟨-, q, -⟩ | ⟨q, v, v1, -, v3, -⟩
          · rw [q]; decide
          · rw [q]; decide
          · rw [q]; decide
          · simp only [List.mem_cons, Prod.mk.injEq, List.not_mem_nil, or_false] at q
            rcases q with ⟨-, q⟩ | ⟨-, q⟩ | ⟨-, q⟩ <;> rw [q] <;> decide
        exact ⟨fun q => absurd q no.1, fun q => absurd q no.2.1, fun q => absurd q no.2.2⟩
      · have no : tA s 121 n ∉ kd3 ∧ tA s 121 n ∉ kd4 := by
          simp only [List.mem_cons, List.not_mem_nil, or_false] at q
          rcases q with q | q | q | q | q | q <;> rw [q] <;> decide
        exact ⟨fun _ => ⟨_, _, x, x1, x2⟩, fun q => absurd q no.1, fun q => absurd q no.2⟩
      · have no : tA s 121 n ∉ kd4 := by
          simp only [List.mem_cons, List.not_mem_nil, or_false] at q
          rcases q with q | q | q | q | q | q | q | q <;> rw [q] <;> decide
        exact ⟨fun _ => ⟨_, _, x, x1, x2⟩, fun _ => ⟨_, _, y, y1, y2⟩, fun q => absurd q no⟩
      · exact ⟨fun _ => ⟨_, _, x, x1, x2⟩, fun _ => ⟨_, _, y, y1, y2⟩, fun _ => ⟨_, _, c, w1, w2⟩⟩
      · exact ⟨fun y => absurd y (by rw [q]; decide), fun _ => ⟨_, _, y, y1, y2⟩, fun _ => ⟨_, _, c, w1, w2⟩⟩
    have fin : ∀ {f x}, (∃ st a y, tA s f n = nI y ∧ NdR fx D M s 106 V h st Kf N a y) → tA s f n = nI x → OcT s N H x m → OcT s N h x m := fun ⟨st, a, y, y1, y2⟩ x1 o => by
      have b := y2.nb
      have c := OcT.lt o
      have : y = _ := nIq (y1.symm.trans x1) (by omega) (by omega)
      subst this
      exact ih _ _ _ y2 o
    refine ⟨d0, ?_⟩
    rcases d with e | ⟨q, x, x1, x2⟩ | ⟨q, x, x1, x2⟩ | ⟨q, x, x1, x2⟩
    · exact Or.inl e
    · exact Or.inr (Or.inl ⟨q, x, x1, fin (key.1 q) x1 x2⟩)
    · exact Or.inr (Or.inr (Or.inl ⟨q, x, x1, fin (key.2.1 q) x1 x2⟩))
    · exact Or.inr (Or.inr (Or.inr ⟨q, x, x1, fin (key.2.2 q) x1 x2⟩))
theorem SvS.hu (sv : SvS V E A Wn q U S K1 K2 N hd sg c D M s) (V96 : V ≤ 96) (U180 : U ≤ 180) (hv : v < V) (l : LfU s v u x) : u < U := by
  obtain ⟨-, -, ⟨al1, al2, uv, -⟩, -⟩ := sv
  obtain ⟨-, ⟨w, w1, w2, w3⟩, c1, -⟩ := l
  have hw : hd v < V := by have := (al1 v hv).1; omega
  have : w = hd v := nIq (w2.symm.trans (al2 v hv).1.2) (by omega) (by omega)
  subst this
  rcases uv (hd v) hw with ⟨-, u', u1, u2, u3⟩ | ⟨-, -, y⟩
  · rw [nIq (w3.symm.trans u3) (by omega) (by omega)]; exact u1
  · exact absurd (w3.symm.trans y) (nI_m1 (by omega))
/-- an action lies in some when -/
theorem wcs_in {F : Nat → Nat} (F0 : F 0 = 0) (FW' : F Wn = A) (Fk : ∀ k, k < Wn → F k ≤ F (k + 1)) (hi : i < A) : ∃ w, w < Wn ∧ F w ≤ i ∧ i < F (w + 1) := by
  have key : ∀ w, w ≤ Wn → i < F w → ∃ w', w' < w ∧ F w' ≤ i ∧ i < F (w' + 1) := by
    intro w
    induction w with
    | zero => intro _ hlt; omega
    | succ w ih =>
      intro hw hlt
      by_cases y : F w ≤ i
      · exact ⟨w, by omega, y, hlt⟩
      · obtain ⟨w', h1, h2⟩ := ih (by omega) (by omega)
        exact ⟨w', by omega, h2⟩
  exact key Wn (Nat.le_refl _) (by omega)
theorem wcs_le {F : Nat → Nat} (FW' : F Wn = A) (Fk : ∀ k, k < Wn → F k ≤ F (k + 1)) : ∀ d w, w + d = Wn → F w ≤ A
  | 0, w, e => by have : w = Wn := by omega
                  rw [this, FW']; exact Nat.le_refl _
  | d + 1, w, e => Nat.le_trans (Fk w (by omega)) (wcs_le FW' Fk d (w + 1) (by omega))
/-- numbers of a root's relations -/
theorem FP.nums (h : FP C P mss D M σ z7 V I Bm K N E A Wn q qs) (W : PoW D M) (rt : RtP σ E A Wn n) (hn : n < 100000) : (∃ st, CvN V K N D M σ q st n) ∧ NumT D M σ K N 100 n := by
  obtain ⟨X, ⟨⟨n1, n2, n3⟩, ⟨n4, -⟩, -⟩, vs, ⟨⟨e1, e2, e3, e4⟩, eq⟩, ⟨⟨c1, c2, c3⟩, ca⟩, ⟨⟨d1, d2, d3, d4⟩, dw, F, F0, FW', Fk⟩, ⟨⟨-, q154, q24⟩, -, ⟨cv1, cv2⟩, -⟩, -⟩ := h
  have h7 : N ≤ 70000 := by omega
  have same : ∀ (x : Nat) (st : Nat) (z : Int32), z = nI x → CvN V K N D M σ q st x → z = nI n → CvN V K N D M σ q st n := fun x st z e1 cv e2 => by
    have b : x < N := by obtain ⟨a, r, -⟩ := cv; exact r.nb.2
    have := nIq (e1.symm.trans e2) (by omega) hn
    rw [← this]; exact cv
  have main : ∃ st, CvN V K N D M σ q st n := by
    rcases rt with ⟨e, he, z⟩ | ⟨i, hi, z⟩ | ⟨w, hw, z⟩
    · obtain ⟨⟨m1, p1, p2⟩, m2, p3, p4⟩ := cv1 e he
      rcases z with z | z
      · exact ⟨_, same m1 _ _ p1 p2 z⟩
      · exact ⟨_, same m2 _ _ p3 p4 z⟩
    · obtain ⟨w, w1, w2, w3⟩ := wcs_in F0 FW' (fun k hk => (Fk k hk).2.1) hi
      have FA : F (w + 1) ≤ A := wcs_le FW' (fun k hk => (Fk k hk).2.1) (Wn - (w + 1)) (w + 1) (by omega)
      obtain ⟨k1, k2, k3⟩ := Fk w w1
      obtain ⟨-, g0, m0, y1, y2, y0, y3⟩ := cv2 w w1
      have eg : g0 = F w := nIq (y1.symm.trans k1) (by omega) (by omega)
      have em : m0 = F (w + 1) - F w := nIq (y2.symm.trans k3) (by omega) (by omega)
      obtain ⟨m', q1, q2⟩ := y3 i (by omega) (by omega)
      exact ⟨_, same m' _ _ q1 q2 z⟩
    · obtain ⟨⟨m', q1, q2⟩, -⟩ := cv2 w hw
      exact ⟨_, same m' _ _ q1 q2 z⟩
  obtain ⟨st, cv⟩ := main
  exact ⟨⟨st, cv⟩, NumT.of W n2 h7 q24 q154 cv⟩
/-- a flat tree holds nothing that has no value -/
theorem SvS.lv (sv : SvS V E A Wn q U S K1 K2 N hd sg c D M σ) (V96 : V ≤ 96) (U180 : U ≤ 180) (uk : UkR V M σ U) {st a : Nat} (h7 : Nf ≤ 70000) (nd : NdR 0 D M σ 106 V 100 st K Nf a n) (nt : NumT D M σ K Nf 100 n) : LvB U σ 100 n := by
  refine LvB.of _ _ (fun u o => ?_) ⟨fun H u o => ?_, fun H o => NdR.wq h7 _ _ _ _ _ nd nt o⟩
  · rcases NdR.ul h7 V96 _ _ _ _ _ _ nd o with ⟨v, x, hv, l⟩ | ⟨v, w, x, hv, l, e, hu⟩
    · exact sv.hu V96 U180 hv l
    · have wU := sv.hu V96 U180 hv l
      rcases (uk.2 w wU).2.2.2 with z | ⟨d, -, dU, z⟩
      · exact absurd (e.symm.trans z) (nI_m1 (by omega))
      · rw [nIq (e.symm.trans z) (by omega) (by omega)]; exact dU
  · obtain ⟨v, x, hv, l⟩ := NdR.wl h7 V96 _ _ _ _ _ _ nd o
    exact sv.hu V96 U180 hv l
/-- a relation -/
theorem RnW.rl (w : RnW C B P mss fss V U S q A Wn K1 K2 N D M σ) (hr : r < q) : ∃ m, (tA σ 153 r = nI m ∧ tA σ 162 m = nI r) ∧ isR σ m ∧ SxE U V K1 K2 N D M σ 100 1 (mX M 137 r) m := by
  obtain ⟨⟨V96, -, U180, -, -, N7⟩, -, -, -, -, uk, -⟩ := w.st
  obtain ⟨W, ⟨z7, I, Bm, K, Nf, E, qs, hd, sg, c, fp, sv⟩, kn⟩ := w
  obtain ⟨m, m1, m2, m3, m4⟩ := sv.2.2.2.2.2.1 r hr
  obtain ⟨k, k1, k2, -, ⟨-, k4⟩, n, n1, n2⟩ := fp.2.2.2.2.2.2.1.2.2.2 r hr
  obtain ⟨⟨-, -, K12⟩, ⟨N1, -⟩, -⟩ := fp.2.1
  have h7 : Nf ≤ 70000 := by omega
  have mN : m < N := m4.elim (fun z => z.nb.2.2) (fun z => z.nb.2.2)
  have : m = k + 1 := nIq (m1.symm.trans k2) (by omega) (by omega)
  subst this
  obtain ⟨⟨st, a, nd, -⟩, nt⟩ := fp.nums W.2.1 n1 (OcT.lt n2).2
  refine ⟨k + 1, ⟨m1, m2⟩, m3, m4, sv.lv V96 U180 uk h7 k4 (nt.o (fun m o => NdR.dn h7 _ _ _ _ _ _ nd (OcT.tr _ _ _ _ _ n2 o)))⟩
/-- a when -/
theorem RnW.wh (w : RnW C B P mss fss V U S q A Wn K1 K2 N D M σ) (hk : k < Wn) : ∃ n, tA σ 145 k = nI n ∧ SxE U V K1 K2 N D M σ 100 1 (mR M 3801 ((pl D 113).getD k 0)) n := by
  obtain ⟨⟨V96, -, U180, -, -, N7⟩, -, -, -, -, uk, -⟩ := w.st
  obtain ⟨W, ⟨z7, I, Bm, K, Nf, E, qs, hd, sg, c, fp, sv⟩, kn⟩ := w
  obtain ⟨n, n1, n2⟩ := sv.2.2.2.2.1.2.2.1 k hk
  obtain ⟨⟨-, -, K12⟩, ⟨N1, -⟩, -⟩ := fp.2.1
  have nN := n2.nb.2
  obtain ⟨⟨st, a, nd, -⟩, nt⟩ := fp.nums W.2.1 (Or.inr (Or.inr ⟨k, hk, n1⟩)) (by omega)
  exact ⟨n, n1, Or.inr n2, sv.lv V96 U180 uk (by omega) nd nt⟩
/-- an action -/
theorem RnW.ac (w : RnW C B P mss fss V U S q A Wn K1 K2 N D M σ) (hi : i < A) : ∃ n c, tA σ 151 i = nI n ∧ SxE U V K1 K2 N D M σ 100 0 c n ∧
  ((mI M 4000 ((pl D 112).getD i 0) = 0 ∧ mI M 4004 ((pl D 112).getD i 0) = -1 ∧ mR M 4003 ((pl D 112).getD i 0) = c) ∨
   (mI M 4000 ((pl D 112).getD i 0) = 1 ∧ ∃ v w, (v < V ∧ mI M 4001 ((pl D 112).getD i 0) = nI v) ∧ (w < V ∧ mI M 3217 ((pl D 98).getD v 0) = nI w) ∧ mI M 4004 ((pl D 112).getD i 0) = mI M 3219 ((pl D 98).getD w 0) ∧
     ((0 ≤ mI M 3218 ((pl D 98).getD v 0) ∧ mR M 4003 ((pl D 112).getD i 0) = c) ∨ (¬ 0 ≤ mI M 3218 ((pl D 98).getD v 0) ∧ ∃ j, j < K2 ∧ mR M 4003 ((pl D 112).getD i 0) = (pl D 136).getD j 0 ∧ mI M 3400 ((pl D 136).getD j 0) = 7 ∧ mR M 3405 ((pl D 136).getD j 0) = c ∧ mR M 3406 ((pl D 136).getD j 0) = 0 ∧ mR M 3407 ((pl D 136).getD j 0) = 0)))) := by
  obtain ⟨⟨V96, -, U180, -, -, N7⟩, -, -, -, -, uk, -⟩ := w.st
  obtain ⟨W, ⟨z7, I, Bm, K, Nf, E, qs, hd, sg, c, fp, sv⟩, kn⟩ := w
  obtain ⟨n, c', n1, n2, n3⟩ := sv.2.2.2.2.1.2.2.2 i hi
  obtain ⟨⟨-, -, K12⟩, ⟨N1, -⟩, -⟩ := fp.2.1
  have nN := n2.nb.2
  obtain ⟨⟨st, a, nd, -⟩, nt⟩ := fp.nums W.2.1 (Or.inr (Or.inl ⟨i, hi, n1⟩)) (by omega)
  exact ⟨n, c', n1, ⟨Or.inr n2, sv.lv V96 U180 uk (by omega) nd nt⟩, n3⟩
end RELS
