/-! Layer B: the equations are solved: frames; one equation, both sides -/
set_option maxRecDepth 100000
/-- an equation that is solved -/
def EqT (D : FQ) (M : CM) (s0 s : TS) (V K N e : Nat) : Prop := (tA s0 180 e = 0 → ∃ n1 n2, (tA s0 141 e = nI n1 ∧ SxR D M s0 134 V K N 200 0 (mX M 126 e) n1 ∧ PH s0 200 n1 ≤ 200 ∧ PS s0 200 n1 ≤ K) ∧ (tA s0 142 e = nI n2 ∧ SxR D M s0 134 V K N 200 0 (mX M 127 e) n2 ∧ PH s0 200 n2 ≤ 200 ∧ PS s0 200 n2 ≤ K) ∧ ∀ u, u < 180 → ((OcU s0 200 n1 u ∨ OcU s0 200 n2 u) → mA M 132 (180 * e + u) = 1 ∧ tA s 202 (200 * e + u) = 1) ∧ (¬ (OcU s0 200 n1 u ∨ OcU s0 200 n2 u) → mA M 132 (180 * e + u) = 0 ∧ tA s 202 (200 * e + u) = 0)) ∧ (¬ tA s0 180 e = 0 → mX M 126 e = 0 ∧ mX M 127 e = 0 ∧ ∀ u, u < 180 → mA M 132 (180 * e + u) = 0 ∧ tA s 202 (200 * e + u) = 0) ∧ mA M 129 e = -1 ∧ mA M 130 e = -1 ∧ mA M 131 e = -1
/-- solving writes -/
abbrev svX : List Nat := [3217, 3218, 3219, 4004]
/-- variables, whens, actions: what solving does not write -/
def OlV (I : List Nat) (D : FQ) (M M' : CM) : Prop := ∀ o, o < mn M → 167 ≤ o → tg 98 0 ≤ tgof D o → tgof D o < tg 134 0 → (∀ f, 3000 ≤ f → I.contains f = false → mI M' f o = mI M f o) ∧ ∀ f, 3000 ≤ f → ([3801, 4003] : List Nat).contains f = false → mR M' f o = mR M f o
/-- the other set, variables, whens, actions, relations: all stays -/
def Kp6 (D : FQ) (M : CM) (D' : FQ) (M' : CM) : Prop := pl D' 136 = pl D 136 ∧ (∀ o, o < mn M → 167 ≤ o → ((tg 98 0 ≤ tgof D o ∧ tgof D o < tg 134 0) ∨ (tg 136 0 ≤ tgof D o ∧ tgof D o < tg 137 0)) → (∀ f, 3000 ≤ f → mI M' f o = mI M f o) ∧ ∀ f, 3000 ≤ f → mR M' f o = mR M f o) ∧ mI M' 604 135 = mI M 604 135 ∧ ∀ j, mX M' 137 j = mX M 137 j
def SvR (I A : List Nat) (D : FQ) (M : CM) (D' : FQ) (M' : CM) : Prop := Dx D D' M ∧ Fq D TZ M M' ∧ (∀ i, i ≠ 134 → i ≠ 136 → pl D' i = pl D i) ∧ (rmN D' M' ≤ rmN D M ∧ rmS D' M' ≤ rmS D M) ∧ (∀ f, I.contains f = false → mI M' f 1 = mI M f 1) ∧ (∀ f, f ≠ 69 → mR M' f 1 = mR M f 1) ∧ (∀ a j, A.contains a = false → a < 133 → mA M' a j = mA M a j) ∧ OlV I D M M' ∧ (I.contains 136 = false → Kp6 D M D' M')
def EqPs (s0 : TS) (N k m : Nat) : Prop := ∃ e n, e < k ∧ tA s0 180 e = 0 ∧ (tA s0 141 e = nI n ∨ tA s0 142 e = nI n) ∧ OcT s0 N 100 n m
section EQS
variable {I I' R' A0 A' Xs S : List Nat} {s s' : TS} {D D1 D2 : FQ} {M M1 M2 : CM} {l l' V K K1 K2 Kf N h n u x0 X H x0' X' H' : Nat}
theorem OcU.ft (f : Ft S s s') (hS : [94, 121, 122, 123, 124, 134, 162, 177, 178, 179, 189].all (fun k => !S.contains k) = true) : ∀ (h n u : Nat), OcU s h n u → OcU s' h n u
  | 0, _, _, z => z.elim
  | h + 1, n, u, z => by
    have ih := fun n => OcU.ft f hS h n u
    have hf : ∀ k, k ∈ [94, 121, 122, 123, 124, 134, 162, 177, 178, 179, 189] → S.contains k = false := fun k hk => by simpa using List.all_eq_true.mp hS k hk
    rw [OcU] at z ⊢
    rw [(f 121 (hf 121 (by decide))).2.2.1, (f 122 (hf 122 (by decide))).2.2.1, (f 123 (hf 123 (by decide))).2.2.1, (f 124 (hf 124 (by decide))).2.2.1]
    rcases z with ⟨x, z⟩ | ⟨z, y⟩ | ⟨z, y⟩ | ⟨z, y⟩ | ⟨z, y⟩
    · exact Or.inl ⟨x, z.mv (NdX.ft (N := n + 1) f hS) (Nat.lt_succ_self n)⟩
    · exact Or.inr (Or.inl ⟨z, ih _ y⟩)
    · exact Or.inr (Or.inr (Or.inl ⟨z, y.imp (ih _) (ih _)⟩))
    · exact Or.inr (Or.inr (Or.inr (Or.inl ⟨z, y.imp (ih _) (fun y => y.imp (ih _) (ih _))⟩)))
    · exact Or.inr (Or.inr (Or.inr (Or.inr ⟨z, y.imp (ih _) (ih _)⟩)))
theorem OcU.fi (f : Ft S s s') (hS : [94, 121, 122, 123, 124, 134, 162, 177, 178, 179, 189].all (fun k => !S.contains k) = true) (h n u : Nat) : OcU s' h n u ↔ OcU s h n u := ⟨OcU.ft f.sy hS h n u, OcU.ft f hS h n u⟩
theorem OcU_l (q : tA s 121 n ∈ ([2, 3, 4, 30] : List Int32)) : OcU s (h + 1) n u ↔ ∃ x, LfK s n u x := by
  rw [OcU]
  have hk : tA s 121 n ∉ k1T ∧ tA s 121 n ∉ k2T ∧ ¬ tA s 121 n = 16 ∧ ¬ (tA s 121 n = 20 ∨ tA s 121 n = 25) := by
    simp only [List.mem_cons, List.not_mem_nil, or_false] at q
    rcases q with q | q | q | q <;> rw [q] <;> decide
  refine ⟨fun z => ?_, Or.inl⟩
  rcases z with z | ⟨z, -⟩ | ⟨z, -⟩ | ⟨z, -⟩ | ⟨z, -⟩
  · exact z
  · exact absurd z hk.1
  · exact absurd z hk.2.1
  · exact absurd z hk.2.2.1
  · exact absurd z hk.2.2.2
/-- at another height -/
theorem OcU.dn (h7 : N ≤ 70000) : ∀ (h H st n u : Nat), TwT s N h st n → OcU s H n u → OcU s h n u
  | 0, _, _, _, _, t, _ => t.elim
  | _ + 1, 0, _, _, _, _, z => z.elim
  | h + 1, H + 1, st, n, u, t, z => by
    have ih := fun st x t z => OcU.dn h7 h H st x u t z
    rcases t.view with q | ⟨q, -⟩ | q | ⟨q, x, x1, x2⟩ | ⟨q, ⟨x, x1, x2⟩, y, y1, y2⟩ | ⟨q, ⟨x, x1, x2⟩, ⟨y, y1, y2⟩, w, w1, w2⟩ | ⟨q, ⟨y, y1, y2⟩, w, w1, w2⟩
    · refine absurd z (OcU_0 ?_)
      simp only [List.mem_cons, List.not_mem_nil, or_false] at q
      rcases q with q | q | q <;> rw [q] <;> decide
    · have q' : tA s 121 n ∈ ([2, 3, 4, 30] : List Int32) := by
        simp only [List.mem_cons, List.not_mem_nil, or_false] at q
        rcases q with q | q | q <;> rw [q] <;> decide
      exact (OcU_l q').mpr ((OcU_l q').mp z)
    · have q' : tA s 121 n ∈ ([2, 3, 4, 30] : List Int32) := by rw [q]; decide
      exact (OcU_l q').mpr ((OcU_l q').mp z)
    · have xx : ix (nI x) = x := ix_nI (by have := x2.nb; omega)
      have z := (OcU_1 q).mp z
      rw [x1, xx] at z
      exact (OcU_1 q).mpr (by rw [x1, xx]; exact ih _ _ x2 z)
    · have xx : ix (nI x) = x := ix_nI (by have := x2.nb; omega)
      have yy : ix (nI y) = y := ix_nI (by have := y2.nb; omega)
      have z := (OcU_2 q).mp z
      rw [x1, xx, y1, yy] at z
      exact (OcU_2 q).mpr (by rw [x1, xx, y1, yy]; exact z.imp (ih _ _ x2) (ih _ _ y2))
    · have xx : ix (nI x) = x := ix_nI (by have := x2.nb; omega)
      have yy : ix (nI y) = y := ix_nI (by have := y2.nb; omega)
      have ww : ix (nI w) = w := ix_nI (by have := w2.nb; omega)
      have z := (OcU_3 q).mp z
      rw [x1, xx, y1, yy, w1, ww] at z
      exact (OcU_3 q).mpr (by rw [x1, xx, y1, yy, w1, ww]; exact z.imp (fun z => z.imp (ih _ _ x2) (ih _ _ y2)) (ih _ _ w2))
    · have yy : ix (nI y) = y := ix_nI (by have := y2.nb; omega)
      have ww : ix (nI w) = w := ix_nI (by have := w2.nb; omega)
      have z := (OcU_4 q).mp z
      rw [y1, yy, w1, ww] at z
      exact (OcU_4 q).mpr (by rw [y1, yy, w1, ww]; exact z.imp (ih _ _ y2) (ih _ _ w2))
theorem OlV.rf : OlV I D M M := fun _ _ _ _ _ => ⟨fun _ _ _ => rfl, fun _ _ _ => rfl⟩
theorem OlV.tr (h : OlV I D M M1) (g : OlV I D1 M1 M2) (hx : Dx D D1 M) (hn : mn M ≤ mn M1) : OlV I D M M2 := fun o a b c d => by
  have e : tgof D1 o = tgof D o := by unfold tgof; split <;> first | rfl | exact hx.2 o a
  obtain ⟨h1, h2⟩ := h o a b c d
  obtain ⟨g1, g2⟩ := g o (by omega) b (by rw [e]; exact c) (by rw [e]; exact d)
  exact ⟨fun f y z => (g1 f y z).trans (h1 f y z), fun f y z => (g2 f y z).trans (h2 f y z)⟩
theorem OlV.kf (k : KF D I' R' A' Xs M M1) (hI : I'.all I.contains = true) (hR : R'.all (fun x => decide (x < 3000) || ([3801, 4003] : List Nat).contains x) = true) : OlV I D M M1 := fun o _ _ _ _ => ⟨fun f y z => k.i (ncon hI z) o, fun f y z => k.r (by
  cases e : R'.contains f with
  | false => rfl
  | true =>
    have := List.all_eq_true.mp hR f (by simpa using e)
    rw [z, Bool.or_false] at this
    have := of_decide_eq_true this
    omega) o⟩
theorem Kp6.rf : Kp6 D M D M := ⟨rfl, fun _ _ _ _ => ⟨fun _ _ => rfl, fun _ _ => rfl⟩, rfl, fun _ => rfl⟩
theorem Kp6.tr (h : Kp6 D M D1 M1) (g : Kp6 D1 M1 D2 M2) (hx : Dx D D1 M) (hn : mn M ≤ mn M1) : Kp6 D M D2 M2 := ⟨g.1.trans h.1, fun o a b c => by
  have e : tgof D1 o = tgof D o := by unfold tgof; split <;> first | rfl | exact hx.2 o a
  obtain ⟨h1, h2⟩ := h.2.1 o a b c
  obtain ⟨g1, g2⟩ := g.2.1 o (by omega) b (by rw [e]; exact c)
  exact ⟨fun f y => (g1 f y).trans (h1 f y), fun f y => (g2 f y).trans (h2 f y)⟩, g.2.2.1.trans h.2.2.1, fun j => (g.2.2.2 j).trans (h.2.2.2 j)⟩
theorem SvR.rf : SvR I A0 D M D M := ⟨Dx.rf D M, Fq.rf, fun _ _ _ => rfl, ⟨Nat.le_refl _, Nat.le_refl _⟩, fun _ _ => rfl, fun _ _ => rfl, fun _ _ _ _ => rfl, OlV.rf, fun _ => Kp6.rf⟩
theorem SvR.tr (h : SvR I A0 D M D1 M1) (g : SvR I A0 D1 M1 D2 M2) : SvR I A0 D M D2 M2 := ⟨h.1.tr g.1 h.2.1.1, h.2.1.tr g.2.1 h.1, fun i a b => (g.2.2.1 i a b).trans (h.2.2.1 i a b), ⟨Nat.le_trans g.2.2.2.1.1 h.2.2.2.1.1, Nat.le_trans g.2.2.2.1.2 h.2.2.2.1.2⟩, fun f z => (g.2.2.2.2.1 f z).trans (h.2.2.2.2.1 f z), fun f z => (g.2.2.2.2.2.1 f z).trans (h.2.2.2.2.2.1 f z), fun a j z y => (g.2.2.2.2.2.2.1 a j z y).trans (h.2.2.2.2.2.2.1 a j z y), h.2.2.2.2.2.2.2.1.tr g.2.2.2.2.2.2.2.1 h.1 h.2.1.1, fun z => (h.2.2.2.2.2.2.2.2 z).tr (g.2.2.2.2.2.2.2.2 z) h.1 h.2.1.1⟩
theorem SvR.sh (S : StH x0 l D M K D1 M1 K1) (hx : NdS2 x0 l X H) (hn : 167 ≤ mn M) (hK : K1 ≤ 40000) (h6 : I.contains 136 = true := by rfl) : SvR I A0 D M D1 M1 := by
  have nu := hx.nu
  have s1 := S.s1 hx hn (o := 1) (by decide)
  refine ⟨S.2.1, S.2.2.2.1.mono (fun t z => ?_), fun i a b => S.2.2.1 i (by rcases hx with ⟨-, rfl, -⟩ | ⟨-, rfl, -⟩ <;> assumption), S.2.2.2.2.2, fun f _ => s1.i f, fun f _ => s1.r f, fun a j _ h => (S.s1 hx hn h).a j, fun o a b c d => ?_, fun z => by rw [h6] at z; cases z⟩
  rotate_left
  · have so := S.so a (fun z => by
      have := S.1
      unfold ArH ArT tg at z
      unfold tg at c d
      rcases hx with ⟨rfl, rfl, -⟩ | ⟨rfl, rfl, -⟩ <;> omega)
    exact ⟨fun f _ _ => so.i f, fun f _ _ => so.r f⟩
  have K4 := S.1
  unfold ArH ArT tg at z
  unfold TZ tg
  rcases hx with ⟨rfl, rfl, -⟩ | ⟨rfl, rfl, -⟩ <;> omega
/-- nodes of the first set are made -/
theorem SvR.sa (S : StA 133 134 D M K D1 M1 K1) (hn : 167 ≤ mn M) (hK : K1 ≤ 40000) : SvR I A0 D M D1 M1 := by
  obtain ⟨a1, a2, a3, a4, a5, a6, a7, a8, -⟩ := (SvR.sh S.h NdS2.one hn hK : SvR [136] A0 D M D1 M1)
  have K4 := S.1
  have s1 := S.s1 NdS2.one hn (o := 1) (by decide)
  refine ⟨a1, a2, a3, a4, fun f _ => s1.i f, a6, a7, fun o a b c d => ⟨fun f y _ => (a8 o a b c d).1 f y (by
    cases e : ([136] : List Nat).contains f with
    | false => rfl
    | true =>
      have : f ∈ ([136] : List Nat) := by simpa using e
      simp only [List.mem_cons, List.not_mem_nil, or_false] at this
      omega), (a8 o a b c d).2⟩, fun _ => ⟨S.2.2.1 136 (by decide), fun o a b c => ?_, ?_, fun j => ?_⟩⟩
  · have so := S.so a (fun z => by unfold ArT tg at z; unfold tg at c; omega)
    exact ⟨fun f _ => so.i f, fun f _ => so.r f⟩
  · exact (S.so (show 135 < mn M by omega) (fun z => by
      rw [tgo_s (by decide)] at z
      unfold ArT tg at z; omega)).i 604
  · exact (S.so (show 137 < mn M by omega) (fun z => by
      rw [tgo_s (by decide)] at z
      unfold ArT tg at z; omega)).x j
theorem SvR.kf (k : KF D I' R' A' Xs M M1) (hI : I'.all I.contains = true) (hR : R'.all (fun x => x == 69) = true) (hR2 : R'.contains 2605 = false ∧ R'.contains 4201 = false) (hA : A'.all (fun a => A0.contains a || decide (133 ≤ a)) = true) (h6 : (I.contains 136 || (I'.all (fun g => decide (g < 3000) && !(g == 604)) && !Xs.contains 137)) = true := by rfl) : SvR I A0 D M D M1 := by
  have rm := rm_same (D := D) (M := M) (M' := M1) ⟨k.n, k.2.2.2.2.2.2.2.2⟩ (fun o => ⟨k.r hR2.1 o, k.r hR2.2 o, k.gl o⟩)
  refine ⟨Dx.rf D M, k.1, fun _ _ _ => rfl, ⟨Nat.le_of_eq rm.1, Nat.le_of_eq rm.2⟩, fun f z => k.i (ncon hI z) 1, fun f z => k.r ?_ 1, fun a j z y => k.ga ?_ j, OlV.kf k hI ?_, fun z => ?_⟩
  · cases e : R'.contains f with
    | false => rfl
    | true =>
      have := List.all_eq_true.mp hR f (by simpa using e)
      exact absurd (by simpa using this) z
  · cases e : A'.contains a with
    | false => rfl
    | true =>
      have := List.all_eq_true.mp hA a (by simpa using e)
      rw [z, Bool.false_or] at this
      have := of_decide_eq_true this
      omega
  · refine List.all_eq_true.mpr (fun x hx => ?_)
    have := List.all_eq_true.mp hR x hx
    rw [show x = 69 by simpa using this]; rfl
  · rw [z, Bool.false_or, Bool.and_eq_true] at h6
    have hi : ∀ f, (3000 ≤ f ∨ f = 604) → I'.contains f = false := fun f hf => by
      cases e : I'.contains f with
      | false => rfl
      | true =>
        have := List.all_eq_true.mp h6.1 f (by simpa using e)
        rw [Bool.and_eq_true] at this
        have h1 := of_decide_eq_true this.1
        have h2 : (f == 604) = false := by simpa using this.2
        rcases hf with hf | hf
        · omega
        · rw [hf] at h2; exact absurd h2 (by decide)
    have hr : ∀ f, 3000 ≤ f → R'.contains f = false := fun f hf => by
      cases e : R'.contains f with
      | false => rfl
      | true =>
        have := List.all_eq_true.mp hR f (by simpa using e)
        have : f = 69 := by simpa using this
        omega
    exact ⟨rfl, fun o _ _ _ => ⟨fun f hf => k.i (hi f (Or.inl hf)) o, fun f hf => k.r (hr f hf) o⟩, k.i (hi 604 (Or.inr rfl)) 135, fun j => k.gx (by simpa using h6.2) j⟩
/-- what is read stays when nothing is made -/
theorem EnS.kf (e : EnS x0 l X Kf V s D M K) (k : KF D I' R' A' Xs M M1) (hI : (fqI ++ [601, 602, 603, 604, 4202]).all (fun k => !I'.contains k) = true) (hR : (fqR ++ [69, 600, 801, 802, 803, 804, 805, 806, 2605, 3204, 4201]).all (fun k => !R'.contains k) = true) (hA : A'.contains 121 = false) (h128 : ∀ j, mA M1 128 j = mA M 128 j) (hX : Xs.all (fun x => x < 167) = true) : EnS x0 l X Kf V s D M1 K ∧ FrQ D M D M1 := by
  obtain ⟨A, r69, hK, va⟩ := e
  rw [List.all_append, Bool.and_eq_true] at hI hR
  have fr := FrQ.kf k hI.1 hR.1 hA h128
  have hR2 := hR.2
  rw [List.all_cons, Bool.and_eq_true] at hR2
  exact ⟨⟨A.kf k hI.2 hR2.2 hX, by rw [k.r (by simpa using hR2.1)]; exact r69, hK, va.fr fr⟩, fr⟩
/-- the other set -/
theorem ArS.ot (B : ArS x0' l' X' D M K2) (hx' : NdS2 x0' l' X' H') (S : StH x0 l D M K D1 M1 K1) (hx : NdS2 x0 l X H) (A : ArS x0 l X D M K) (A1 : ArS x0 l X D1 M1 K1) (hne : l' ≠ l) : ArS x0' l' X' D1 M1 K2 ∧ SnK D M D1 M1 l' K2 := by
  have hn : x0' < 136 ∧ x0' ≠ x0 ∧ x0' ≠ l ∧ x0' ≠ 137 ∧ l' ∈ flL := by rcases hx with ⟨rfl, rfl, -⟩ | ⟨rfl, rfl, -⟩ <;> rcases hx' with ⟨rfl, rfl, -⟩ | ⟨rfl, rfl, -⟩ <;> first | exact absurd rfl hne | decide
  have so : So M M1 x0' := S.so (by have := A.2.2.1; omega) (fun z => by
    rw [tgo_s (by omega)] at z
    have := hx.nu
    unfold ArH ArT tg at z; omega)
  have e := S.2.2.1 l' hne
  obtain ⟨-, -, -, ⟨b1, b2, b3⟩, -⟩ := B
  refine ⟨⟨A1.1, A1.2.1, A1.2.2.1, ⟨by rw [so.i]; exact b1, by rw [e]; exact b2, b3⟩, A1.2.2.2.2⟩, fun k hk => ?_⟩
  have s := S.sl hx A.1 hn.2.2.2.2 hne (k := k) (by omega) (by have := A1.2.2.2.1.2.2; omega)
  exact ⟨by rw [e], s.i, s.r⟩
end EQS
