/-! Layer B: blocks: the twin walks so, whole -/
set_option maxRecDepth 100000
section TWALK2
variable {s s' s0 s1 : TS} {U S d e f n u k v i b : Nat} {ins : Nat → Nat → Bool} {gv : Nat → Nat} {ct c p : Nat → Bool} {li : Nat → Nat → Int32} {P Q : TjS} {x L : List Nat}
theorem TjI.bij (T : TwC U S ins gv ct c li s0) (i : TjI S c P) (b : Nat) : cnB (fun u => ct u && decide (blT P (gv u) = b + 1)) U = cnB (fun f => decide (blT P f = b + 1)) S := by
  obtain ⟨-, -, -, t4, t5, t6, -⟩ := T
  exact cnB_bij (p := fun f => decide (blT P f = b + 1)) (fun u hu z => (t4 u hu z).1) t5 t6 (fun f hf z => (i.1 f (i.2.2.1 f (by have := of_decide_eq_true z; omega)).1).1.2)
theorem TjI.mono (i : TjI S c P) (h : b ≤ k) (hk : k ≤ bkT P) : bfT P b ≤ bfT P k := by
  rw [(i.bfc b (by omega)).1, (i.bfc k hk).1]
  exact cnB_mono (fun u hu z => decide_eq_true (by have := of_decide_eq_true z; omega))
theorem t_257 (T : TwC U S ins gv ct c li s0) (f : Ft twT s0 s) (hk : k < 200) {a : Nat} (ha : a < 180) (h209 : tA s 209 k = nI a) (hn : n < 1000) (h1 : n = 1 → ∃ g u, g < S ∧ c g = true ∧ u < U ∧ tA s 211 a = nI g ∧ tA s 212 a = nI u) : ∃ s', J_endBlock_257 (nI k) (nI n) s = some ((), s') ∧ s' = tsA s 213 k (if n = 1 then li (ix (tA s 211 a)) (ix (tA s 212 a)) else 0) := by
  obtain ⟨⟨-, -, U180, S180⟩, -, -, -, -, -, -, t8, t9⟩ := T
  have ik : inb (nI k) 400 := inb_nI' (by omega) (by decide)
  have xk : ix (nI k) = k := ix_nI (by omega)
  have ia : inb (nI a) 400 := inb_nI' (by omega) (by decide)
  have xa : ix (nI a) = a := ix_nI (by omega)
  have e0 : nZ 0 = 0 := by decide
  have e1 : nZ 1 = 1 := by decide
  refine ⟨_, ?_, rfl⟩
  unfold J_endBlock_257
  by_cases z : n = 1
  · obtain ⟨g, u, q1, q2, q3, q4, q5⟩ := h1 z
    rw [ifT z, ifT (show nI n = (1 : Int32) by rw [z]; rfl), ifT ik, xk, h209, ifT ia, ifT ik, ifT ia, xa, q4, q5, t8 g u s q1 q3 q2 f, ob_some, ix_nI (by omega), ix_nI (by omega)]
    rcases t9 g u with r | r
    · rw [r, ifT rfl, ifT ik, e0]; rfl
    · rw [r, ifF (by decide), ifT ik, e1]; rfl
  · rw [ifF z, ifF (show ¬ nI n = 1 from fun y => z ((bI_eq (b := 1) (by omega) (by decide)).mp y)), ifT ik, xk, e0]; rfl
theorem t_end (T : TwC U S ins gv ct c li s0) (i : TjI S c Q) (hx : stT Q = x ++ e :: L) (hA : TtA S Q s) (hL : TtL S U gv ct li Q s) (f : Ft twT s0 s) : ∃ s', F_endBlock (nI e) s = some ((), s') ∧ TtA S (endT x.length Q) s' ∧ TtL S U gv ct li (endT x.length Q) s' ∧ Ft twT s0 s' := by
  obtain ⟨⟨t197, t143, U180, S180⟩, t2, t3, t4, t5, t6, t7, t8, t9⟩ := id T
  have fu := fu2
  obtain ⟨f1, f2, f3, f4, f5⟩ := i.fin hx
  obtain ⟨y, hy⟩ : ∃ y, y = e :: L := ⟨_, rfl⟩
  rw [← hy] at hx f4
  obtain ⟨E, hE⟩ : ∃ E, E = endT x.length Q := ⟨_, rfl⟩
  have ll : (stT Q).length - x.length = y.length := by rw [hx, List.length_append]; omega
  have bkE : bkT E = bkT Q + 1 := by rw [hE]; rfl
  have bfE : ∀ b, bfT E b = if b = bkT Q + 1 then bfT Q (bkT Q) + y.length else bfT Q b := fun b => by
    rw [hE]
    show sN (bfT Q) (bkT Q + 1) (bfT Q (bkT Q) + ((stT Q).length - x.length)) b = _
    rw [ll]; rfl
  have ftE : ftT E = if ftT Q = none ∧ 12 < y.length then some (bkT Q) else ftT Q := by
    rw [hE]
    show (if ftT Q = none ∧ 12 < (stT Q).length - x.length then some (bkT Q) else ftT Q) = _
    rw [ll]
  have wsE : wsT E = wsT Q := by rw [hE]; rfl
  rw [← hE] at f1 f2 f3 f4 f5 ⊢
  have bdE := f1.bd
  have bdQ := i.bd
  have lq := i.len
  have lxy : (stT Q).length = x.length + y.length := by rw [hx, List.length_append]
  obtain ⟨a1, ⟨a2, a2'⟩, a3, a4, a5, a6, a7⟩ := hA
  have bk180 : bkT Q < 180 := by have := bdE.2.1; omega
  have ik : inb (nI (bkT Q)) 400 := inb_nI' (by omega) (by decide)
  have xk : ix (nI (bkT Q)) = bkT Q := ix_nI (by omega)
  have bfk : bfT Q (bkT Q) ≤ S := bdQ.1 _ (Nat.le_refl _)
  have bfn : bfT Q (bkT Q) + y.length ≤ S := by
    have := bdE.1 (bkT Q + 1) (by omega)
    rw [bfE, ifT rfl] at this; exact this
  have cN : cnB (fun f => decide (blT E f = bkT Q + 1)) S = y.length := by
    have := (f1.2.2.2.1.2 (bkT Q) (by omega)).1
    rw [bfE, ifT rfl, bfE, ifF (by omega)] at this; omega
  have cNu : cnB (fun u => ct u && decide (blT E (gv u) = bkT Q + 1)) U = y.length := by rw [f1.bij T]; exact cN
  -- the steps
  obtain ⟨s2, hs2⟩ : ∃ q, q = tsI s 208 (nI (bkT Q + 1)) := ⟨_, rfl⟩
  obtain ⟨s4, hs4⟩ : ∃ q, q = tsA s2 209 (bkT Q) (nI (bfT Q (bkT Q))) := ⟨_, rfl⟩
  have f4s : Ft [208, 209] s s4 := by rw [hs4, hs2]; exact ((Ft.rf _ s).p_tsI rfl).p_tsA rfl
  have yl : 1 ≤ y.length := by rw [hy, List.length_cons]; omega
  obtain ⟨s16, p1, p2, p3, p4⟩ := t_pop (c := c) (x := x) (y := y) S180 i hx hy y.length 0 FU s4 1 (by omega) (by omega) (by rw [(f4s 220 rfl).1, a2, lxy]) (fun i hi => by rw [(f4s 217 rfl).2.2.1]; exact a2' i hi) (fun g hg => by
    rw [List.drop_length, ifF (by simp), ifF (by simp), (f4s 196 rfl).2.2.1, (f4s 218 rfl).2.2.1]
    exact ⟨(a1 g hg).2.2.1, (a1 g hg).2.2.2⟩) (by
    constructor
    · intro q; exact absurd q (by decide)
    · intro q; omega)
  obtain ⟨s19, hs19⟩ : ∃ q, q = tsA s16 210 (bkT Q) (nI y.length) := ⟨_, rfl⟩
  have f16 : Ft [196, 208, 209, 218, 220] s s16 := (f4s.mono (by decide)).tr (p2.mono (by decide))
  have f19 : Ft [196, 208, 209, 210, 218, 220] s s19 := (f16.mono (by decide)).tr (by rw [hs19]; exact (Ft.rf _ _).p_tsA rfl)
  have g196 : ∀ g, g < S → tA s19 196 g = blI (blT E g) := fun g hg => by
    rw [hs19, tA_tsA, ifF (by omega), (p4 g hg).1, f4]
    by_cases q : g ∈ y
    · rw [ifT q, ifT q]; unfold blI; rw [ifF (by omega)]; rfl
    · rw [ifF q, ifF q]
  have blE : ∀ g, blT E g ≤ bkT Q + 1 := fun g => by
    by_cases q : blT E g = 0
    · omega
    · have := (f1.2.2.1 g q).2; omega
  have g214 : tI s19 214 = nI (bfT Q (bkT Q)) := (f19 214 rfl).1.trans a5
  obtain ⟨s34, q1, q2, q3, q4⟩ := t_107 (s0 := s19) (S := S) ((f19 143 rfl).1.trans ((f 143 rfl).1.trans t143)) S180 (nI (bkT Q)) (nI y.length) (fun f => decide (blT E f = bkT Q + 1)) (fun g hg => by
    rw [g196 g hg, blI_eq (by have := blE g; omega) (by omega)]
    exact ⟨fun z => of_decide_eq_true z, fun z => decide_eq_true z⟩) (fun g hg z => by
    rw [(f19 180 rfl).2.2.1, (f 180 rfl).2.2.1]
    exact t7 g hg (f1.1 g (f1.2.2.1 g (by have := of_decide_eq_true z; omega)).1).1.2) (bfT Q (bkT Q)) (by rw [cN]; omega) S 0 FU s19 (by omega) (by omega) (Ft.rf _ _) (fun g hg => by omega) (fun _ _ => rfl)
  have f34 : Ft [196, 208, 209, 210, 211, 218, 220] s s34 := (f19.mono (by decide)).tr (q2.mono (by decide))
  obtain ⟨s53, r1, r2, r3, r4⟩ := t_167 (s0 := s34) (U := U) (gv := gv) ((f34 197 rfl).1.trans ((f 197 rfl).1.trans t197)) U180 S180 (nI (bkT Q)) (nI y.length) ct (fun u => ct u && decide (blT E (gv u) = bkT Q + 1)) (fun u hu => by
    rw [(f34 192 rfl).2.2.1, (f 192 rfl).2.2.1]; exact t3 u hu) (fun u hu hc => ⟨(t4 u hu hc).1.1, by rw [(f34 191 rfl).2.2.1, (f 191 rfl).2.2.1]; exact (t4 u hu hc).2⟩) (fun u hu hc => by
    rw [(q2 196 rfl).2.2.1, g196 _ (t4 u hu hc).1.1, blI_eq (by have := blE (gv u); omega) (by omega)]
    show (ct u && decide (blT E (gv u) = bkT Q + 1)) = true ↔ _
    rw [hc, Bool.true_and]
    exact ⟨fun z => of_decide_eq_true z, fun z => decide_eq_true z⟩) (fun u hu z => by
    have z : (ct u && decide (blT E (gv u) = bkT Q + 1)) = true := z
    rw [Bool.and_eq_true] at z; exact z.1) (bfT Q (bkT Q)) (by rw [cNu]; omega) U 0 FU s34 (by omega) (by omega) (Ft.rf _ _) (fun g hg => by omega) (fun _ _ => rfl)
  have f53 : Ft [196, 208, 209, 210, 211, 212, 218, 220] s s53 := (f34.mono (by decide)).tr (r2.mono (by decide))
  obtain ⟨s55, hs55⟩ : ∃ q, q = tsI s53 214 (nI (bfT Q (bkT Q) + y.length)) := ⟨_, rfl⟩
  have f55 : Ft (twT.drop 2) s s55 := (f53.mono (by decide)).tr (by rw [hs55]; exact (Ft.rf _ _).p_tsI rfl)
  -- the fault
  obtain ⟨s72, b1, b2, b3, b4⟩ : ∃ s72, (if nI y.length ≤ 12 then J_endBlock_257 (nI (bkT Q)) (nI y.length) s55 else ob (F_bad 55 (nI (bkT Q)) s55) fun r73 s72 => J_endBlock_257 (nI (bkT Q)) (nI y.length) s72) = J_endBlock_257 (nI (bkT Q)) (nI y.length) s72 ∧ Ft [0, 1] s55 s72 ∧ (ftT E = none → tI s72 0 = 0) ∧ ∀ b, ftT E = some b → tI s72 0 = 55 ∧ tI s72 1 = nI b := by
    have e0 : tI s55 0 = tI s 0 := (f55 0 rfl).1
    have e1 : tI s55 1 = tI s 1 := (f55 1 rfl).1
    rw [ftE]
    by_cases z : y.length ≤ 12
    · refine ⟨s55, by rw [ifT (show _ ≤ (12 : Int32) from (bI_le (b := 12) (by omega) (by decide)).mpr z)], Ft.rf _ _, ?_, ?_⟩
      · rw [ifF (fun q => by omega), e0]; exact a6
      · rw [ifF (fun q => by omega), e0, e1]; exact a7
    · rw [ifF (show ¬ _ ≤ (12 : Int32) from fun q => z ((bI_le (b := 12) (by omega) (by decide)).mp q))]
      cases hf : ftT Q with
      | none =>
        refine ⟨_, by rw [t_bad (e0.trans (a6 hf)), ob_some], ((Ft.rf _ _).p_tsI rfl).p_tsI rfl, ?_, ?_⟩
        · rw [ifT ⟨rfl, by omega⟩]; intro q; cases q
        · rw [ifT ⟨rfl, by omega⟩]; intro b q; cases q; exact ⟨rfl, rfl⟩
      | some b =>
        have a7 := a7 b hf
        refine ⟨s55, by rw [t_bad2 (by rw [e0, a7.1]; decide), ob_some], Ft.rf _ _, ?_, ?_⟩
        · rw [ifF (fun q => by cases q.1)]; intro q; cases q
        · rw [ifF (fun q => by cases q.1)]; intro b' q; cases q; rw [e0, e1]; exact a7
  have f72 : Ft twT s s72 := (f55.mono (by decide)).tr (b2.mono (by decide))
  have h209 : tA s72 209 (bkT Q) = nI (bfT Q (bkT Q)) := by
    rw [(b2 209 rfl).2.2.1, hs55]
    show tA s53 209 _ = _
    rw [(r2 209 rfl).2.2.1, (q2 209 rfl).2.2.1, hs19, tA_tsA, ifF (by omega), (p2 209 rfl).2.2.1, hs4, tA_tsA, ifT ⟨rfl, rfl⟩]
  have h211 : ∀ j, tA s72 211 j = tA s34 211 j := fun j => by
    rw [(b2 211 rfl).2.2.1, hs55]
    show tA s53 211 _ = _
    rw [(r2 211 rfl).2.2.1]
  have h212 : ∀ j, tA s72 212 j = tA s53 212 j := fun j => by
    rw [(b2 212 rfl).2.2.1, hs55]; rfl
  have first : ∃ g, g < S ∧ blT E g = bkT Q + 1 ∧ tA s72 211 (bfT Q (bkT Q)) = nI g := by
    obtain ⟨g, g1, g2, g3⟩ := cnB_ex (p := fun f => decide (blT E f = bkT Q + 1)) (n := S) (i := 0) (by rw [cN]; omega)
    have := q3 g g1 g2
    rw [g3, Nat.add_zero] at this
    exact ⟨g, g1, of_decide_eq_true g2, by rw [h211]; exact this⟩
  have firstU : ∃ u, u < U ∧ tA s72 212 (bfT Q (bkT Q)) = nI u := by
    obtain ⟨u, g1, g2, g3⟩ := cnB_ex (p := fun u => ct u && decide (blT E (gv u) = bkT Q + 1)) (n := U) (i := 0) (by rw [cNu]; omega)
    have := r3 u g1 g2
    rw [g3, Nat.add_zero] at this
    exact ⟨u, g1, by rw [h212]; exact this⟩
  obtain ⟨s', d1, d2⟩ := t_257 (n := y.length) T (f.tr f72) (k := bkT Q) (by omega) (a := bfT Q (bkT Q)) (by omega) h209 (by omega) (fun _ => by
    obtain ⟨g, g1, g2, g3⟩ := first
    obtain ⟨u, u1, u2⟩ := firstU
    exact ⟨g, u, g1, (f1.1 g (f1.2.2.1 g (by omega)).1).1.2, u1, g3, u2⟩)
  have fe : Ft twT s72 s' := by rw [d2]; exact (Ft.rf _ _).p_tsA rfl
  have v' : ∀ k j, k ≠ 213 → tA s' k j = tA s72 k j := fun k j hk => by rw [d2, tA_tsA, ifF (fun q => hk q.1)]
  have i' : ∀ k, tI s' k = tI s72 k := fun k => by rw [d2]; rfl
  have i72 : ∀ k, k ≠ 0 → k ≠ 1 → tI s72 k = tI s55 k := fun k h0 h1 => (b2 k (by
    show ([0, 1] : List Nat).contains k = false
    simp [h0, h1])).1
  have a72 : ∀ k j, k ≠ 0 → k ≠ 1 → tA s72 k j = tA s53 k j := fun k j h0 h1 => by
    rw [(b2 k (by
      show ([0, 1] : List Nat).contains k = false
      simp [h0, h1])).2.2.1, hs55]; rfl
  refine ⟨s', ?_, ⟨fun g hg => ?_, ⟨?_, fun j hj => ?_⟩, ?_, ?_, ?_, ?_, ?_⟩, ?_, (f.tr f72).tr fe⟩
  · unfold F_endBlock
    rw [a4, nm_eq, nI_addL, ← hs2, nm_eq, ifT ik, xk, show tI s2 214 = nI (bfT Q (bkT Q)) by rw [hs2, tI_tsI, ifF (by decide)]; exact a5, ← hs4, nm_eq, show L_endBlock_30 FU (nI e) (nI (bkT Q)) 0 1 s4 = _ from p1, ob_some, ifT ik, ← hs19, nm_eq, g214, nm_eq, show L_endBlock_107 FU (nI (bkT Q)) (nI y.length) (nI (bfT Q (bkT Q))) 0 s19 = _ from q1, ob_some, (q2 214 rfl).1, g214, nm_eq, show L_endBlock_167 FU (nI (bkT Q)) (nI y.length) (nI (bfT Q (bkT Q))) 0 s34 = _ from r1, ob_some, show tI s53 214 = nI (bfT Q (bkT Q)) by rw [(r2 214 rfl).1, (q2 214 rfl).1, g214], bI_add, ← hs55, nm_eq, b1]
    exact d1
  · obtain ⟨w1, w2, w3, w4⟩ := a1 g hg
    rw [f2, f3, v' _ _ (by decide), v' _ _ (by decide), v' _ _ (by decide), v' _ _ (by decide)]
    refine ⟨?_, fun z => ?_, ?_, ?_⟩
    · rw [a72 215 _ (by decide) (by decide), (f53 215 rfl).2.2.1]; exact w1
    · rw [a72 216 _ (by decide) (by decide), (f53 216 rfl).2.2.1]; exact w2 z
    · rw [a72 196 _ (by decide) (by decide), (r2 196 rfl).2.2.1, (q2 196 rfl).2.2.1]; exact g196 g hg
    · rw [a72 218 _ (by decide) (by decide), (r2 218 rfl).2.2.1, (q2 218 rfl).2.2.1, hs19, tA_tsA, ifF (by omega), (p4 g hg).2, f4]
      by_cases q : g ∈ y
      · rw [ifT q, ifT q, ifF (fun z => by omega)]
      · rw [ifF q, ifF q]
  · rw [i', i72 220 (by decide) (by decide), hs55, tI_tsI, ifF (by decide), (r2 220 rfl).1, (q2 220 rfl).1, hs19, f5]
    exact p3
  · rw [f5] at hj ⊢
    rw [v' _ _ (by decide), a72 217 _ (by decide) (by decide), (f53 217 rfl).2.2.1, a2' j (by omega), hx, getD_l _ hj]
  · rw [i', i72 219 (by decide) (by decide), hs55, tI_tsI, ifF (by decide), (f53 219 rfl).1, wsE]; exact a3
  · rw [i', i72 208 (by decide) (by decide), hs55, tI_tsI, ifF (by decide), (r2 208 rfl).1, (q2 208 rfl).1, hs19, bkE]
    show tI s16 208 = _
    rw [(p2 208 rfl).1, hs4]
    show tI s2 208 = _
    rw [hs2, tI_tsI, ifT rfl]
  · rw [i', i72 214 (by decide) (by decide), hs55, tI_tsI, ifT rfl, bkE, bfE, ifT rfl]
  · intro z; rw [i']; exact b3 z
  · intro b z; rw [i', i']; exact b4 b z
  · intro b hb
    rw [bkE] at hb
    by_cases z : b = bkT Q
    · subst z
      rw [bfE (bkT Q + 1), ifT rfl, bfE (bkT Q), ifF (by omega), Nat.add_sub_cancel_left]
      refine ⟨⟨?_, ?_⟩, fun g hg hz => ?_, fun u hu hc hz => ?_, ?_⟩
      · rw [v' _ _ (by decide)]; exact h209
      · rw [v' _ _ (by decide), a72 210 _ (by decide) (by decide), (r2 210 rfl).2.2.1, (q2 210 rfl).2.2.1, hs19, tA_tsA, ifT ⟨rfl, rfl⟩]
      · rw [v' _ _ (by decide), h211]
        exact q3 g hg (decide_eq_true hz)
      · rw [v' _ _ (by decide), h212]
        exact r3 u hu (by
          show (ct u && decide (blT E (gv u) = bkT Q + 1)) = true
          rw [hc, decide_eq_true hz]; rfl)
      · rw [v' 211 _ (by decide), v' 212 _ (by decide), d2, tA_tsA, ifT ⟨rfl, rfl⟩]
    · have hb : b < bkT Q := by omega
      obtain ⟨⟨l1, l2⟩, l3, l4, l5⟩ := hL b hb
      have pe : (fun f => decide (blT E f = b + 1)) = fun f => decide (blT Q f = b + 1) := funext fun g => by
        rw [f4]
        by_cases q : g ∈ y
        · have : blT Q g = 0 := ((i.2.1.2 g).mp (by rw [hx]; exact List.mem_append_right _ q)).2
          rw [ifT q, this, decide_eq_false (by omega), decide_eq_false (by omega)]
        · rw [ifF q]
      have pe1 : ∀ g, blT E g = b + 1 ↔ blT Q g = b + 1 := fun g => by
        have := congrFun pe g
        exact decide_eq_decide.mp this
      have pu : (fun u => ct u && decide (blT E (gv u) = b + 1)) = fun u => ct u && decide (blT Q (gv u) = b + 1) := funext fun u => by
        show (ct u && decide (blT E (gv u) = b + 1)) = (ct u && decide (blT Q (gv u) = b + 1))
        rw [show decide (blT E (gv u) = b + 1) = decide (blT Q (gv u) = b + 1) from congrFun pe (gv u)]
      have bb : bfT Q b + cnB (fun f => decide (blT Q f = b + 1)) S ≤ bfT Q (bkT Q) := by
        rw [← (i.2.2.2.1.2 b hb).1]
        exact i.mono (by omega) (Nat.le_refl _)
      have b1' := (i.2.2.2.1.2 b hb).2
      have bu := i.bij T b
      have w211 : ∀ j, j < bfT Q (bkT Q) → tA s' 211 j = tA s 211 j := fun j hj => by
        rw [v' _ _ (by decide), h211, q4 j hj, (f19 211 rfl).2.2.1]
      have w212 : ∀ j, j < bfT Q (bkT Q) → tA s' 212 j = tA s 212 j := fun j hj => by
        rw [v' _ _ (by decide), h212, r4 j hj, (f34 212 rfl).2.2.1]
      rw [bfE (b + 1), ifF (by omega), bfE b, ifF (by omega), pe, pu]
      refine ⟨⟨?_, ?_⟩, fun g hg hz => ?_, fun u hu hc hz => ?_, ?_⟩
      · rw [v' _ _ (by decide), a72 209 _ (by decide) (by decide), (r2 209 rfl).2.2.1, (q2 209 rfl).2.2.1, hs19, tA_tsA, ifF (by omega), (p2 209 rfl).2.2.1, hs4, tA_tsA, ifF (by omega), hs2]; exact l1
      · rw [v' _ _ (by decide), a72 210 _ (by decide) (by decide), (r2 210 rfl).2.2.1, (q2 210 rfl).2.2.1, hs19, tA_tsA, ifF (by omega), (f16 210 rfl).2.2.1]; exact l2
      · have hz := (pe1 g).mp hz
        have := cnB_lt (p := fun f => decide (blT Q f = b + 1)) hg (decide_eq_true hz)
        rw [w211 _ (by omega)]
        exact l3 g hg hz
      · have hz := (pe1 (gv u)).mp hz
        have := cnB_lt (p := fun u => ct u && decide (blT Q (gv u) = b + 1)) hu (by
          show (ct u && decide (blT Q (gv u) = b + 1)) = true
          rw [hc, decide_eq_true hz]; rfl)
        rw [w212 _ (by omega)]
        exact l4 u hu hc hz
      · rw [w211 _ (by omega), w212 _ (by omega), ← l5, d2, tA_tsA, ifF (by omega), a72 213 _ (by decide) (by decide), (f53 213 rfl).2.2.1]
theorem TtA.self (h : TtA S P s) (i : TjI S c P) (hw : wkT P e ≠ 0) : TtA S (lowT P e (wkT P e)) s := by
  obtain ⟨h1, h2⟩ := h
  refine ⟨fun f hf => ?_, h2⟩
  obtain ⟨a1, a2, a3, a4⟩ := h1 f hf
  refine ⟨a1, fun hz => ?_, a3, a4⟩
  show _ = nI (sN (loT P) e (min (loT P e) (wkT P e)) f - 1)
  by_cases y : f = e
  · subst y
    rw [sN_eq, Nat.min_eq_left (i.1 f hw).2.2.2]; exact a2 hz
  · rw [sN_ne _ _ y]; exact a2 hz
/-- what stands on the way, the twin -/
def TwO (S U : Nat) (gv : Nat → Nat) (ct : Nat → Bool) (li : Nat → Nat → Int32) (s0 : TS) (Q : TjS) (r : Option (Unit × TS)) : Prop := ∃ s', r = some ((), s') ∧ TtA S Q s' ∧ TtL S U gv ct li Q s' ∧ Ft twT s0 s'
theorem t_tjl {cf : Int32 → TS → Option (Unit × TS)} {rc : Nat → TjS → TjS} (T : TwC U S ins gv ct c li s0) (hg : ∀ e u, e < S → u < U → ins e u = true → gv u < S ∧ c (gv u) = true) (he : e < S) (hro : ∀ e P, e < S → c e = true → TjI S c P → wkT P e = 0 → S < f + wsT P → TjO S c P (rc e P) ∧ wkT (rc e P) e ≠ 0) (hcf : ∀ e P s, e < S → c e = true → TjI S c P → wkT P e = 0 → S < f + wsT P → TtA S P s → TtL S U gv ct li P s → Ft twT s0 s → TwO S U gv ct li s0 (rc e P) (cf (nI e) s)) : ∀ (d n : Nat) (P : TjS) (s : TS), d ≤ U → d < n → TjI S c P → wkT P e ≠ 0 → blT P e = 0 → S < f + wsT P → TtA S P s → TtL S U gv ct li P s → Ft twT s0 s → TwO S U gv ct li s0 (tjl U ins gv rc e d P) (L_walk_59 cf n (nI e) (nI (U - d)) s)
  | 0, 0, _, _, _, hn, _, _, _, _, _, _, _ => absurd hn (Nat.lt_irrefl 0)
  | d + 1, 0, _, _, _, hn, _, _, _, _, _, _, _ => absurd hn (Nat.not_lt_zero _)
  | 0, n + 1, P, s, _, _, i, h1, h2, hf, hA, hL, ff => by
    obtain ⟨⟨t1, t2, t3, t4⟩, -⟩ := T
    refine ⟨s, ?_, hA, hL, ff⟩
    unfold L_walk_59
    rw [(ff 197 rfl).1, t1, ifT ((bI_le (by omega) (by omega)).mpr (by omega))]
  | d + 1, n + 1, P, s, hd, hn, i, h1, h2, hf, hA, hL, ff => by
    have ih := t_tjl T hg he hro hcf d n
    obtain ⟨⟨t197, t143, U180, S180⟩, t2, t3, t4, -⟩ := id T
    obtain ⟨u, hu⟩ : ∃ u, u = U - (d + 1) := ⟨_, rfl⟩
    have uU : u < U := by omega
    have nx : nI u + 1 = nI (U - d) := by rw [nI_addL]; congr 1; omega
    have le : ¬ nI U ≤ nI u := fun z => by have := (bI_le (by omega) (by omega)).mp z; omega
    have iu : inb (nI u) 200 := inb_nI' (by omega) (by decide)
    have xu : ix (nI u) = u := ix_nI (by omega)
    have ie : inb (nI e) 400 := inb_nI' (by omega) (by decide)
    have xe : ix (nI e) = e := ix_nI (by omega)
    have bdP := i.bd
    have row : F_isIn (nI u) (nI e) s = some (tA s0 202 (200 * e + u), s) := by
      unfold F_isIn
      rw [show nI e * (200 : Int32) + nI u = nI (200 * e + u) from by rw [show (200 : Int32) = nI 200 from rfl, nI_mul, bI_add, Nat.mul_comm], ifT (inb_nI' (by omega) (by decide)), ix_nI (by omega), (ff 202 rfl).2.2.1]
    unfold tjl
    rw [← hu]
    by_cases z : ins e u = true
    · obtain ⟨z1, z2⟩ := (t2 e u he uU).mp z
      obtain ⟨g1, g2⟩ := hg e u he uU z
      have g3 := (t4 u uU ((t3 u uU).mpr z2)).2
      rw [ifT z]
      obtain ⟨g, hgg⟩ : ∃ g, g = gv u := ⟨_, rfl⟩
      rw [← hgg] at g1 g2 g3 ⊢
      have ig : inb (nI g) 400 := inb_nI' (by omega) (by decide)
      have xg : ix (nI g) = g := ix_nI (by omega)
      have nl : ¬ nI g < 0 := fun y => lt_nn.mp y (nn_nI (by omega))
      have wg := fun hw => (i.1 g hw).2.1
      obtain ⟨w1, w2, w3, w4⟩ := hA.1 g g1
      have body : L_walk_59 cf (n + 1) (nI e) (nI u) s = if nI g = nI e then L_walk_59 cf n (nI e) (nI (U - d)) s else if 0 ≤ blI (wkT P g) then (if tA s 218 g = 0 then L_walk_59 cf n (nI e) (nI (U - d)) s else L_walk_59 cf n (nI e) (nI (U - d)) (tsA s 216 e (mmin (tA s 216 e) (blI (wkT P g))))) else ob (cf (nI g) s) fun r31 s30 => L_walk_59 cf n (nI e) (nI (U - d)) (tsA s30 216 e (mmin (tA s30 216 e) (tA s30 216 g))) := by
        conv => lhs; unfold L_walk_59
        rw [(ff 197 rfl).1, t197, ifF le, row, ob_some, ifF z1, ifT iu, xu, (ff 192 rfl).2.2.1, ifF z2, ifT iu, (ff 191 rfl).2.2.1, g3, nm_eq, ifF nl, nx]
        simp only [ifT ig, ifT ie, xe, xg, nm_eq, w1]
      rw [body]
      by_cases y : wkT P g = 0
      · have ne : g ≠ e := fun q => h1 (by rw [← q]; exact y)
        rw [ifT y, ifF (fun q => ne (nIq q (by omega) (by omega))), ifF (by rw [blI_lt (by omega)]; exact fun q => q y)]
        obtain ⟨⟨o1, o2, o3⟩, o4⟩ := hro g P g1 g2 i y hf
        have w0 : wkT (rc g P) e ≠ 0 := by rw [o2.1 e h1]; exact h1
        have b0 : blT (rc g P) e = 0 := o2.on i o1 h1 h2
        have lw := o2.ws i o1
        obtain ⟨l1, l2, l3⟩ := TjI.low (e := e) o1 (o1.1 g o4).2.2.1
        have bdQ := o1.bd
        have lg := (o1.1 g o4)
        obtain ⟨s', c1, c2, c3, c4⟩ := hcf g P s g1 g2 i y hf hA hL ff
        rw [c1, ob_some, (c2.1 e he).2.1 w0, (c2.1 g g1).2.1 o4]
        exact ih (lowT (rc g P) e (loT (rc g P) g)) _ (by omega) (by omega) l1 w0 b0 (by show S < f + wsT (rc g P); omega) (c2.low o1 S180 he w0 ⟨lg.2.2.1, by omega⟩) (c3.st ⟨rfl, fun _ => rfl, fun _ => rfl⟩ (fun k j hk => by
          rw [tA_tsA, ifF]
          intro q; rw [q.1] at hk; exact absurd hk (by decide))) (c4.p_tsA rfl)
      · have wg := wg y
        rw [ifF y]
        by_cases w : blT P g = 0
        · rw [ifT w]
          obtain ⟨l1, l2, l3⟩ := TjI.low (e := e) (v := wkT P g) i (by omega)
          by_cases ge : g = e
          · subst ge
            rw [ifT rfl]
            exact ih _ _ (by omega) (by omega) l1 h1 h2 hf (hA.self i h1) (hL.st ⟨rfl, fun _ => rfl, fun _ => rfl⟩ (fun _ _ _ => rfl)) ff
          · have bw : blI (wkT P g) = nI (wkT P g - 1) := by unfold blI; rw [ifF y]
            rw [ifF (fun q => ge (nIq q (by omega) (by omega))), ifT ((blI_lt (by omega)).mpr y), w4, show (if wkT P g ≠ 0 ∧ blT P g = 0 then (1 : Int32) else 0) = 1 from ifT ⟨y, w⟩, ifF (show ¬ (1 : Int32) = 0 by decide), bw, (hA.1 e he).2.1 h1]
            exact ih _ _ (by omega) (by omega) l1 h1 h2 hf (hA.low i S180 he h1 ⟨by omega, by omega⟩) (hL.st ⟨rfl, fun _ => rfl, fun _ => rfl⟩ (fun k j hk => by
              rw [tA_tsA, ifF]
              intro q; rw [q.1] at hk; exact absurd hk (by decide))) (ff.p_tsA rfl)
        · have ne : g ≠ e := fun q => w (by rw [q]; exact h2)
          rw [ifF w, ifF (fun q => ne (nIq q (by omega) (by omega))), ifT ((blI_lt (by omega)).mpr y), w4, show (if wkT P g ≠ 0 ∧ blT P g = 0 then (1 : Int32) else 0) = 0 from ifF (fun q => w q.2), ifT (rfl : (0 : Int32) = 0)]
          exact ih P s (by omega) (by omega) i h1 h2 hf hA hL ff
    · rw [ifF z]
      have body : L_walk_59 cf (n + 1) (nI e) (nI u) s = L_walk_59 cf n (nI e) (nI (U - d)) s := by
        conv => lhs; unfold L_walk_59
        rw [(ff 197 rfl).1, t197, ifF le, row, ob_some, nx]
        by_cases q : tA s0 202 (200 * e + u) = 0
        · rw [ifT q, nm_eq]
        · have q2 : tA s0 192 u = 2 := by
            by_cases q2 : tA s0 192 u = 2
            · exact q2
            · exact absurd ((t2 e u he uU).mpr ⟨q, q2⟩) z
          rw [ifF q, ifT iu, xu, (ff 192 rfl).2.2.1, ifT q2, nm_eq]
      rw [body]
      exact ih P s (by omega) (by omega) i h1 h2 hf hA hL ff
theorem t_tj (T : TwC U S ins gv ct c li s0) (hg : ∀ e u, e < S → u < U → ins e u = true → gv u < S ∧ c (gv u) = true) : ∀ (f e : Nat) (P : TjS) (s : TS), e < S → c e = true → TjI S c P → wkT P e = 0 → S < f + wsT P → TtA S P s → TtL S U gv ct li P s → Ft twT s0 s → TwO S U gv ct li s0 (tj U ins gv f e P) (G_walk f (nI e) s)
  | 0, e, P, s, he, hc, i, h0, hf, _, _, _ => by
    exfalso
    have := i.bd
    omega
  | f + 1, e, P, s, he, hc, i, h0, hf, hA, hL, ff => by
    have ih := t_tj T hg f
    obtain ⟨⟨t197, t143, U180, S180⟩, t2, t3, t4, -⟩ := id T
    have tok := tj_ok (U := U) (ins := ins) (gv := gv) (S := S) (c := c) hg f
    obtain ⟨p1, p2, p3, p4, p5, p6⟩ := i.push he hc h0
    have bd := i.bd
    have ln1 := p1.len
    have bd1 := p1.bd
    have st1 : stT (pushT e P) = stT P ++ [e] := rfl
    rw [st1, List.length_append] at ln1
    have ln1 : (stT P).length + 1 ≤ S := ln1
    have ie : inb (nI e) 400 := inb_nI' (by omega) (by decide)
    have xe : ix (nI e) = e := ix_nI (by omega)
    obtain ⟨r1, ⟨r2, r2'⟩, r3, r4, r5, r6, r7⟩ := id hA
    obtain ⟨s2, hs2⟩ : ∃ q, q = tsA s 215 e (nI (wsT P)) := ⟨_, rfl⟩
    obtain ⟨s4, hs4⟩ : ∃ q, q = tsA s2 216 e (nI (wsT P)) := ⟨_, rfl⟩
    obtain ⟨s5, hs5⟩ : ∃ q, q = tsI s4 219 (nI (wsT P + 1)) := ⟨_, rfl⟩
    obtain ⟨s7, hs7⟩ : ∃ q, q = tsA s5 217 (stT P).length (nI e) := ⟨_, rfl⟩
    obtain ⟨s8, hs8⟩ : ∃ q, q = tsI s7 220 (nI ((stT P).length + 1)) := ⟨_, rfl⟩
    obtain ⟨s10, hs10⟩ : ∃ q, q = tsA s8 218 e 1 := ⟨_, rfl⟩
    have f10 : Ft [215, 216, 217, 218, 219, 220] s s10 := by
      rw [hs10, hs8, hs7, hs5, hs4, hs2]
      exact ((((((Ft.rf _ s).p_tsA rfl).p_tsA rfl).p_tsI rfl).p_tsA rfl).p_tsI rfl).p_tsA rfl
    have a10 : ∀ a j, tA s10 a j = if a = 218 ∧ j = e then 1 else if a = 217 ∧ j = (stT P).length then nI e else if a = 216 ∧ j = e then nI (wsT P) else if a = 215 ∧ j = e then nI (wsT P) else tA s a j := fun a j => by
      rw [hs10, tA_tsA, hs8]
      show (if a = 218 ∧ j = e then 1 else tA s7 a j) = _
      rw [hs7, tA_tsA, hs5]
      show (if a = 218 ∧ j = e then 1 else if a = 217 ∧ j = (stT P).length then nI e else tA s4 a j) = _
      rw [hs4, tA_tsA, hs2, tA_tsA]
    have i10 : tI s10 220 = nI ((stT P).length + 1) ∧ tI s10 219 = nI (wsT P + 1) := by
      rw [hs10]
      refine ⟨?_, ?_⟩
      · show tI s8 220 = _
        rw [hs8, tI_tsI, ifT rfl]
      · show tI s8 219 = _
        rw [hs8, tI_tsI, ifF (by decide), hs7]
        show tI s5 219 = _
        rw [hs5, tI_tsI, ifT rfl]
    have A10 : TtA S (pushT e P) s10 := by
      refine ⟨fun g hg => ?_, ⟨?_, fun i hi => ?_⟩, i10.2, (f10 208 rfl).1.trans r4, (f10 214 rfl).1.trans r5, fun z => (f10 0 rfl).1.trans (r6 z), fun b z => ⟨(f10 0 rfl).1.trans (r7 b z).1, (f10 1 rfl).1.trans (r7 b z).2⟩⟩
      · obtain ⟨w1, w2, w3, w4⟩ := r1 g hg
        have bg : blT (pushT e P) g = blT P g := rfl
        refine ⟨?_, fun hw => ?_, ?_, ?_⟩
        · rw [a10, ifF (by omega), ifF (by omega), ifF (by omega)]
          show _ = blI (sN (wkT P) e (wsT P + 1) g)
          by_cases y : g = e
          · rw [ifT ⟨rfl, y⟩, y, sN_eq]; unfold blI; rw [ifF (by omega)]; rfl
          · rw [ifF (fun q => y q.2), sN_ne _ _ y]; exact w1
        · rw [a10, ifF (by omega), ifF (by omega)]
          have hw : sN (wkT P) e (wsT P + 1) g ≠ 0 := hw
          show _ = nI (sN (loT P) e (wsT P + 1) g - 1)
          by_cases y : g = e
          · rw [ifT ⟨rfl, y⟩, y, sN_eq]; rfl
          · rw [ifF (fun q => y q.2), ifF (by omega), sN_ne _ _ y]
            rw [sN_ne _ _ y] at hw
            exact w2 hw
        · rw [a10, ifF (by omega), ifF (by omega), ifF (by omega), ifF (by omega)]; exact w3
        · rw [a10]
          show _ = if sN (wkT P) e (wsT P + 1) g ≠ 0 ∧ blT P g = 0 then 1 else 0
          by_cases y : g = e
          · rw [ifT ⟨rfl, y⟩, y, sN_eq, ifT ⟨by omega, p5⟩]
          · rw [ifF (fun q => y q.2), ifF (by omega), ifF (by omega), ifF (by omega), sN_ne _ _ y]; exact w4
      · rw [st1, List.length_append]; exact i10.1
      · rw [st1, List.length_append] at hi
        have hi : i < (stT P).length + 1 := hi
        rw [a10, st1, ifF (by omega)]
        by_cases y : i = (stT P).length
        · rw [ifT ⟨rfl, y⟩, y, show (stT P).length = (stT P).length + 0 from rfl, getD_r]; rfl
        · rw [ifF (fun q => y q.2), ifF (by omega), ifF (by omega), getD_l _ (by omega)]; exact r2' i (by omega)
    have L10 : TtL S U gv ct li (pushT e P) s10 := hL.st ⟨rfl, fun _ => rfl, fun _ => rfl⟩ (fun k j hk => (f10 k (by
      have : ∀ k, k ∈ [209, 210, 211, 212, 213] → ([215, 216, 217, 218, 219, 220] : List Nat).contains k = false := by decide
      exact this k hk)).2.2.1 j)
    have e1 : nZ 1 = 1 := by decide
    have eT : G_walk (f + 1) (nI e) s = ob (L_walk_59 (G_walk f) FU (nI e) 0 s10) fun q47 s48 => if tA s48 216 e = tA s48 215 e then (ob (F_endBlock (nI e) s48) fun r53 s52 => some ((), s52)) else some ((), s48) := by
      show B_walk (G_walk f) (nI e) s = _
      unfold B_walk
      rw [ifT ie, xe, r3, ← hs2, nm_eq, ifT ie, show tI s2 219 = nI (wsT P) by rw [hs2]; exact r3, ← hs4, nm_eq, show tI s4 219 = nI (wsT P) by rw [hs4, hs2]; exact r3, nI_addL, ← hs5, nm_eq]
      have e220 : ∀ {t : TS}, t = s5 ∨ t = s7 → tI t 220 = nI (stT P).length := fun h => by
        rcases h with h | h
        · rw [h, hs5, tI_tsI, ifF (by decide), hs4, hs2]; exact r2
        · rw [h, hs7, hs5]; exact (show tI s4 220 = _ by rw [hs4, hs2]; exact r2)
      rw [e220 (Or.inl rfl), ifT (inb_nI' (by omega) (by decide)), ix_nI (by omega), ← hs7, nm_eq, e220 (Or.inr rfl), nI_addL, ← hs8, nm_eq, ifT ie, e1, ← hs10, nm_eq]
      simp only [ifT ie]
    rw [eT]
    unfold tj
    have fu := fu2
    obtain ⟨s48, c1, c2, c3, c4⟩ := t_tjl (cf := G_walk f) (rc := tj U ins gv f) (f := f) T hg he tok (fun e P s a b g h l m q p => ih e P s a b g h l m q p) U FU (pushT e P) s10 (Nat.le_refl _) (by omega) p1 p4 p5 (by omega) A10 L10 (ff.tr (f10.mono (by decide)))
    obtain ⟨q1, q2, q3⟩ := tjl_ok hg he tok U (pushT e P) (Nat.le_refl _) p1 p4 p5 (by omega)
    obtain ⟨Q, hQ⟩ : ∃ Q, Q = tjl U ins gv (tj U ins gv f) e U (pushT e P) := ⟨_, rfl⟩
    rw [← hQ] at q1 q2 q3 c2 c3 ⊢
    have we : wkT Q e ≠ 0 := by rw [q2.1 e p4]; exact p4
    have bq := q1.bd
    have wq := q1.1 e we
    rw [Nat.sub_self] at c1
    rw [show L_walk_59 (G_walk f) FU (nI e) 0 s10 = some ((), s48) from c1, ob_some, (c2.1 e he).2.1 we, (c2.1 e he).1]
    have bw : blI (wkT Q e) = nI (wkT Q e - 1) := by unfold blI; rw [ifF we]
    rw [bw]
    unfold tjF
    by_cases z : loT Q e = wkT Q e
    · rw [ifT z, ifT (by rw [z])]
      obtain ⟨x, hx⟩ := q2.2.2.1
      have hx : stT Q = stT P ++ e :: x := by rw [hx]; show (stT P ++ [e]) ++ x = _; rw [List.append_assoc]; rfl
      obtain ⟨s', d1, d2, d3, d4⟩ := t_end T q1 hx c2 c3 c4
      exact ⟨s', by rw [d1, ob_some], d2, d3, d4⟩
    · rw [ifF z, ifF (fun q => z (by have := nIq q (by omega) (by omega); omega))]
      exact ⟨s48, rfl, c2, c3, c4⟩
end TWALK2
