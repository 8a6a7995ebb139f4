/-! Layer B: the text part of the invariant, when other things are written -/
set_option maxRecDepth 100000
/-- fields of the twin in which it stands -/
abbrev itK : List Nat := [19, 22, 23, 24, 25, 26, 27, 28, 29, 30, 31, 32, 33, 34, 40, 41, 42, 43, 44, 45, 46, 47, 48, 49, 50, 51, 52, 53, 54, 55, 56, 57, 58, 59, 60, 61, 62, 63, 64, 65, 66, 67, 68, 69, 70, 71, 72]
/-- where it stands in the component -/
def Tx (P : Nat → Prop) (M : CM) (o : Nat) : Prop := (4 ≤ o ∧ o ≤ 97) ∨ P o ∨ o = mR M 201 4 ∨ Ar M o
section ITMV
variable {C : PC} {M M' : CM} {σ σ' : TS} {mss fss xs ys : List Nat} {B l : Nat} {P X : Nat → Prop} {S : List Nat}
theorem Ls.uq (h : Ls M l xs) (g : Ls M l ys) : xs = ys := by
  obtain ⟨_, a2, a3, _, a5⟩ := h
  obtain ⟨_, b2, b3, _, b5⟩ := g
  have e : xs.length = ys.length := by rw [a2, bI_eq (by omega) (by omega)] at b2; exact b2
  rcases a5 with ⟨q, qx⟩ | ⟨q1, q2, q3, q4, q5, q6⟩
  · have : ys = [] := List.eq_nil_of_length_eq_zero (by rw [← e, qx]; rfl)
    rw [qx, this]
  · rcases b5 with ⟨p, px⟩ | ⟨p1, p2, p3, p4, p5, p6⟩
    · exact absurd p q1.2
    · refine List.ext_getElem e (fun i h1 h2 => ?_)
      have := (q6 i h1).symm.trans (p6 i h2)
      rw [List.getD_eq_getElem?_getD, List.getD_eq_getElem?_getD, List.getElem?_eq_getElem h1, List.getElem?_eq_getElem h2] at this
      exact this
theorem KeysOK.so4 (h : KeysOK M) (hs : ∀ o, 4 ≤ o → o < 88 → So M M' o) : KeysOK M' := by
  obtain ⟨⟨h1, h2, h3, h4, h5, h6⟩, h7⟩ := h
  refine ⟨⟨by rw [(hs 5 (by decide) (by decide)).k]; exact h1, by rw [(hs 5 (by decide) (by decide)).r]; exact h2, by rw [(hs 5 (by decide) (by decide)).i]; exact h3, by rw [(hs 79 (by decide) (by decide)).k]; exact h4, by rw [(hs 79 (by decide) (by decide)).l]; exact h5, by rw [(hs 4 (by decide) (by decide)).k]; exact h6⟩, fun j hj => ?_⟩
  have kl : ∀ j, j < 38 → (4 ≤ kid j ∧ 4 ≤ kar j) ∧ kid j < 88 ∧ kar j < 88 := by decide +kernel
  obtain ⟨⟨a1, a2, a3, a4, a5, a6⟩, a7⟩ := h7 j hj
  have hi := hs _ (kl j hj).1.1 (kl j hj).2.1
  have ha := hs _ (kl j hj).1.2 (kl j hj).2.2
  exact ⟨⟨by rw [(hs 79 (by decide) (by decide)).x]; exact a1, by rw [hi.k]; exact a2, by rw [hi.r]; exact a3, by rw [hi.i]; exact a4, by rw [ha.k]; exact a5, by rw [ha.l]; exact a6⟩, fun i hi => by rw [ha.a]; exact a7 i hi⟩
theorem Lg.kp (g : Lg M l) (hn : mn M ≤ mn M') (hk : ∀ o, o < mn M → mk M' o = mk M o) (s : So M M' l) (sa : mR M 4201 l ≠ 4398046511104 → So M M' (mR M 4201 l)) : Lg M' l := fun z => by
  rw [s.r] at z ⊢
  obtain ⟨u1, u2⟩ := g z
  have s2 := sa z
  exact ⟨by rw [s2.l]; exact u1, fun i hi => by
    rw [s2.l] at hi
    rw [s2.x]
    rcases u2 i hi with q | q
    · exact Or.inl q
    · exact Or.inr (q.kp hn hk)⟩
theorem TP.tt {T : Nat → Prop} {Mt N : CM} (h : TP C T Mt M σ xs P) : TP C (fun _ => True) N M σ xs P := ⟨fun o ho => ⟨Or.inl trivial, (h.1 o ho).2⟩, h.2⟩
theorem Tx.rng (h : ∀ o, o < mn M → X o → ¬ Tx P M o ∧ mk M o ≠ 23) {o : Nat} (ho : o < mn M) (hx : X o) : ¬ P o := fun hp => (h o ho hx).1 (Or.inr (Or.inl hp))
theorem IT.mv (I : IT C B P mss fss M σ) (F : Fz X M M') (hX : ∀ o, o < mn M → X o → ¬ Tx P M o ∧ mk M o ≠ 23) (h9 : mI M' 9 1 = mI M 9 1) (f : Ft S σ σ') (hK : itK.all (fun k => !S.contains k) = true) : IT C B P mss fss M' σ' ∧ Wz C C P M M' σ σ' := by
  obtain ⟨⟨K0, ⟨L, W⟩, h167, k90, k2, k91⟩, ⟨c1, c2, c3, c4⟩, ⟨kt, K9, u1, u2, u3⟩, ⟨l88, l89, ⟨b5, l95⟩, ⟨b6, l96⟩, ⟨b7, l97⟩, g88, g89, hS⟩, ⟨⟨m24, t49⟩, f12, cf, t48, hfn⟩, hT, ⟨E, e1, e2⟩, ⟨K, y1, y2, y3⟩, ⟨Q, q1, q2, q3⟩, ⟨N, w1, w2, w3⟩, ⟨Q2, x1, x2, x3⟩⟩ := I
  have hf : ∀ k, k ∈ itK → S.contains k = false := fun k hk => by
    have := List.all_eq_true.mp hK k hk
    simpa using this
  have mem : ∀ L : List Nat, L.all (fun k => itK.contains k) = true → L.all (fun k => !S.contains k) = true := fun L hL => by
    rw [List.all_eq_true]
    intro k hk
    rw [hf k (by
      have := List.all_eq_true.mp hL k hk
      simpa using this)]; rfl
  have so : ∀ o, o < mn M → Tx P M o → So M M' o := fun o ho h => F.so ho (fun z => (hX o ho z).1 h)
  have s0 : ∀ o, 4 ≤ o → o ≤ 97 → So M M' o := fun o h1 h2 => so o (by omega) (Or.inl ⟨h1, h2⟩)
  have sN : So M M' (mR M 201 4) := so _ W.2.2.2.2.2.2.2.1 (Or.inr (Or.inr (Or.inl rfl)))
  have sA : ∀ l, l ∈ arL → mR M 4201 l ≠ 4398046511104 → So M M' (mR M 4201 l) := fun l hl h => so _ (by
    rcases (hS l hl).2 with q | q
    · exact absurd q h
    · exact q.1.2.1) (Or.inr (Or.inr (Or.inr ⟨l, hl, rfl⟩)))
  have sl : ∀ l, l ∈ arL → So M M' l := fun l hl => s0 l (by have := arL_lt hl; omega) (by have := arL_lt hl; omega)
  have rw' : ∀ l xs, l ∈ arL → Ls M l xs → Ls M' l xs := fun l xs hl h => h.kp F.1 (fun o ho => F.k ho) (sl l hl) (sA l hl)
  have rr : ∀ l, l ∈ arL → mR M' 4201 l = mR M 4201 l := fun l hl => (sl l hl).r _
  have ws : ∀ w, wc M' w = wc M w := fun w => wc_so (s0 4 (by decide) (by decide)) sN w
  have v : Wz C C P M M' σ σ' := Wz.of (by omega : cnf C ≤ 12) F (fun o ho z => ⟨Tx.rng hX ho z, (hX o ho z).2⟩) (fun o ho => (hT.nx ho).1.2) (fun w _ => ws w) ⟨Tz.ft f (mem _ (by decide)), Qz.ft f (mem _ (by decide)), Mz.ft f (mem _ (by decide)), Ez.ft f (mem _ (by decide))⟩ (fun k _ => (f 42 (hf 42 (by decide))).2.2.1 k)
  have ti : ∀ k, k ∈ itK → tI σ' k = tI σ k := fun k hk => (f k (hf k hk)).1
  have T2 : TP C (fun _ => True) M M' σ' mss P := hT.mv (by omega) F (fun o ho z => ⟨Tx.rng hX ho z, (hX o ho z).2⟩) (fun w _ => ws w) (fun l hl => Or.inl (rr l hl)) ((s0 4 (by decide) (by decide)).r _) ⟨Tz.ft f (mem _ (by decide)), Qz.ft f (mem _ (by decide)), Mz.ft f (mem _ (by decide)), Ez.ft f (mem _ (by decide))⟩ (fun k _ => ⟨fun g hg => (f g (hf g (by rcases hg with rfl | rfl | rfl | rfl <;> decide))).2.2.1 k, (f 41 (hf 41 (by decide))).2.2.2 k⟩) (fun k _ => ⟨(f 42 (hf 42 (by decide))).2.2.1 k, (f 43 (hf 43 (by decide))).2.2.1 k⟩)
  have hn := F.1
  refine ⟨⟨⟨K0.so4 (fun o h1 h2 => s0 o h1 (by omega)), ⟨L, W.so hn (s0 4 (by decide) (by decide)) sN⟩, by omega, by rw [F.k (by omega)]; exact k90, ⟨by rw [(F.2.1 2 (by omega)).1]; exact k2.1, by rw [(F.2.1 2 (by omega)).2]; exact k2.2⟩, fun o h1 h2 => by rw [F.k (by omega)]; exact k91 o h1 h2⟩, ⟨c1, c2, c3, c4⟩, ⟨kt.kp f (hf 22 (by decide)) (hf 23 (by decide)), K9, by rw [h9]; exact u1, by rw [ti 19 (by decide)]; exact u2, u3⟩, ⟨rw' 88 _ (by decide) l88, rw' 89 _ (by decide) l89, ⟨b5, rw' 95 _ (by decide) l95⟩, ⟨b6, rw' 96 _ (by decide) l96⟩, ⟨b7, rw' 97 _ (by decide) l97⟩, g88.kp hn (fun o ho => F.k ho) (sl 88 (by decide)) (sA 88 (by decide)), g89.kp hn (fun o ho => F.k ho) (sl 89 (by decide)) (sA 89 (by decide)), fun l hl => ?_⟩, ⟨⟨m24, by rw [ti 49 (by decide)]; exact t49⟩, f12, cf, by rw [ti 48 (by decide)]; exact t48, fun k hk => ⟨(hfn k hk).1, (hfn k hk).2.wz (hT.2.2.1 k hk) v hk ((f 40 (hf 40 (by decide))).2.2.2 k)⟩⟩, T2.tt, ⟨E, by rw [ti 58 (by decide)]; exact e1, e2⟩, ⟨K, by rw [ti 65 (by decide)]; exact y1, y2, y3⟩, ⟨Q, by rw [ti 72 (by decide)]; exact q1, q2, q3⟩, ⟨N, by rw [ti 28 (by decide)]; exact w1, w2, w3⟩, Q2, by rw [ti 34 (by decide)]; exact x1, x2, x3⟩, v⟩
  obtain ⟨a1, a2⟩ := hS l hl
  refine ⟨by rw [(sl l hl).k]; exact a1, ?_⟩
  rw [rr l hl]
  rcases a2 with q | ⟨⟨q1, q2, q3⟩, q4⟩
  · exact Or.inl q
  · exact Or.inr ⟨⟨q1, by omega, by rw [F.k q2]; exact q3⟩, fun l' hl' hne => by rw [rr l' hl']; exact q4 l' hl' hne⟩
theorem IT.b1 (I : IT C B P mss fss M σ) (h : B ≤ l) : IT C l P mss fss M σ := by
  obtain ⟨a1, ⟨c1, c2, c3, c4⟩, ⟨kt, K9, u1, u2, u3⟩, a4, a5, a6, a7, ⟨K, y1, y2, y3⟩, ⟨Q, q1, q2, q3⟩, ⟨N, w1, w2, w3⟩, ⟨Q2, x1, x2, x3⟩⟩ := I
  exact ⟨a1, ⟨c1, c2, c3, by omega⟩, ⟨kt, K9, u1, u2, by omega⟩, a4, a5, a6, a7, ⟨K, y1, y2, by omega⟩, ⟨Q, q1, q2, by omega⟩, ⟨N, w1, w2, by omega⟩, Q2, x1, x2, by omega⟩
/-- what the text part isn't -/
theorem IT.ntx (I : IT C B P mss fss M σ) {o : Nat} (ho : o < mn M) (h : Tx P M o) : 4 ≤ o ∧ (o ≤ 97 ∨ 167 ≤ o) := by
  obtain ⟨⟨K0, ⟨L, W⟩, h167, k90, k2, k91⟩, ⟨c1, c2, c3, c4⟩, -, ⟨l88, l89, -, -, -, g88, g89, hS⟩, -, hT, -⟩ := I
  rcases h with h | h | h | ⟨l, hl, h⟩
  · exact ⟨h.1, Or.inl h.2⟩
  · have := (hT.nx h).1
    exact ⟨by omega, Or.inr this.1⟩
  · rcases W.2.2.2.2.2.2.1 with q | q
    · exact ⟨by omega, Or.inl (by omega)⟩
    · exact ⟨by omega, Or.inr (by omega)⟩
  · rcases (hS l hl).2 with q | q
    · refine ⟨by omega, Or.inr (by omega)⟩
    · exact ⟨by omega, Or.inr (by omega)⟩
/-- object 1 and the bytes in and out are written -/
theorem IT.ko {S' A : List Nat} (I : IT C B P mss fss M σ) (k : K1f S' A M M') (hA : A.all (fun a => decide (a < 4 ∧ 1 ≤ a)) = true) (h9 : S'.contains 9 = false) (k1 : mk M 1 = 1 ∧ mk M 3 = 51) (f : Ft S σ σ') (hK : itK.all (fun k => !S.contains k) = true) : IT C B P mss fss M' σ' ∧ Wz C C P M M' σ σ' := by
  refine I.mv k.fz (fun o ho hx => ?_) (k.2.2.1 9 1 (fun z => by rw [h9] at z; exact absurd z.1 (by decide))) f hK
  have k2 := I.1.2.2.2.2.1.1
  have h4 : 1 ≤ o ∧ o < 4 := by
    rcases hx with rfl | hx
    · exact ⟨by decide, by decide⟩
    · have := List.all_eq_true.mp hA o (by simpa using hx)
      simp only [decide_eq_true_eq] at this
      omega
  refine ⟨fun z => by have := I.ntx ho z; omega, fun z => ?_⟩
  rcases (by omega : o = 1 ∨ o = 2 ∨ o = 3) with rfl | rfl | rfl
  · rw [k1.1] at z; exact absurd z (by decide)
  · rw [k2] at z; exact absurd z (by decide)
  · rw [k1.2] at z; exact absurd z (by decide)
end ITMV
