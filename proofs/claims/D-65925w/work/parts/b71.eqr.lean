/-! Layer B: equations: what they are on both sides -/
set_option maxRecDepth 100000
def EqL (R : Nat → Nat → Prop) (L E : Nat) (σ : TS) : List Nat → Nat → Prop
  | [], p => p = 0
  | o :: os, p => (1 ≤ p ∧ L ≤ p ∧ p < E) ∧ R o p ∧ ∃ q, tA σ 70 p = nI q ∧ q < 3000 ∧ EqL R L E σ os q
def EqP (C : PC) (P : Nat → Prop) (M : CM) (σ : TS) (so o : Nat) (x : Int32) : Prop := ∃ n d, x = nI n ∧ n < 9000 ∧ AR P (tN σ) (tQ σ) (cm C) (car C) (cnf C) (cfn C) M σ d so o n
def RfP (C : PC) (P : Nat → Prop) (M : CM) (σ : TS) (o : Nat) (x : Int32) : Prop := ∃ q, x = nI q ∧ q < 7000 ∧ RfR P (tQ σ) (cm C) M σ o q
/-- an equation inside another (0), an action (1), an equation of a class (2), on both sides -/
def EqR (C : PC) (P : Nat → Prop) (M : CM) (σ : TS) (L : Nat) : Nat → Nat → Nat → Nat → Prop
  | 0, _, _, _ => False
  | d + 1, s, o, e => (P o ∧ mk M o = 13 ∧ 1 ≤ e ∧ L ≤ e ∧ e < 3000) ∧
    ((s ≠ 1 ∧ mI M 2400 o = 61 ∧ tA σ 66 e = 1 ∧ EqP C P M σ 0 (mR M 2401 o) (tA σ 67 e) ∧ EqP C P M σ 0 (mR M 2402 o) (tA σ 68 e)) ∨
     (s ≠ 1 ∧ mI M 2400 o = 15 ∧ tA σ 66 e = 2 ∧ RfP C P M σ (mR M 2401 o) (tA σ 67 e) ∧ RfP C P M σ (mR M 2402 o) (tA σ 68 e)) ∨
     ((s ≠ 1 ∧ 1 ≤ d) ∧ mI M 2400 o = 18 ∧ tA σ 66 e = 3 ∧ (∃ w, mI M 2403 o = nI w ∧ 38 ≤ w ∧ w < 38 + cm C ∧ tB σ 71 e = wc M w) ∧ (∃ a b, mI M 2404 o = nI a ∧ tA σ 68 e = nI a ∧ a ≤ 99 ∧ mI M 2405 o = nI b ∧ tA σ 69 e = nI b ∧ b ≤ 99) ∧ ∃ os p, LsP P M (mR M 2406 o) os ∧ tA σ 67 e = nI p ∧ p < 3000 ∧ EqL (EqR C P M σ L d 0) L e σ os p) ∨
     (s ≠ 1 ∧ mI M 2400 o = 21 ∧ tA σ 66 e = 4 ∧ EqP C P M σ 1 (mR M 2401 o) (tA σ 67 e) ∧ (∃ os p, LsP P M (mR M 2406 o) os ∧ tA σ 68 e = nI p ∧ p < 3000 ∧ EqL (EqR C P M σ L d 0) L e σ os p) ∧ ∃ os p, LsP P M (mR M 2407 o) os ∧ tA σ 69 e = nI p ∧ p < 3000 ∧ EqL (EqR C P M σ L d 0) L e σ os p) ∨
     (s = 2 ∧ mI M 2400 o = 16 ∧ tA σ 66 e = 5 ∧ EqP C P M σ 1 (mR M 2401 o) (tA σ 67 e) ∧ ∃ os p, LsP P M (mR M 2406 o) os ∧ tA σ 68 e = nI p ∧ p < 3000 ∧ EqL (EqR C P M σ L d 1) L e σ os p) ∨
     (s = 1 ∧ (mI M 2400 o = 61 ∧ tA σ 66 e = 6 ∨ mI M 2400 o = 28 ∧ tA σ 66 e = 7) ∧ RfP C P M σ (mR M 2401 o) (tA σ 67 e) ∧ EqP C P M σ 0 (mR M 2402 o) (tA σ 68 e)))
section EQR
variable {C : PC} {P P' : Nat → Prop} {M M' M1 M2 Mb : CM} {σ σ' σ1 σ2 : TS} {L L' E E' l : Nat} {os ns : List Nat}
theorem EqL.mv {R R' : Nat → Nat → Prop} (hL : L' ≤ L) (hE : E ≤ E') (h70 : ∀ n, L ≤ n → n < E → tA σ' 70 n = tA σ 70 n) (hR : ∀ o p, L ≤ p → p < E → R o p → R' o p) : ∀ (os : List Nat) (p : Nat), EqL R L E σ os p → EqL R' L' E' σ' os p
  | [], _, h => h
  | o :: os, p, h => by
    obtain ⟨⟨a1, a2, a3⟩, b, q, c1, c2, c3⟩ := h
    exact ⟨⟨a1, by omega, by omega⟩, hR o p a2 a3 b, q, by rw [h70 p a2 a3]; exact c1, c2, EqL.mv hL hE h70 hR os q c3⟩
theorem EqP.mv {so o : Nat} {x : Int32} (h : EqP C P M σ so o x) (hnf : cnf C ≤ 12) (v : Mv P (tN σ) (tQ σ) (cm C) M M' σ σ') (hP : ∀ o, P o → P' o) (hz : tN σ ≤ tN σ' ∧ tQ σ ≤ tQ σ') : EqP C P' M' σ' so o x := by
  obtain ⟨n, d, h1, h2, h3⟩ := h
  exact ⟨n, d, h1, h2, AR.mv v hP hz.1 hz.2 ⟨Nat.le_refl _, hnf, fun _ _ => rfl⟩ d d so o n (Nat.le_refl _) h3⟩
theorem RfP.mv {o : Nat} {x : Int32} (h : RfP C P M σ o x) (v : Mv P (tN σ) (tQ σ) (cm C) M M' σ σ') (hP : ∀ o, P o → P' o) (hz : tN σ ≤ tN σ' ∧ tQ σ ≤ tQ σ') : RfP C P' M' σ' o x := by
  obtain ⟨q, h1, h2, h3⟩ := h
  exact ⟨q, h1, h2, h3.mv v hP hz.2⟩
/-- what was read stays what it is -/
theorem EqR.mv (hnf : cnf C ≤ 12) (v : Mv P (tN σ) (tQ σ) (cm C) M M' σ σ') (hP : ∀ o, P o → P' o) (hz : tN σ ≤ tN σ' ∧ tQ σ ≤ tQ σ') (hw : ∀ w, wc M' w = wc M w) (hL : L' ≤ L) : ∀ (d d' s o e : Nat), d ≤ d' → (∀ n, L ≤ n → n ≤ e → (∀ k, k = 66 ∨ k = 67 ∨ k = 68 ∨ k = 69 → tA σ' k n = tA σ k n) ∧ tB σ' 71 n = tB σ 71 n) → (∀ n, L ≤ n → n < e → tA σ' 70 n = tA σ 70 n) → EqR C P M σ L d s o e → EqR C P' M' σ' L' d' s o e
  | 0, _, _, _, _, _, _, _, h => absurd h (fun z => z)
  | d + 1, 0, _, _, _, hd, _, _, _ => absurd hd (Nat.not_succ_le_zero _)
  | d + 1, d' + 1, s, o, e, hd, hq, h70, h => by
    obtain ⟨⟨a1, a2, a3, a4, a5⟩, h⟩ := h
    have S := v.2.1 o a1
    have hq0 := hq e a4 (Nat.le_refl _)
    have ih : ∀ s o p, L ≤ p → p < e → EqR C P M σ L d s o p → EqR C P' M' σ' L' d' s o p := fun s o p h1 h2 => EqR.mv hnf v hP hz hw hL d d' s o p (Nat.le_of_succ_le_succ hd) (fun n h3 h4 => hq n h3 (by omega)) (fun n h3 h4 => h70 n h3 (by omega))
    have il : ∀ s os p, EqL (EqR C P M σ L d s) L e σ os p → EqL (EqR C P' M' σ' L' d' s) L' e σ' os p := fun s os p => EqL.mv hL (Nat.le_refl _) h70 (fun o p h1 h2 => ih s o p h1 h2) os p
    refine ⟨⟨hP o a1, by rw [S.k]; exact a2, a3, by omega, a5⟩, ?_⟩
    rw [S.i, S.i, S.i, S.i, S.r, S.r, S.r, S.r, hq0.1 66 (by decide), hq0.1 67 (by decide), hq0.1 68 (by decide), hq0.1 69 (by decide), hq0.2]
    rcases h with ⟨b1, b2, b3, b4, b5⟩ | ⟨b1, b2, b3, b4, b5⟩ | ⟨b1, b2, b3, ⟨w, c1, c2, c3, c4⟩, b5, os, p, d1, d2, d3, d4⟩ | ⟨b1, b2, b3, b4, ⟨os, p, d1, d2, d3, d4⟩, os', p', e1, e2, e3, e4⟩ | ⟨b1, b2, b3, b4, os, p, d1, d2, d3, d4⟩ | ⟨b1, b2, b3, b4⟩
    · exact Or.inl ⟨b1, b2, b3, b4.mv hnf v hP hz, b5.mv hnf v hP hz⟩
    · exact Or.inr (Or.inl ⟨b1, b2, b3, b4.mv v hP hz, b5.mv v hP hz⟩)
    · exact Or.inr (Or.inr (Or.inl ⟨⟨b1.1, by have := b1.2; omega⟩, b2, b3, ⟨w, c1, c2, c3, by rw [hw]; exact c4⟩, b5, os, p, d1.mv v.1 v.2.1 hP, d2, d3, il 0 os p d4⟩))
    · exact Or.inr (Or.inr (Or.inr (Or.inl ⟨b1, b2, b3, b4.mv hnf v hP hz, ⟨os, p, d1.mv v.1 v.2.1 hP, d2, d3, il 0 os p d4⟩, os', p', e1.mv v.1 v.2.1 hP, e2, e3, il 0 os' p' e4⟩)))
    · exact Or.inr (Or.inr (Or.inr (Or.inr (Or.inl ⟨b1, b2, b3, b4.mv hnf v hP hz, os, p, d1.mv v.1 v.2.1 hP, d2, d3, il 1 os p d4⟩))))
    · exact Or.inr (Or.inr (Or.inr (Or.inr (Or.inr ⟨b1, b2, b3.mv v hP hz, b4.mv hnf v hP hz⟩))))
/-- how deep an equation may be -/
def gb : Nat → Nat
  | 1 => 17
  | _ => 18
theorem gb_ge (fl : Nat) : 17 ≤ gb fl := by
  by_cases h : fl = 1
  · rw [h]; decide
  · have : gb fl = 18 := by
      unfold gb; split
      · contradiction
      · rfl
    omega
theorem gb_n {fl : Nat} (h : fl ≠ 1) : gb fl = 18 := by
  unfold gb; split
  · contradiction
  · rfl
/-- a row of equations that is being filled: from L on, made since the base, apart from the row itself -/
def EqsR (dm : Nat) (C : PC) (Mb : CM) (l L s : Nat) (M : CM) (σ : TS) (os ns : List Nat) : Prop := ns.length = os.length ∧ (∀ j, j < os.length → (∃ P d, (∀ o, P o → (mn Mb ≤ o ∧ o < mn M) ∧ o ≠ l ∧ o ≠ mR M 4201 l ∧ o ≠ mR M 4201 95) ∧ EqR C P M σ L d s (os.getD j 0) (ns.getD j 0) ∧ d ≤ dm) ∧ (1 ≤ ns.getD j 0 ∧ L ≤ ns.getD j 0 ∧ ns.getD j 0 < tE σ) ∧ tA σ 70 (ns.getD j 0) = if j + 1 < os.length then nI (ns.getD (j + 1) 0) else 0) ∧ ∀ j k, j < k → k < os.length → ns.getD j 0 < ns.getD k 0
/-- a step of both leaves the row -/
theorem EqsR.mv {s dm : Nat} {X : Nat → Prop} (h : EqsR dm C Mb l L s M σ os ns) (hnf : cnf C ≤ 12) (F : Fz X M M') (hX : ∀ o, X o → o < mn M → o = l ∨ o = mR M 4201 l ∨ o = mR M 4201 95 ∨ o < mn Mb) (harr : mR M' 4201 l = mR M 4201 l ∨ mn M ≤ mR M' 4201 l) (h95 : mR M' 4201 95 = mR M 4201 95 ∨ mn M ≤ mR M' 4201 95) (hw : ∀ w, wc M' w = wc M w) (hz : Tz σ σ') (h42 : ∀ j, tA σ' 42 j = tA σ 42 j) (hq : Qz σ σ') : EqsR dm C Mb l L s M' σ' os ns := by
  obtain ⟨h1, h2, h3⟩ := h
  refine ⟨h1, fun j hj => ?_, h3⟩
  obtain ⟨⟨P, d, a1, a2, adm⟩, a3, a4⟩ := h2 j hj
  have so : ∀ o, P o → So M M' o := fun o ho => F.so (a1 o ho).1.2 (fun z => by
    obtain ⟨b1, b2, b3, b4⟩ := a1 o ho
    rcases hX o z b1.2 with q | q | q | q
    · exact b2 q
    · exact b3 q
    · exact b4 q
    · omega)
  have hn := F.1
  refine ⟨⟨P, d, fun o ho => ?_, EqR.mv hnf ⟨⟨F.1, fun o ho => F.k ho⟩, so, fun w _ => hw w, hz.2.1, hz.2.2.1, hz.2.2.2, h42⟩ (fun _ z => z) hz.1 hw (Nat.le_refl _) d d s _ _ (Nat.le_refl _) (fun n _ h => ⟨fun k hk => (hq.2 n (by omega)).1 k (by omega), (hq.2 n (by omega)).2⟩) (fun n _ h => (hq.2 n (by omega)).1 70 (by decide)) a2, adm⟩, ⟨a3.1, a3.2.1, Nat.lt_of_lt_of_le a3.2.2 hq.1⟩, by rw [(hq.2 _ a3.2.2).1 70 (by decide)]; exact a4⟩
  obtain ⟨b1, b2, b3, b4⟩ := a1 o ho
  refine ⟨⟨b1.1, by omega⟩, b2, ?_, ?_⟩
  · rcases harr with q | q
    · rw [q]; exact b3
    · omega
  · rcases h95 with q | q
    · rw [q]; exact b4
    · omega
/-- one equation more: it was added to the row, and linked -/
theorem EqsR.snoc {s o e d Lj dm : Nat} {P : Nat → Prop} (hdm : d ≤ dm) (h : EqsR dm C Mb l L s M σ os ns) (hnf : cnf C ≤ 12) (hP : ∀ o, P o → (mn Mb ≤ o ∧ o < mn M) ∧ o ≠ l ∧ o ≠ mR M 4201 l ∧ o ≠ mR M 4201 95) (hR : EqR C P M σ Lj d s o e) (he : 1 ≤ e ∧ e < tE σ ∧ Lj ≤ e) (hL : L ≤ Lj) (hlast : ∀ j, j < os.length → ns.getD j 0 < Lj) (h70 : tA σ 70 e = 0) (h71 : tE σ ≤ 3000) (hσ : σ' = if os.length = 0 then σ else tsA σ 70 (ns.getD (os.length - 1) 0) (nI e)) : EqsR dm C Mb l L s M σ' (os ++ [o]) (ns ++ [e]) := by
  obtain ⟨h1, h2, h3⟩ := h
  have hlen : (os ++ [o]).length = os.length + 1 := by simp
  have hA : ∀ k n, ¬ (k = 70 ∧ os.length ≠ 0 ∧ n = ns.getD (os.length - 1) 0) → tA σ' k n = tA σ k n := fun k n hne => by
    rw [hσ]
    by_cases q : os.length = 0
    · rw [ifT q]
    · rw [ifF q, tA_tsA, ifF (fun z => hne ⟨z.1, q, z.2⟩)]
  have hI : ∀ k, tI σ' k = tI σ k := fun k => by
    rw [hσ]
    by_cases q : os.length = 0
    · rw [ifT q]
    · rw [ifF q]; rfl
  have hB : ∀ k n, tB σ' k n = tB σ k n := fun k n => by
    rw [hσ]
    by_cases q : os.length = 0
    · rw [ifT q]
    · rw [ifF q]; rfl
  have hl : os.length ≠ 0 → tA σ' 70 (ns.getD (os.length - 1) 0) = nI e := fun q => by rw [hσ, ifF q, tA_tsA, ifT ⟨rfl, rfl⟩]
  have tn : tN σ' = tN σ ∧ tQ σ' = tQ σ ∧ tE σ' = tE σ := ⟨by unfold tN; rw [hI], by unfold tQ; rw [hI], by unfold tE; rw [hI]⟩
  have mv : ∀ (P : Nat → Prop), Mv P (tN σ) (tQ σ) (cm C) M M σ σ' := fun P => ⟨⟨Nat.le_refl _, fun _ _ => rfl⟩, fun o _ => So.rf M o, fun _ _ => rfl, fun k hk n _ => hA k n (by omega), fun k hk n _ => hA k n (by omega), fun k _ n _ => hB k n, fun k => hA 42 k (by omega)⟩
  have gn : ∀ j, j < os.length → (ns ++ [e]).getD j 0 = ns.getD j 0 := fun j hj => getD_app_l (by omega)
  have ge : (ns ++ [e]).getD os.length 0 = e := by rw [show os.length = ns.length + 0 by omega, getD_app_r]; rfl
  have go : (os ++ [o]).getD os.length 0 = o := by rw [show (os ++ [o]).getD os.length 0 = (os ++ [o]).getD (os.length + 0) 0 from rfl, getD_app_r]; rfl
  refine ⟨by simp [h1], fun j hj => ?_, fun j k hjk hk => ?_⟩
  · rw [hlen] at hj ⊢
    rcases Nat.lt_or_ge j os.length with g | g
    · obtain ⟨⟨P1, d1, a1, a2, adm⟩, a3, a4⟩ := h2 j g
      rw [gn j g, getD_app_l g]
      have hle : ns.getD j 0 ≤ ns.getD (os.length - 1) 0 := by
        by_cases q : j = os.length - 1
        · rw [q]; exact Nat.le_refl _
        · exact Nat.le_of_lt (h3 j (os.length - 1) (by omega) (by omega))
      refine ⟨⟨P1, d1, a1, EqR.mv hnf (mv P1) (fun _ z => z) ⟨by rw [tn.1]; exact Nat.le_refl _, by rw [tn.2.1]; exact Nat.le_refl _⟩ (fun _ => rfl) (Nat.le_refl _) d1 d1 s _ _ (Nat.le_refl _) (fun n _ _ => ⟨fun k hk => hA k n (by omega), hB 71 n⟩) (fun n _ hn => hA 70 n (fun z => by omega)) a2, adm⟩, by rw [tn.2.2]; exact a3, ?_⟩
      rw [ifT (by omega)]
      by_cases q : j + 1 = os.length
      · rw [q, ge, show j = os.length - 1 by omega]
        exact hl (by omega)
      · rw [gn (j + 1) (by omega), hA 70 _ (fun z => by have := h3 j (os.length - 1) (by omega) (by omega); omega), a4, ifT (by omega)]
    · have ej : j = os.length := by omega
      subst ej
      rw [ge, go, ifF (by omega)]
      have hne : ¬ (os.length ≠ 0 ∧ e = ns.getD (os.length - 1) 0) := fun z => by have := hlast (os.length - 1) (by omega); omega
      refine ⟨⟨P, d, hP, EqR.mv hnf (mv P) (fun _ z => z) ⟨by rw [tn.1]; exact Nat.le_refl _, by rw [tn.2.1]; exact Nat.le_refl _⟩ (fun _ => rfl) hL d d s _ _ (Nat.le_refl _) (fun n _ _ => ⟨fun k hk => hA k n (by omega), hB 71 n⟩) (fun n hn _ => hA 70 n (fun z => by have := hlast (os.length - 1) (by omega); omega)) hR, hdm⟩, ⟨he.1, by omega, by rw [tn.2.2]; exact he.2.1⟩, by rw [hA 70 e (fun z => hne z.2)]; exact h70⟩
  · rw [hlen] at hk
    rcases Nat.lt_or_ge k os.length with g | g
    · rw [gn k g, gn j (by omega)]; exact h3 j k hjk g
    · have ek : k = os.length := by omega
      subst ek
      rw [ge, gn j hjk]
      have := hlast j hjk
      omega
/-- the row is whole -/
theorem EqsR.fin {s E dm : Nat} (h : EqsR dm C Mb l L s M σ os ns) (hnf : cnf C ≤ 12) (hE : tE σ ≤ E ∧ tE σ ≤ 3000) (hP : ∀ o, (mn Mb ≤ o ∧ o < mn M) → o ≠ l → o ≠ mR M 4201 l → o ≠ mR M 4201 95 → P o) : ∃ d, d ≤ dm ∧ EqL (EqR C P M σ L d s) L E σ os (ns.getD 0 0) := by
  have up : ∀ (d : Nat), ∃ d0, d ≤ d0 := fun d => ⟨d, Nat.le_refl _⟩
  obtain ⟨h1, h2, h3⟩ := h
  have all : ∃ d0, d0 ≤ dm ∧ ∀ j, j < os.length → EqR C P M σ L d0 s (os.getD j 0) (ns.getD j 0) := by
    have : ∀ k, k ≤ os.length → ∃ d0, d0 ≤ dm ∧ ∀ j, j < k → EqR C P M σ L d0 s (os.getD j 0) (ns.getD j 0) := by
      intro k
      induction k with
      | zero => intro _; exact ⟨0, Nat.zero_le _, fun j hj => absurd hj (Nat.not_lt_zero _)⟩
      | succ k ih =>
        intro hk
        obtain ⟨d0, hd0, ih⟩ := ih (by omega)
        obtain ⟨⟨P1, d1, a1, a2, adm⟩, a3, a4⟩ := h2 k hk
        have gen : ∀ (P1 : Nat → Prop) (d1 o e : Nat), (∀ o, P1 o → P o) → d1 ≤ max d0 d1 → EqR C P1 M σ L d1 s o e → EqR C P M σ L (max d0 d1) s o e := fun P1 d1 o e hp hd => EqR.mv hnf Mv.rf hp ⟨Nat.le_refl _, Nat.le_refl _⟩ (fun _ => rfl) (Nat.le_refl _) d1 _ s o e hd (fun _ _ _ => ⟨fun _ _ => rfl, rfl⟩) (fun _ _ _ => rfl)
        refine ⟨max d0 d1, Nat.max_le.mpr ⟨hd0, adm⟩, fun j hj => ?_⟩
        rcases Nat.lt_or_ge j k with g | g
        · exact EqR.mv hnf Mv.rf (fun _ z => z) ⟨Nat.le_refl _, Nat.le_refl _⟩ (fun _ => rfl) (Nat.le_refl _) d0 _ s _ _ (Nat.le_max_left _ _) (fun _ _ _ => ⟨fun _ _ => rfl, rfl⟩) (fun _ _ _ => rfl) (ih j g)
        · rw [show j = k by omega]
          exact gen P1 d1 _ _ (fun o ho => hP o (a1 o ho).1 (a1 o ho).2.1 (a1 o ho).2.2.1 (a1 o ho).2.2.2) (Nat.le_max_right _ _) a2
    exact this os.length (Nat.le_refl _)
  obtain ⟨d0, hd0, all⟩ := all
  refine ⟨d0, hd0, ?_⟩
  have key : ∀ (t : List Nat) (k : Nat), k + t.length = os.length → (∀ j, j < t.length → t.getD j 0 = os.getD (k + j) 0) → EqL (EqR C P M σ L d0 s) L E σ t (if k < os.length then ns.getD k 0 else 0) := by
    intro t
    induction t with
    | nil => intro k hk _; rw [ifF (by simp at hk; omega)]; rfl
    | cons a t ih =>
      intro k hk ha
      have hk : k + (t.length + 1) = os.length := hk
      rw [ifT (by omega)]
      obtain ⟨_, a3, a4⟩ := h2 k (by omega)
      have e0 : a = os.getD k 0 := ha 0 (by simp)
      refine ⟨⟨a3.1, a3.2.1, by omega⟩, by rw [e0]; exact all k (by omega), (if k + 1 < os.length then ns.getD (k + 1) 0 else 0), ?_, ?_, ih (k + 1) (by omega) (fun j hj => ?_)⟩
      · rw [a4]
        by_cases q : k + 1 < os.length
        · rw [ifT q, ifT q]
        · rw [ifF q, ifF q]; rfl
      · by_cases q : k + 1 < os.length
        · rw [ifT q]; have := (h2 (k + 1) q).2.1.2.2; omega
        · rw [ifF q]; decide
      · have := ha (j + 1) (by show j + 1 < t.length + 1; omega)
        rw [show k + 1 + j = k + (j + 1) by omega, ← this]; rfl
  have := key os 0 (by omega) (fun j hj => by rw [Nat.zero_add])
  by_cases q : 0 < os.length
  · rw [ifT q] at this; exact this
  · have e1 : os = [] := List.eq_nil_of_length_eq_zero (by omega)
    have e2 : ns = [] := List.eq_nil_of_length_eq_zero (by omega)
    subst e1 e2
    rfl
end EQR
