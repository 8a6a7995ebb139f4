/-! Layer B: equations: rows that are whole; what owes what -/
set_option maxRecDepth 100000
/-- a whole row of equations, its cells in P -/
def RwR (dm : Nat) (C : PC) (P : Nat → Prop) (M : CM) (σ : TS) (L E s l : Nat) (y : Int32) : Prop := ∃ os p d, LsP P M l os ∧ y = nI p ∧ (p < 3000 ∧ d ≤ dm) ∧ EqL (EqR C P M σ L d s) L E σ os p
/-- the cells of a row that was filled from M4 to M5 -/
def PR (Mb M4 M5 : CM) (l o : Nat) : Prop := ((mn Mb ≤ o ∧ o < mn M5) ∧ o ≠ mR M5 4201 95) ∧ (o = l ∨ o = mR M5 4201 l ∨ mn M4 ≤ o)
section KEPT
variable {C Cb : PC} {M M' M0 M1 M2 M4 M5 Ma Mb Ms : CM} {σ σ' σ0 σ1 σ2 σ4 σ5 σb s1 : TS} {i dep c s n i' dep' c' s' n' d0 w so v a x o q fl i0 ib depb cb' sb' nb' l p L E E' : Nat} {os ns : List Nat} {X P P' : Nat → Prop} {y : Int32} {α β γ δ : Type} {G : γ → CM → δ → TS → Prop} {A : α → CM → β → TS → Prop}
theorem EqL.up {s d : Nat} {os : List Nat} {p : Nat} (h : EqL (EqR C P M σ L d s) L E σ os p) (hnf : cnf C ≤ 12) (hE : E ≤ tE σ) (hEE : E ≤ E') (F : Fz X M M') (hX : ∀ o, P o → o < mn M ∧ ¬ X o) (hw : ∀ w, wc M' w = wc M w) (hz : Tz σ σ') (h42 : ∀ j, tA σ' 42 j = tA σ 42 j) (hq : Qz σ σ') (hP : ∀ o, P o → P' o) : EqL (EqR C P' M' σ' L d s) L E' σ' os p :=
  EqL.mv (Nat.le_refl _) hEE (fun n _ h => (hq.2 n (by omega)).1 70 (by decide)) (fun o p _ hp R => EqR.mv hnf ⟨⟨F.1, fun o ho => F.k ho⟩, fun o ho => F.so (hX o ho).1 (hX o ho).2, fun w _ => hw w, hz.2.1, hz.2.2.1, hz.2.2.2, h42⟩ hP hz.1 hw (Nat.le_refl _) d d s o p (Nat.le_refl _) (fun n _ h => ⟨fun k hk => (hq.2 n (by omega)).1 k (by omega), (hq.2 n (by omega)).2⟩) (fun n _ h => (hq.2 n (by omega)).1 70 (by decide)) R) os p h
theorem RwR.up {s l dm : Nat} (h : RwR dm C P M σ L E s l y) (hnf : cnf C ≤ 12) (hE : E ≤ tE σ) (hEE : E ≤ E') (F : Fz X M M') (hX : ∀ o, P o → o < mn M ∧ ¬ X o) (hw : ∀ w, wc M' w = wc M w) (hz : Tz σ σ') (h42 : ∀ j, tA σ' 42 j = tA σ 42 j) (hq : Qz σ σ') (hP : ∀ o, P o → P' o) : RwR dm C P' M' σ' L E' s l y := by
  obtain ⟨os, p, d, a1, a2, a3, a4⟩ := h
  exact ⟨os, p, d, a1.mv ⟨F.1, fun o ho => F.k ho⟩ (fun o ho => F.so (hX o ho).1 (hX o ho).2) hP, a2, a3, a4.up hnf hE hEE F hX hw hz h42 hq hP⟩
theorem EqR.fo : ∀ (d s o e : Nat), EqR (C.fo w) P M σ L d s o e → EqR C P M σ L d s o e
  | 0, _, _, _, h => absurd h (fun z => z)
  | d + 1, s, o, e, h => by
    obtain ⟨a, h⟩ := h
    have il : ∀ s os p, EqL (EqR (C.fo w) P M σ L d s) L e σ os p → EqL (EqR C P M σ L d s) L e σ os p := fun s os p => EqL.mv (Nat.le_refl _) (Nat.le_refl _) (fun _ _ _ => rfl) (fun o p _ _ h => EqR.fo d s o p h) os p
    refine ⟨a, ?_⟩
    rcases h with h | h | ⟨b1, b2, b3, b4, b5, os, p, d1, d2, d3, d4⟩ | ⟨b1, b2, b3, b4, ⟨os, p, d1, d2, d3, d4⟩, os', p', e1, e2, e3, e4⟩ | ⟨b1, b2, b3, b4, os, p, d1, d2, d3, d4⟩ | h
    · exact Or.inl h
    · exact Or.inr (Or.inl h)
    · exact Or.inr (Or.inr (Or.inl ⟨b1, b2, b3, b4, b5, os, p, d1, d2, d3, il 0 os p d4⟩))
    · exact Or.inr (Or.inr (Or.inr (Or.inl ⟨b1, b2, b3, b4, ⟨os, p, d1, d2, d3, il 0 os p d4⟩, os', p', e1, e2, e3, il 0 os' p' e4⟩)))
    · exact Or.inr (Or.inr (Or.inr (Or.inr (Or.inl ⟨b1, b2, b3, b4, os, p, d1, d2, d3, il 1 os p d4⟩))))
    · exact Or.inr (Or.inr (Or.inr (Or.inr (Or.inr h))))
theorem RwR.fo {s l dm : Nat} (h : RwR dm (C.fo w) P M σ L E s l y) : RwR dm C P M σ L E s l y := by
  obtain ⟨os, p, d, a1, a2, a3, a4⟩ := h
  exact ⟨os, p, d, a1, a2, a3, EqL.mv (Nat.le_refl _) (Nat.le_refl _) (fun _ _ _ => rfl) (fun o p _ _ h => EqR.fo d s o p h) os p a4⟩
theorem FBe.ft {w : Nat} (h : FBe C M σ M' w σ') (f : Fe σ0 σ) : FBe C M σ0 M' w σ' := ⟨h.1, h.2.1, f.tr h.2.2.1, h.2.2.2⟩
theorem Ee.rb (E : Ee M0 σ0 M σ) (h : Ee M0 σ M' σ') : Ee M0 σ0 M' σ' := ⟨h.1, ⟨E.2.1.1.tr h.2.1.1, E.2.1.2.tr h.2.1.2⟩, E.2.2.tr h.2.2⟩
theorem RwR.lo {s l L' dm : Nat} (h : RwR dm C P M σ L E s l y) (hnf : cnf C ≤ 12) (hL : L' ≤ L) : RwR dm C P M σ L' E s l y := by
  obtain ⟨os, p, d, a1, a2, a3, a4⟩ := h
  exact ⟨os, p, d, a1, a2, a3, EqL.mv hL (Nat.le_refl _) (fun _ _ _ => rfl) (fun o p _ _ R => EqR.mv hnf Mv.rf (fun _ z => z) ⟨Nat.le_refl _, Nat.le_refl _⟩ (fun _ => rfl) hL d d s o p (Nat.le_refl _) (fun _ _ _ => ⟨fun _ _ => rfl, rfl⟩) (fun _ _ _ => rfl) R) os p a4⟩
theorem Rje.bo {oK : Option ((α ⊕ Nat) × CM)} {p : Option (β × TS)} {kK : α → CM → Option ((γ ⊕ Nat) × CM)} {kT : β → TS → Option (δ × TS)} (h : Rje C M0 σ1 A oK p) (f : Fe σ0 σ1) (good : ∀ x M' y σ', A x M' y σ' → Rje C M0 σ0 G (kK x M') (kT y σ')) (bad : ∀ σ1 r s, Bre C σ1 s → BWe C σ1 (kT r s)) : Rje C M0 σ0 G (obS oK (fun w M' => some (.inr w, M')) kK) (ob p kT) := by
  rcases h with ⟨x, M', y, σ', a1, a2, hq⟩ | ⟨w, M', y, σ', a1, a2, fb⟩
  · rw [a1, obS_inl, a2, ob_some]; exact good x M' y σ' hq
  · rw [a1, obS_inr, a2, ob_some]; exact Or.inr (FBe.ko (fb.ft f) (bad _ _ _ fb.bd))
/-- a row that is empty stays so -/
theorem lsq_e (h : LsB M1 M l []) (hr : mR M 4201 l = 4398046511104) (F : Fz X M M') (hl : ¬ X l) (hn : mn Mb ≤ l) (hc : mn M ≤ 601024) : LsQ Mb M' l [] ∧ mR M' 4201 l = 4398046511104 := by
  obtain ⟨a1, a2, a3, a4⟩ := h
  have s := F.so a2.2 hl
  have e : mR M' 4201 l = 4398046511104 := by rw [s.r]; exact hr
  have hn' := F.1
  exact ⟨⟨⟨a1.so2 F s (fun z => by omega), ⟨hn, by omega⟩, by rw [s.r]; exact a3, fun z => absurd e z⟩, Or.inl e⟩, e⟩
theorem lsq_s (h : LsQ Mb M l []) (hr : mR M 4201 l = 4398046511104) (F : Fz X M M') (hl : ¬ X l) (hc : mn M ≤ 601024) : LsQ Mb M' l [] ∧ mR M' 4201 l = 4398046511104 := lsq_e (M1 := Mb) h.1 hr F hl h.1.2.1.1 hc
theorem RwR.nil {s dm : Nat} (h : LsQ Mb M l []) (hr : mR M 4201 l = 4398046511104) (hP : P l) : RwR dm C P M σ L E s l 0 := ⟨[], 0, 0, ⟨h.1.1, hP, fun z => absurd hr z⟩, rfl, ⟨by decide, Nat.zero_le _⟩, rfl⟩
theorem RwR.mp {s dm : Nat} (h : RwR dm C P M σ L E s l y) (hnf : cnf C ≤ 12) (hE : E ≤ tE σ) (hl : ∀ o, P o → o < mn M) (hP : ∀ o, P o → P' o) : RwR dm C P' M σ L E s l y := h.up hnf hE (Nat.le_refl _) (X := none_) Fz.rf (fun o ho => ⟨hl o ho, fun z => z⟩) (fun _ => rfl) (Tz.rf _) (fun _ => rfl) (Qz.rf _) hP
/-- what a row's loop gives -/
theorem GR.row (h : GR C Mb σb i dep c s n fl l M () M' y σ') (hnf : cnf C ≤ 12) (hMb : mn Mb ≤ mn M) (hE : tE σ' ≤ 3000) : RwR (gb fl - dep) C (PR Mb M M' l) M' σ' (tE σb) (tE σ') fl l y := by
  obtain ⟨i', os, ns, g1, g2, g3, g4, g5, g6, g7, g8⟩ := h
  obtain ⟨d, hdm, hd⟩ := g6.fin (P := PR Mb M M' l) (E := tE σ') hnf ⟨Nat.le_refl _, hE⟩ (fun o h1 _ _ h4 => ⟨⟨⟨by omega, h1.2⟩, h4⟩, Or.inr (Or.inr h1.1)⟩)
  obtain ⟨⟨a1, ⟨a2, a3⟩, a4, a5⟩, a6⟩ := g5
  obtain ⟨bs, l95⟩ := g2.1.l95
  have hc6 := g2.1.c6
  refine ⟨os, ns.getD 0 0, d, ⟨a1, ⟨⟨⟨a2, a3⟩, fun z => ?_⟩, Or.inl rfl⟩, fun z => ⟨⟨⟨a5 z, ?_⟩, ?_⟩, Or.inr (Or.inl rfl)⟩⟩, ?_, ⟨?_, hdm⟩, hd⟩
  · have := l95.k55 hc6 (by rw [← z]; exact a3)
    rw [← z, a1.1] at this; exact absurd this (by decide)
  · rcases a1.lt with q | q
    · exact absurd q z
    · exact q
  · rcases a6 with q | q
    · exact absurd q z
    · exact q
  · rw [g1]
    by_cases q : os.length = 0
    · have e2 : ns = [] := List.eq_nil_of_length_eq_zero (by rw [g6.1]; exact q)
      rw [ifT q, e2]; rfl
    · rw [ifF q]
  · by_cases q : os.length = 0
    · have e2 : ns = [] := List.eq_nil_of_length_eq_zero (by rw [g6.1]; exact q)
      rw [e2]; decide
    · have := (g6.2.1 0 (by omega)).2.1.2.2; omega
/-- what a step of both may write is none of a row's cells -/
theorem PR.nx (h : PR Mb M4 M l o) (h167 : 167 ≤ mn Mb) (hmo : mR M 411 90 < mn Mb) : o < mn M ∧ ¬ Xe M o := by
  obtain ⟨⟨⟨a1, a2⟩, a3⟩, -⟩ := h
  refine ⟨a2, fun z => ?_⟩
  rcases z with z | z | z | z
  · omega
  · omega
  · exact a3 z
  · omega
theorem Ek.trX (h : Ek M M1) (k : Fz (Xe M1) M1 M2) : Fz (Xe M) M M2 := by
  obtain ⟨h1, h2, h3, _⟩ := h
  have hn := h1.1
  refine h1.tr2 k (fun o ho z => ?_)
  rcases z with z | z | z | z
  · exact Or.inl z
  · exact Or.inr (Or.inl z)
  · rcases h2 with q | q
    · rw [q] at z; exact Or.inr (Or.inr (Or.inl z))
    · omega
  · rw [h3] at z; exact Or.inr (Or.inr (Or.inr z))
/-- END ; behind an equation -/
theorem eq_close {kK : CM → Option ((γ ⊕ Nat) × CM)} {kT : TS → Option (δ × TS)} (E : Ee M0 σ0 M σ) (P : PE C M σ i dep c s n) (hc : 80 ≤ c) (hs : 8000 ≤ s) (good : ∀ M' σ', PE C M' σ' (i + 2) dep (c + 32) (s + 4096) (n + 8) → Ee M0 σ0 M' σ' → Es M σ M' σ' → Rje C M0 σ0 G (kK M') (kT σ')) (bad : ∀ σ1 s, Bre C σ1 s → BWe C σ1 (kT s)) : Rje C M0 σ0 G (obS (K_X2_key 3 M) (fun w M' => some (.inr w, M')) fun _ M1 => obS (K_X2_sign 59 M1) (fun w M' => some (.inr w, M')) fun _ M2 => kK M2) (ob (F_passWord 6647396 σ) fun _ s45 => ob (F_pass 59 s45) fun _ s49 => kT s49) := by
  refine Rje.st E P (z_passKey P.1 (by omega) (by omega) (j := 3) (x := 3) (y := 6647396) rfl (by decide) (by decide)) (fun _ _ σ1 P1 E1 E01 hi1 _ => ?_) (fun σ1 r s hb => BWe.bo (BWe.o hb (bw_pass hb.br _)) (fun r s hb => bad _ s hb))
  refine Rje.st E1 P1 (z_pass P1.1 (by omega) (by omega) (x := 59) (by decide)) (fun _ _ σ2 P2 E2 E12 hi2 _ => ?_) (fun σ1 r s hb => bad _ s hb)
  exact good _ σ2 (P2.wk (by omega) (by omega) (by omega)) E2 (E01.tr E12)
/-- depth back -/
theorem PE.dp (P : PE C M σ i (dep + 1) c s n) (hd : cnl C ≤ dep) : nm (msI M 406 90 ((mI M 406 90) - 1)) (fun M2 => some ((.inl v : Nat ⊕ Nat), M2)) = some (.inl v, msI M 406 90 (nI dep)) ∧ tI σ 20 - 1 = nI dep ∧ PE C (msI M 406 90 (nI dep)) (tsI σ 20 (nI dep)) i dep c s n ∧ Es M σ (msI M 406 90 (nI dep)) (tsI σ 20 (nI dep)) := by
  have e1 : nI (dep + 1) - 1 = nI dep := by
    have := P.1.2.2.1.2.2
    rw [show (1 : Int32) = nI 1 from rfl, nI_sub (by omega)]; rfl
  obtain ⟨b1, b2⟩ := P.1.dp (d := dep) (by have := P.1.2.2.1.2.2; omega)
  exact ⟨by rw [nm_eq, P.1.2.2.1.1, e1], by rw [P.1.2.2.1.2.1, e1], ⟨b1, P.2.es P.1 b2 (Nat.le_refl _) hd⟩, b2⟩
end KEPT
