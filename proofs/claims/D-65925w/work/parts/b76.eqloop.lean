/-! Layer B: equations: rows of them -/
set_option maxRecDepth 100000
/-- one equation is counted and read -/
def kU (cf : Int32 → CM → Option ((Nat ⊕ Nat) × CM)) (x2 : Int32) (M5 : CM) : Option ((Nat ⊕ Nat) × CM) :=
  if mk M5 (mR M5 411 90) = 10 then nm (msI M5 1804 (mR M5 411 90) ((mI M5 1804 (mR M5 411 90)) + 1)) fun M11 => if mk M11 (mR M11 411 90) = 10 then if mI M11 1804 (mR M11 411 90) ≤ 40 then cf x2 M11 else ob (K_X2_tooMany M11) fun r24 M23 => if mk M23 r24 = 7 then some (.inr r24, M23) else none else none else none
section EQLOOP
variable {C Cb : PC} {M M' M0 M1 M2 Ma Mb Ms : CM} {σ σ' σ0 σ1 σ2 σb s1 : TS} {i dep c s n i' dep' c' s' n' d0 w so v a x o q fl i0 ib depb cb' sb' nb' l p L : Nat} {os ns : List Nat} {X P : Nat → Prop} {α β γ δ : Type} {G : γ → CM → δ → TS → Prop}
theorem kU_as (cf : Int32 → CM → Option ((Nat ⊕ Nat) × CM)) (n l : Nat) (x : Int32) (M : CM) : KL_X2_equations_0 cf (n + 1) l x M = ob (K_X2_isKey 3 M) fun r2 M1 => if r2 = 0 then ob (K_X2_isKey 22 M1) fun r6 M5 => if r6 = 0 then obS (kU cf x M5) (fun w M => some (.inr (.inr w), M)) fun r14 M13 => if mk M13 l = 22 then ob (K_J2_add l r14 M13) fun _ M19 => KL_X2_equations_0 cf n l x M19 else none else some (.inl (), M5) else some (.inl (), M1) := by
  rw [KL_X2_equations_0]
  rcases K_X2_isKey 3 M with _ | ⟨r, M1⟩
  · rfl
  simp only [ob_some]
  by_cases h1 : r = 0
  · rw [ifT h1, ifT h1]
    rcases K_X2_isKey 22 M1 with _ | ⟨r6, M5⟩
    · rfl
    simp only [ob_some]
    by_cases h2 : r6 = 0
    · rw [ifT h2, ifT h2]
      unfold kU
      by_cases h3 : mk M5 (mR M5 411 90) = 10
      · rw [ifT h3, ifT h3, ifT h3, nm_eq, nm_eq]
        by_cases h4 : mk (msI M5 1804 (mR M5 411 90) ((mI M5 1804 (mR M5 411 90)) + 1)) (mR (msI M5 1804 (mR M5 411 90) ((mI M5 1804 (mR M5 411 90)) + 1)) 411 90) = 10
        · rw [ifT h4, ifT h4]
          by_cases h5 : mI (msI M5 1804 (mR M5 411 90) ((mI M5 1804 (mR M5 411 90)) + 1)) 1804 (mR (msI M5 1804 (mR M5 411 90) ((mI M5 1804 (mR M5 411 90)) + 1)) 411 90) ≤ 40
          · rw [ifT h5, ifT h5]
          · rw [ifF h5, ifF h5]
            rcases K_X2_tooMany (msI M5 1804 (mR M5 411 90) ((mI M5 1804 (mR M5 411 90)) + 1)) with _ | ⟨r24, M23⟩
            · rfl
            simp only [ob_some]
            by_cases h6 : mk M23 r24 = 7
            · rw [ifT h6, ifT h6]; rfl
            · rw [ifF h6, ifF h6]; rfl
        · rw [ifF h4, ifF h4]; rfl
      · rw [ifF h3, ifF h3]; rfl
    · rw [ifF h2, ifF h2]
  · rw [ifF h1, ifF h1]
theorem Ek.wc (K : Ek M M') (P : PE C M σ i dep c s n) (w : Nat) : wc M' w = wc M w := by
  have h167 := P.1.n167
  obtain ⟨L, W, _⟩ := P.1.wb
  obtain ⟨bs, l95⟩ := P.1.l95
  obtain ⟨⟨⟨m1, m2⟩, m3⟩, _⟩ := P.2
  have hK4 : mk M 4 ≠ 55 := by
    obtain ⟨⟨⟨⟨hK, -⟩, -⟩, -⟩, -⟩ := P
    rw [hK.1.2.2.2.2.2]; decide
  refine wc_so (K.1.so (by omega) (fun z => ?_)) (K.1.so W.2.2.2.2.2.2.2.1 (fun z => ?_)) w
  · rcases z with z | z | z | z
    · omega
    · omega
    · exact hK4 (by rw [z]; exact l95.k55 P.1.c6 (by omega))
    · omega
  · have k53 := W.2.1
    have hlt := W.2.2.2.2.2.2.2.1
    rcases z with z | z | z | z
    · rw [z, P.1.en.1] at k53; exact absurd k53 (by decide)
    · rw [z, l95.1] at k53; exact absurd k53 (by decide)
    · rw [z, l95.k55 P.1.c6 (by omega)] at k53; exact absurd k53 (by decide)
    · rw [z, m1] at k53; exact absurd k53 (by decide)
/-- a step of both leaves a row alone -/
theorem LsQ.ee (h : LsQ Mb M l os) (Pb : PE Cb Mb σ0 ib depb cb' sb' nb') (E0 : Ee Mb σb M σ) (P : PE C M σ i dep c s n) (E : Ee M σ M1 σ1) : LsQ Mb M1 l os ∧ So M M1 l ∧ mR M1 4201 l = mR M 4201 l := by
  obtain ⟨⟨a1, ⟨a2, a3⟩, a4, a5⟩, a6⟩ := h
  have h167 := Pb.1.n167
  obtain ⟨bs, l95⟩ := P.1.l95
  have k10 := P.2.1.1.1
  have e411 := E0.1.2.2.1 411
  have hmo := Pb.2.1.2
  have hn := E.1.1.1
  have sl : So M M1 l := E.1.1.so a3 (fun z => by
    rcases z with z | z | z | z
    · omega
    · omega
    · have := l95.k55 P.1.c6 (by omega)
      rw [← z, a1.1] at this; exact absurd this (by decide)
    · omega)
  have sa : mR M 4201 l < mn M → So M M1 (mR M 4201 l) := fun hlt => E.1.1.so hlt (fun z => by
    have := a5 (fun q => by have := P.1.c6; omega)
    rcases z with z | z | z | z
    · omega
    · omega
    · rcases a6 with g | g
      · have := P.1.c6; omega
      · exact g z
    · omega)
  refine ⟨⟨⟨a1.so2 E.1.1 sl sa, ⟨a2, by omega⟩, by rw [sl.r]; exact a4, by rw [sl.r]; exact a5⟩, ?_⟩, sl, sl.r _⟩
  rw [sl.r]
  rcases a6 with g | g
  · exact Or.inl g
  · rcases a1.lt with q | q
    · exact Or.inl q
    · right
      rcases E.1.2.1 with z | z
      · rw [z]; exact g
      · omega
theorem EqsR.ee {dm : Nat} (h : EqsR dm C Ms l L fl M σ os ns) (Pb : PE Cb Mb σ0 ib depb cb' sb' nb') (hms : mn Mb ≤ mn Ms) (E0 : Ee Mb σb M σ) (P : PE C M σ i dep c s n) (E : Ee M σ M1 σ1) (hl : mR M1 4201 l = mR M 4201 l) : EqsR dm C Ms l L fl M1 σ1 os ns := by
  have h167 := Pb.1.n167
  have e411 := E0.1.2.2.1 411
  have hmo := Pb.2.1.2
  exact h.mv P.1.nf12 E.1.1 (fun o z _ => by
    rcases z with z | z | z | z
    · right; right; right; omega
    · right; right; right; omega
    · exact Or.inr (Or.inr (Or.inl z))
    · right; right; right; omega) (Or.inl hl) E.1.2.1 (fun w => E.1.wc P w) E.2.1.1 (fun j => (E.2.2 42 rfl).2.2.1 j) E.2.1.2
theorem Ee.lk {u : Int32} (E : Ee Mb σb M σ) (h : tE σb ≤ p) : Ee Mb σb M (tsA σ 70 p u) := by
  have f : Ft [70] σ (tsA σ 70 p u) := (Ft.rf [70] σ).p_tsA rfl
  refine ⟨E.1, ⟨E.2.1.1.tr (Tz.ft f (by decide)), ⟨by show tE σb ≤ tE (tsA σ 70 p u); exact E.2.1.2.1, fun m hm => ⟨fun k hk => ?_, (E.2.1.2.2 m hm).2⟩⟩⟩, E.2.2.tr (f.mono (by decide))⟩
  rw [tA_tsA, ifF (by omega)]
  exact (E.2.1.2.2 m hm).1 k hk
theorem row_nd {ps : List Nat} (Pb : PE Cb Mb σ0 ib depb cb' sb' nb') (hD : ∀ M o, Dp C M o → Dp Cb M o) (E : Ee Mb σb M σ) (P : Pe C M σ i dep c s n) (hL : LsQ Mb M l ps) : ∀ o, o < mn M → (o = l ∨ o = mR M 4201 l) → ¬ Dp C M o ∧ mk M o ≠ 10 := by
  obtain ⟨⟨h1, ⟨h2, h3⟩, h4, h5⟩, h6⟩ := hL
  have hc6 := P.c6
  obtain ⟨bs, l95⟩ := P.l95
  intro o ho z
  have hB : mn Mb ≤ o := by
    rcases z with z | z
    · omega
    · rw [z]; exact h5 (fun e => by omega)
  have k : mk M o = 22 ∨ mk M o = 55 := by
    rcases z with z | z
    · rw [z]; exact Or.inl h1.1
    · rw [z] at ho ⊢; exact Or.inr (h1.k55 hc6 ho)
  refine ⟨fun hd => ?_, fun q => by rcases k with k | k <;> rw [q] at k <;> exact absurd k (by decide)⟩
  rcases Dp.old Pb.1 Pb.2 E.1 hc6 (hD _ _ hd) hB ho with q | q
  · rcases z with z | z
    · have := l95.k55 hc6 (by omega)
      rw [← q, z, h1.1] at this
      exact absurd this (by decide)
    · rcases h6 with g | g
      · omega
      · exact g (z.symm.trans q)
  · rcases k with k | k <;> rw [q] at k <;> exact absurd k (by decide)
theorem Me.mu (P : PE C M σ i dep c s n) (F : Fz X M M') (hX : ∀ o, o < mn M → X o → ¬ Dp C M o ∧ mk M o ≠ 10) : Me C M' σ i dep := by
  obtain ⟨P, hM⟩ := P
  have h167 := P.n167
  obtain ⟨⟨⟨m1, m2⟩, m3⟩, ⟨k, m4, m5, m6⟩, m7, m8, m13⟩ := hM
  have so : ∀ o, o < mn M → Dp C M o → So M M' o := fun o ho hd => F.so ho (fun z => (hX o ho z).1 hd)
  have s90 : So M M' 90 := so 90 (by omega) (Or.inl (by decide))
  have smo : So M M' (mR M 411 90) := F.so m3 (fun z => (hX _ m3 z).2 m1)
  have hn := F.1
  exact ⟨⟨⟨by rw [s90.r, smo.k]; exact m1, by rw [s90.r]; exact m2⟩, by rw [s90.r]; omega⟩, ⟨k, by rw [s90.r, smo.i]; exact m4, m5, m6⟩, m7, m8, m13.so P.en.2.2.2.1 h167 (so 95 (by omega) (Or.inl (by decide))) (fun o ho hf => so o ho (Or.inr (Or.inr (Or.inr (Or.inr hf)))))⟩
theorem PE.lk {u : Int32} (P : PE C M σ i dep c s n) : PE C M (tsA σ 70 p u) i dep c s n := ⟨P.1.tq ((Ft.rf txQ σ).p_tsA rfl), P.2.1, P.2.2.1, P.2.2.2.1, P.2.2.2.2⟩
/-- a row of equations -/
theorem eqs_loop {cfK : Int32 → CM → Option ((Nat ⊕ Nat) × CM)} {cfT : Int32 → TS → Option (Int32 × TS)} {x : Int32} (Pb : PE Cb Mb σ0 ib depb cb' sb' nb') (hD : ∀ M o, Dp C M o → Dp Cb M o) (hms : mn Mb ≤ mn Ms) (hU : ∀ (M : CM) (σ : TS) (i : Nat), ib ≤ i → PE C M σ i dep c s n → Rje C M σ (GE C M σ i dep (c + 16) (s + 2048) n fl) (kU cfK x M) (cfT x σ)) (hc : 80 ≤ c) (hs : 8000 ≤ s) :
    ∀ (g : Nat) (M : CM) (σ : TS) (i f f' : Nat) (os ns : List Nat), ct C - i < g → g < f → g < f' → ib ≤ i → Ee Mb σb M σ → PE C M σ i dep c s n → LsQ Mb M l os → os.length ≤ i → mn Ms ≤ mn M → EqsR (gb fl - dep) C Ms l (tE σb) fl M σ os ns →
    (∃ M' σ' i' os' ns', KL_X2_equations_0 cfK f l x M = some (.inl (), M') ∧ L_equations_4 cfT f' x (if os.length = 0 then 0 else nI (ns.getD 0 0)) (if os.length = 0 then 0 else nI (ns.getD (os.length - 1) 0)) σ = some (.inl (if os'.length = 0 then 0 else nI (ns'.getD 0 0)), σ') ∧ PE C M' σ' i' dep c s n ∧ i ≤ i' ∧ Ee Mb σb M' σ' ∧ LsQ Mb M' l os' ∧ EqsR (gb fl - dep) C Ms l (tE σb) fl M' σ' os' ns' ∧ Fz (fun o => Xe M o ∨ o = l ∨ o = mR M 4201 l) M M' ∧ (mR M' 4201 95 = mR M 4201 95 ∨ mn M ≤ mR M' 4201 95)) ∨
    (∃ w M' y σ', KL_X2_equations_0 cfK f l x M = some (.inr (.inr w), M') ∧ L_equations_4 cfT f' x (if os.length = 0 then 0 else nI (ns.getD 0 0)) (if os.length = 0 then 0 else nI (ns.getD (os.length - 1) 0)) σ = some (y, σ') ∧ FBe C Mb σb M' w σ') := by
  have h167 := Pb.1.n167
  have hmo := Pb.2.1.2
  intro g
  induction g with
  | zero => intro M σ i f f' os ns hg; exact absurd hg (Nat.not_lt_zero _)
  | succ g ih =>
    intro M σ i f f' os ns hg hf hf' hib E P hL hoi hsM hR
    obtain ⟨f, rfl⟩ : ∃ g, f = g + 1 := ⟨f - 1, by omega⟩
    obtain ⟨f', rfl⟩ : ∃ g, f' = g + 1 := ⟨f' - 1, by omega⟩
    have hit := P.1.it
    rw [kU_as, L_equations_4, t_isBad0 P.1.g0, ob_some, ifT (rfl : (0 : Int32) = 0)]
    rcases y_key P.1.px (j := 3) (x := 3) (c := 6647396) rfl (by decide) (by decide) with ⟨q1, q2, _⟩ | ⟨q1, q2, _⟩
    · rw [q1, ob_some, ifF (show ¬ (1 : Int32) = 0 from by decide), q2, ob_some, ifF (show ¬ (1 : Int32) = 0 from by decide)]
      exact Or.inl ⟨M, σ, i, os, ns, rfl, rfl, P, Nat.le_refl _, E, hL, hR, Fz.rf, Or.inl rfl⟩
    rw [q1, ob_some, ifT (rfl : (0 : Int32) = 0), q2, ob_some, ifT (rfl : (0 : Int32) = 0)]
    rcases y_key P.1.px (j := 22) (x := 22) (c := 1701606245) rfl (by decide) (by decide) with ⟨p1, p2, _⟩ | ⟨p1, p2, _⟩
    · rw [p1, ob_some, ifF (show ¬ (1 : Int32) = 0 from by decide), p2, ob_some, ifF (show ¬ (1 : Int32) = 0 from by decide)]
      exact Or.inl ⟨M, σ, i, os, ns, rfl, rfl, P, Nat.le_refl _, E, hL, hR, Fz.rf, Or.inl rfl⟩
    have hx : ∀ (A B : TS → Option ((Int32 ⊕ Int32) × TS)), (if x = 0 then A σ else ob (F_isWord 1701606245 σ) fun r26 s25 => if r26 = 0 then A s25 else B s25) = A σ := fun A B => by
      by_cases h : x = 0
      · rw [ifT h]
      · rw [ifF h, p2, ob_some, ifT (rfl : (0 : Int32) = 0)]
    rw [p1, ob_some, ifT (rfl : (0 : Int32) = 0), p2, ob_some, ifT (rfl : (0 : Int32) = 0), hx (fun s => J_equations_48_4 cfT (L_equations_4 cfT f') x (if os.length = 0 then 0 else nI (ns.getD 0 0)) (if os.length = 0 then 0 else nI (ns.getD (os.length - 1) 0)) s) (fun s => some (.inl (if os.length = 0 then 0 else nI (ns.getD 0 0)), s))]
    unfold J_equations_48_4
    rcases hU M σ i hib P with ⟨a, M1, y, σ1, u1, u2, e, i1, d, ⟨g1, gd⟩, P1, hi1, E1, ⟨te, te0⟩, R1, h70⟩ | ⟨w, M1, y, σ1, u1, u2, fb⟩
    · obtain ⟨hL1, sl, harr⟩ := hL.ee Pb E P E1
      have hR1 := hR.ee Pb hms E P E1 harr
      have E01 := E.tr E1
      have n01 := E1.1.1.1
      obtain ⟨d, rfl⟩ : ∃ k, d = k + 1 := by
        rcases d with _ | d
        · exact absurd R1 (fun q => q)
        · exact ⟨d, rfl⟩
      obtain ⟨⟨⟨⟨r1, r2⟩, r3⟩, r4, r5, r6, r7⟩, -⟩ := id R1
      have hgr : gR M1 a := Or.inl ⟨r2, by rw [r4]; decide, by rw [r4]; decide⟩
      have nd := row_nd Pb hD E01 P1.1 hL1
      obtain ⟨M2, b1, hL2, P2, E2, F2, hn2, harr2⟩ := z_addQ Pb.1 Pb.2 E01 P1.1 (fun o h => hD _ o h) P1.2.2.2.2.1.2.1 hL1 hgr (by have := P.1.t1280; omega) (by omega) (by omega)
      have PE2 : PE C M2 σ1 i1 dep c s n := ⟨P2.wk (by omega) (by omega) (Nat.le_refl _), Me.mu P1 F2 nd⟩
      have n12 := F2.1
      have hlt := hL1.1.2.1
      obtain ⟨bs5, l95⟩ := P1.1.l95
      have harr1 : mR M1 4201 l = 4398046511104 ∨ mn Mb ≤ mR M1 4201 l := by
        by_cases q : mR M1 4201 l = 4398046511104
        · exact Or.inl q
        · exact Or.inr (hL1.1.2.2.2 q)
      have c6 := P1.1.c6
      have s95 : So M1 M2 95 := F2.so (by have := P1.1.n167; omega) (fun z => by omega)
      have hw : ∀ w, wc M2 w = wc M1 w := fun w => by rw [E2.1.wc Pb, E01.1.wc Pb]
      have hR2 : EqsR (gb fl - dep) C Ms l (tE σb) fl M2 σ1 os ns := hR1.mv P.1.nf12 F2 (fun o z _ => by
        rcases z with z | z
        · exact Or.inl z
        · exact Or.inr (Or.inl z)) (by rcases harr2 with q | q; exact Or.inl q; right; omega) (Or.inl (s95.r _)) hw (Tz.rf _) (fun _ => rfl) (Qz.rf _)
      have hal : mR M 4201 l = 4398046511104 ∨ mR M 4201 l < mn M := hL.1.1.lt
      have hPX : ∀ o, PX M M1 o → o ≠ l ∧ o ≠ mR M1 4201 l := fun o ho => by
        have := hL.1.2.1
        have := ho.1
        rw [harr]
        exact ⟨by omega, by omega⟩
      have R2 : EqR C (PX M M1) M2 σ1 (tE σ) (d + 1) fl a e := EqR.mv P.1.nf12 ⟨⟨F2.1, fun o ho => F2.k ho⟩, fun o ho => F2.so ho.1.2 (fun z => by
        have := hPX o ho
        rcases z with z | z
        · exact this.1 z
        · exact this.2 z), fun w _ => hw w, fun _ _ _ _ => rfl, fun _ _ _ _ => rfl, fun _ _ _ _ => rfl, fun _ => rfl⟩ (fun _ z => z) ⟨Nat.le_refl _, Nat.le_refl _⟩ hw (Nat.le_refl _) _ _ fl a e (Nat.le_refl _) (fun _ _ _ => ⟨fun _ _ => rfl, rfl⟩) (fun _ _ _ => rfl) R1
      obtain ⟨σ2, hσ2⟩ : ∃ σ2, σ2 = if os.length = 0 then σ1 else tsA σ1 70 (ns.getD (os.length - 1) 0) (nI e) := ⟨_, rfl⟩
      have hE1 := P1.e1
      have hcxP1 := P1.cx
      have st := hR2.snoc (σ' := σ2) (P := PX M M1) (o := a) (e := e) (d := d + 1) (Lj := tE σ) (dm := gb fl - dep) (by omega) P.1.nf12 (fun o ho => by
        have h1 := hPX o ho
        refine ⟨⟨by have := ho.1; omega, by have := ho.1; omega⟩, h1.1, ?_, by rw [s95.r]; exact ho.2⟩
        rcases harr2 with q | q
        · rw [q]; exact h1.2
        · have := ho.1; omega) R2 ⟨r5, by omega, te0⟩ E.2.1.2.1 (fun j hj => (hR.2.1 j hj).2.1.2.2) h70 (by omega) hσ2
      have hlen : (os ++ [a]).length = os.length + 1 := by simp
      have hP2 : PE C M2 σ2 i1 dep c s n := by
        rw [hσ2]
        by_cases q : os.length = 0
        · rw [ifT q]; exact PE2
        · rw [ifF q]; exact PE2.lk
      have hE2 : Ee Mb σb M2 σ2 := by
        rw [hσ2]
        by_cases q : os.length = 0
        · rw [ifT q]; exact E2
        · rw [ifF q]; exact E2.lk (hR.2.1 (os.length - 1) (by omega)).2.1.2.1
      have hT : (if (if os.length = 0 then (0 : Int32) else nI (ns.getD 0 0)) = 0 then L_equations_4 cfT f' x (nI e) (nI e) σ1 else if inb (if os.length = 0 then (0 : Int32) else nI (ns.getD (os.length - 1) 0)) 3000 then nm (tsA σ1 70 (ix (if os.length = 0 then (0 : Int32) else nI (ns.getD (os.length - 1) 0))) (nI e)) fun s22 => L_equations_4 cfT f' x (if os.length = 0 then (0 : Int32) else nI (ns.getD 0 0)) (nI e) s22 else none) = L_equations_4 cfT f' x (if (os ++ [a]).length = 0 then 0 else nI ((ns ++ [e]).getD 0 0)) (if (os ++ [a]).length = 0 then 0 else nI ((ns ++ [e]).getD ((os ++ [a]).length - 1) 0)) σ2 := by
        have hnl := hR.1
        rw [hlen, ifF (show ¬ os.length + 1 = 0 by omega), ifF (show ¬ os.length + 1 = 0 by omega), show (ns ++ [e]).getD (os.length + 1 - 1) 0 = e from by rw [show os.length + 1 - 1 = ns.length + 0 by omega, getD_app_r]; rfl, hσ2]
        by_cases q : os.length = 0
        · have e2 : ns = [] := List.eq_nil_of_length_eq_zero (by omega)
          subst e2
          rw [ifT q, ifT q, ifT (rfl : (0 : Int32) = 0), ifT q]
          rfl
        · obtain ⟨z1, z2, z3⟩ := (hR.2.1 0 (by omega)).2.1
          obtain ⟨w1, w2, w3⟩ := (hR.2.1 (os.length - 1) (by omega)).2.1
          have t3 := P.e1
          have hcxP := P.cx
          rw [ifF q, ifF q, ifF q, ifF (show ¬ nI (ns.getD 0 0) = 0 from by rw [show (0 : Int32) = nI 0 from rfl, bI_eq (by omega) (by decide)]; omega), ifT (show inb (nI (ns.getD (os.length - 1) 0)) 3000 from inb_nI' (by omega) (by decide)), nm_eq, ix_nI (by omega), getD_app_l (by omega)]
      rw [u1, obS_inl, ifT (show mk M1 l = 22 from hL1.1.1.1), b1, ob_some, u2, ob_some, t_isBad0 P1.1.g0, ob_some, ifT (rfl : (0 : Int32) = 0), g1, hT]
      have F02 : Fz (fun o => Xe M o ∨ o = l ∨ o = mR M 4201 l) M M2 := (E1.1.1.mono (fun o _ z => Or.inl z)).tr2 F2 (fun o _ z => by rw [harr] at z; exact Or.inr z)
      rcases ih M2 σ2 i1 f f' (os ++ [a]) (ns ++ [e]) (by have := P1.1.it; omega) (by omega) (by omega) (by omega) hE2 hP2 hL2 (by rw [hlen]; omega) (by omega) st with ⟨M3, σ3, i3, os3, ns3, v1, v2, v3, v4, v5, v6, v7, v8, v9⟩ | v
      · have h95 : mR M3 4201 95 = mR M 4201 95 ∨ mn M ≤ mR M3 4201 95 := by
          rcases v9 with q | q
          · rw [q, s95.r]; exact E1.1.2.1
          · right; omega
        refine Or.inl ⟨M3, σ3, i3, os3, ns3, v1, v2, v3, by omega, v5, v6, v7, F02.tr2 v8 (fun o ho z => ?_), h95⟩
        have e90 : mR M2 411 90 = mR M 411 90 := by rw [E2.1.2.2.1, E.1.2.2.1]
        rcases z with (z | z | z | z) | z | z
        · exact Or.inl (Or.inl z)
        · exact Or.inl (Or.inr (Or.inl z))
        · rw [s95.r] at z
          rcases E1.1.2.1 with q | q
          · rw [q] at z; exact Or.inl (Or.inr (Or.inr (Or.inl z)))
          · omega
        · rw [e90] at z; exact Or.inl (Or.inr (Or.inr (Or.inr z)))
        · exact Or.inr (Or.inl z)
        · rcases harr2 with q | q
          · rw [q, harr] at z; exact Or.inr (Or.inr z)
          · omega
      · exact Or.inr v
    · rw [u1, obS_inr, u2, ob_some, t_isBad1 fb.bd.b, ob_some, ifF (show ¬ (1 : Int32) = 0 from by decide)]
      exact Or.inr ⟨w, M1, _, σ1, rfl, rfl, fb.tr E⟩
end EQLOOP
