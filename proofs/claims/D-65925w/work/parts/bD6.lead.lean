/-! Layer B: the flat model: which modifications of a window lead to an element (the component's rows) -/
set_option maxRecDepth 100000
def ldB (σ : TS) (x : Int64) (a : Nat × Nat × Nat) : Bool := decide ((tA σ 62 a.1 ≠ 0 ∧ tB σ 63 a.1 = x) ∨ (tA σ 62 a.1 = 0 ∧ 0 < pth σ a.1 a.2.1 ∧ tB σ 29 (ix (pth σ a.1 a.2.1)) = x))
/-- what goes on to the element -/
def adv (σ : TS) (x : Int64) : List (Nat × Nat × Nat) → List (Nat × Nat × Nat)
  | [] => []
  | a :: W => if ldB σ x a = true ∧ tA σ 62 a.1 = 0 then (a.1, a.2.1 + 1, a.2.2) :: adv σ x W else adv σ x W
/-- the first that redeclares it, or 0 -/
def rdk (σ : TS) (x : Int64) : List (Nat × Nat × Nat) → Nat
  | [] => 0
  | a :: W => if ldB σ x a = true ∧ tA σ 62 a.1 ≠ 0 then a.1 else rdk σ x W
section LEAD
variable {C C' : PC} {D D' D2 : FQ} {M M' M2 : CM} {σ σ' σ2 : TS} {mss fss xs bs qs os : List Nat} {B l k n o m u w Q I I' L V V' Bm Bm' b v r R E E' cr i k0 fr : Nat} {P P' X T : Nat → Prop} {S S' : List Nat} {a : Nat × Nat × Nat} {W W1 W2 : List (Nat × Nat × Nat)} {x : Int64}
theorem ldB_iff : ldB σ x a = true ↔ Ld σ a x := by
  unfold ldB Ld
  exact decide_eq_true_iff
theorem adv_app : adv σ x (W1 ++ W2) = adv σ x W1 ++ adv σ x W2 := by
  induction W1 with
  | nil => rfl
  | cons a W ih =>
    show (if ldB σ x a = true ∧ tA σ 62 a.1 = 0 then (a.1, a.2.1 + 1, a.2.2) :: adv σ x (W ++ W2) else adv σ x (W ++ W2)) = (if ldB σ x a = true ∧ tA σ 62 a.1 = 0 then (a.1, a.2.1 + 1, a.2.2) :: adv σ x W else adv σ x W) ++ adv σ x W2
    by_cases q : ldB σ x a = true ∧ tA σ 62 a.1 = 0
    · rw [ifT q, ifT q, ih]; rfl
    · rw [ifF q, ifF q, ih]
theorem adv_len : (adv σ x W).length ≤ W.length := by
  induction W with
  | nil => exact Nat.le_refl _
  | cons a W ih =>
    show (if ldB σ x a = true ∧ tA σ 62 a.1 = 0 then (a.1, a.2.1 + 1, a.2.2) :: adv σ x W else adv σ x W).length ≤ W.length + 1
    by_cases q : ldB σ x a = true ∧ tA σ 62 a.1 = 0
    · rw [ifT q]; exact Nat.succ_le_succ ih
    · rw [ifF q]; omega
theorem rdk_none : ∀ (W1 : List (Nat × Nat × Nat)), (∀ a, a ∈ W1 → ¬ (ldB σ x a = true ∧ tA σ 62 a.1 ≠ 0)) → rdk σ x (W1 ++ W2) = rdk σ x W2
  | [], _ => rfl
  | a :: W, h => by
    show (if ldB σ x a = true ∧ tA σ 62 a.1 ≠ 0 then a.1 else rdk σ x (W ++ W2)) = _
    rw [ifF (h a List.mem_cons_self), rdk_none W (fun b hb => h b (List.mem_cons_of_mem _ hb))]
theorem rdk_some : ∀ (W1 : List (Nat × Nat × Nat)), (∃ a, a ∈ W1 ∧ (ldB σ x a = true ∧ tA σ 62 a.1 ≠ 0)) → rdk σ x (W1 ++ W2) = rdk σ x W1
  | [], ⟨a, h, _⟩ => absurd h List.not_mem_nil
  | a :: W, ⟨b, hb, hl⟩ => by
    show (if ldB σ x a = true ∧ tA σ 62 a.1 ≠ 0 then a.1 else rdk σ x (W ++ W2)) = (if ldB σ x a = true ∧ tA σ 62 a.1 ≠ 0 then a.1 else rdk σ x W)
    by_cases q : ldB σ x a = true ∧ tA σ 62 a.1 ≠ 0
    · rw [ifT q, ifT q]
    · rw [ifF q, ifF q]
      refine rdk_some W ⟨b, ?_, hl⟩
      rcases List.mem_cons.mp hb with g | g
      · rw [g] at hl; exact absurd hl q
      · exact g
/-- whether a row was hit is noted -/
theorem FiS.hitw {u : Int32} (F : FiS C B P mss fss D M σ V I Bm cr R E) (hr : r < R) : FiS C B P mss fss D (msI M 2803 ((pl D 101).getD r 0) u) σ V I Bm cr R E ∧ Wz C C P M (msI M 2803 ((pl D 101).getD r 0) u) σ σ ∧ (∀ k, k < R → RwS D M D (msI M 2803 ((pl D 101).getD r 0) u) k ∧ hit D (msI M 2803 ((pl D 101).getD r 0) u) k = if k = r then u else hit D M k) ∧ FqO D (Tr 0) M (msI M 2803 ((pl D 101).getD r 0) u) := by
  have W := F.1
  have h167 := W.n167
  obtain ⟨r1, r2⟩ := F.r18
  have l101 := (W.2.1.1 101 (by decide)).2.2
  have e101 : flX 101 = 33300 := rfl
  obtain ⟨a1, a2, a3⟩ := W.2.1.2.1 101 (by decide) r (by omega)
  have Fz1 : Fz (fun o => o = (pl D 101).getD r 0) M (msI M 2803 ((pl D 101).getD r 0) u) := Fz.rf.msI (fun _ => rfl)
  have W2 : PoW D (msI M 2803 ((pl D 101).getD r 0) u) := W.2.1.wr h167 (by decide) (show r < (pl D 101).length by omega) Fz1 (fun z => absurd z (by decide)) (fun z => absurd z (by decide)) (fun o h1 h2 => absurd h2 (by show ¬ o < mn M; omega))
  have fq : Fq D (fun t => t = tg 101 r) M (msI M 2803 ((pl D 101).getD r 0) u) := Fz1.mono (fun o ho z => by rw [z]; exact W.2.1.tv (by decide) (by omega))
  have rm := rm_same (D := D) (M := M) (M' := msI M 2803 ((pl D 101).getD r 0) u) ⟨rfl, rfl⟩ (fun o => ⟨rfl, rfl, rfl⟩)
  have o1 : O1 [] M (msI M 2803 ((pl D 101).getD r 0) u) := O1.so (Fz1.so (by omega) (by omega))
  obtain ⟨W', v⟩ := W.mv (fq.mono (fun t z => by unfold TFf; rw [z]; unfold tg; omega)) o1 (by decide) W2 (Dx.rf D M) (by rw [rm.1, rm.2]; exact ⟨Nat.le_refl _, Nat.le_refl _⟩) (Ft.rf [] σ) (by decide)
  have ft : ∀ t, t = tg 101 r → Tr 0 t := fun t z => by rw [z]; unfold Tr tg; omega
  have N := F.2.1.kp W.2.1 fq (fun t z => (ft t z).tn F.2.1 W.2.1) v (Dx.rf D M) Tk.rf
  obtain ⟨-, -, ⟨⟨b1, b2, b3⟩, ⟨b4, b5, b6⟩, b7, b8⟩, ⟨g, g1, g2, g3, g4⟩, -, e, os, c1, c2⟩ := F
  refine ⟨⟨W', N, ⟨⟨by rw [o1.1 15 rfl]; exact b1, b2, b3⟩, ⟨by rw [o1.1 16 rfl]; exact b4, b5, b6⟩, by rw [o1.1 17 rfl]; exact b7, b8⟩, ⟨g, by rw [o1.1 31 rfl]; exact g1, g2, g3, g4⟩, ⟨by rw [o1.1 18 rfl]; exact r1, r2⟩, e, os, by rw [← c2.1]; exact (W'.2.1.1 102 (by decide)).1, c2⟩, v, fun k hk => ⟨⟨rfl, rfl, ?_, rfl⟩, ?_⟩, fq.mono ft, o1.mono (by decide)⟩
  · rw [mI_msI, ifF (by omega)]
  · show mI (msI M 2803 ((pl D 101).getD r 0) u) 2803 ((pl D 101).getD k 0) = _
    rw [mI_msI]
    by_cases q : k = r
    · rw [ifT q, q, ifT ⟨rfl, rfl⟩]
    · rw [ifF q, ifF (fun z => q ((W.2.1.inj (l := 101) (l' := 101) (by decide) (by decide) (by omega) (by omega) z.2).2))]; rfl
/-- the rows that lead to an element: noted, and what goes on comes behind -/
theorem k_elemL {cf : Nat → Nat → Int32 → Int32 → Int32 → CM → Option ((Unit ⊕ Nat) × CM)} {x1 eo x6 to : Nat} {x5 x7 : Int32} (hB : B ≤ 1280) (hw : 38 ≤ w ∧ w < 38 + cm C) : ∀ (W : List (Nat × Nat × Nat)) (j f : Nat) (D : FQ) (M : CM) (R : Nat) (x8 : Int32), fr + j + W.length = to → W.length < f → FiS C B P mss fss D M σ V I Bm cr R E → to ≤ R → R + W.length < 33300 → (P eo ∧ mk M eo = 11 ∧ mI M 2003 eo = nI w) → RsR C P D M σ I (fr + j) W →
    ∃ D' M' y, KL_X0_element_119 cf f x1 eo (nI to) x5 x6 x7 x8 (nI (fr + j)) M = some (y, M') ∧ FiS C B P mss fss D' M' σ V I Bm cr (R + (adv σ (wc M w) W).length) E ∧ Wz C C P M M' σ σ ∧ Dx D D' M ∧ (∀ r, r < R → RwS D M D' M' r) ∧ (∀ r, r < R → ¬ (fr + j ≤ r ∧ r < to) → hit D' M' r = hit D M r) ∧ (∀ c, c < W.length → hit D' M' (fr + j + c) = if ldB σ (wc M w) (ge W c) = true then 1 else hit D M (fr + j + c)) ∧ RsR C P D' M' σ I R (adv σ (wc M w) W) ∧ FqO D (Tr 0) M M' ∧ ((0 ≤ x8 ∧ y = x8) ∨ (x8 < 0 ∧ ((y = x8 ∧ ∀ a, a ∈ W → ¬ (ldB σ (wc M w) a = true ∧ tA σ 62 a.1 ≠ 0)) ∨ ∃ w', y = nI w' ∧ 38 ≤ w' ∧ w' < 38 + cm C ∧ tB σ 64 (rdk σ (wc M w) W) = wc M w' ∧ 1 ≤ rdk σ (wc M w) W ∧ rdk σ (wc M w) W < tM σ))) := by
  intro W
  induction W with
  | nil =>
    intro j f D M R x8 hj hf F hR h3 he hW
    obtain ⟨f, rfl⟩ : ∃ g, f = g + 1 := ⟨f - 1, by omega⟩
    have l101 := (F.1.2.1.1 101 (by decide)).2.2
    have e101 : flX 101 = 33300 := rfl
    have := F.r18.2
    have hj : fr + j = to := hj
    refine ⟨D, M, x8, ?_, F, Wz.rf (by have := F.1.1.2.2.2.2.1; omega), Dx.rf D M, fun _ _ => RwS.rf, fun _ _ _ => rfl, fun c hc => absurd hc (Nat.not_lt_zero _), fun c hc => absurd hc (Nat.not_lt_zero _), FqO.rf, ?_⟩
    · rw [KL_X0_element_119, ifT ((bI_le (by omega) (by omega)).mpr (by omega))]
    · by_cases q : (0 : Int32) ≤ x8
      · exact Or.inl ⟨q, rfl⟩
      · exact Or.inr ⟨Int32.not_le.mp q, Or.inl ⟨rfl, fun a ha => absurd ha List.not_mem_nil⟩⟩
  | cons a W ih =>
    intro j f D M R x8 hj hf F hR h3 he hW
    obtain ⟨f, rfl⟩ : ∃ g, f = g + 1 := ⟨f - 1, by omega⟩
    have l101 := (F.1.2.1.1 101 (by decide)).2.2
    have e101 : flX 101 = 33300 := rfl
    have hRl := F.r18.2
    have hlen : (a :: W).length = W.length + 1 := rfl
    rw [hlen] at hj hf h3
    have r0 := hW 0 (by omega)
    rw [Nat.add_zero] at r0
    have r0 : RoR C P D M σ I (fr + j) a := r0
    have kr := F.kr (r := fr + j) (by omega)
    obtain ⟨⟨L, WN⟩, h1280, hQ⟩ := F.wn hB
    have get := ls_get (F.1.2.1.1 101 (by decide)).1 (show fr + j < (pl D 101).length by omega)
    have hstep : ∀ y : Int32, K_X15_leadsTo ((pl D 101).getD (fr + j) 0) (nI w) M = some (y, M) → KL_X0_element_119 cf (f + 1) x1 eo (nI to) x5 x6 x7 x8 (nI (fr + j)) M = if y = 0 then KL_X0_element_119 cf f x1 eo (nI to) x5 x6 x7 x8 (nI (fr + j + 1)) M else nm (msI M 2803 ((pl D 101).getD (fr + j) 0) 1) fun M58 => if mk M58 ((pl D 101).getD (fr + j) 0) = 15 then if mk M58 (mR M58 2800 ((pl D 101).getD (fr + j) 0)) = 12 then if mI M58 2203 (mR M58 2800 ((pl D 101).getD (fr + j) 0)) < 0 then if mk M58 ((pl D 101).getD (fr + j) 0) = 15 then if mk M58 ((pl D 101).getD (fr + j) 0) = 15 then if mk M58 ((pl D 101).getD (fr + j) 0) = 15 then ob (K_X0_newRow (mR M58 2800 ((pl D 101).getD (fr + j) 0)) ((mI M58 2801 ((pl D 101).getD (fr + j) 0)) + 1) (mR M58 2802 ((pl D 101).getD (fr + j) 0)) M58) fun r65 M64 => KL_X0_element_119 cf f x1 eo (nI to) x5 x6 x7 x8 (nI (fr + j + 1)) M64 else none else none else none else if 0 ≤ x8 then KL_X0_element_119 cf f x1 eo (nI to) x5 x6 x7 x8 (nI (fr + j + 1)) M58 else if mk M58 ((pl D 101).getD (fr + j) 0) = 15 then if mk M58 (mR M58 2800 ((pl D 101).getD (fr + j) 0)) = 12 then KL_X0_element_119 cf f x1 eo (nI to) x5 x6 x7 (mI M58 2203 (mR M58 2800 ((pl D 101).getD (fr + j) 0))) (nI (fr + j + 1)) M58 else none else none else none else none := fun y hy => by
      rw [KL_X0_element_119, ifF (fun z => by have := (bI_le (by omega) (by omega)).mp z; omega), get, ob_some, ifT (Or.inr kr), ifT he.2.1, ifT kr, he.2.2, hy, ob_some]
      simp only [nI_addL, nm_eq, kr, if_true]
    have hW' : ∀ {D' : FQ} {M' : CM}, Wz C C P M M' σ σ → Dx D D' M → (∀ r, r < R → RwS D M D' M' r) → RsR C P D' M' σ I (fr + (j + 1)) W := fun v x st c hc => by
      have := hW (c + 1) (by omega)
      rw [show fr + j + (c + 1) = fr + (j + 1) + c by omega] at this
      exact RoR.mv (a := ge W c) this v x (st _ (by omega)) ⟨F.2.1.1.2.1, Nat.le_refl _⟩ (Ft.rf _ _)
    have hj' : fr + (j + 1) + W.length = to := by omega
    have kp : ∀ {M' : CM}, Wz C C P M M' σ σ → P eo ∧ mk M' eo = 11 ∧ mI M' 2003 eo = nI w := fun v => by
      have s := v.2.1.1 eo he.1
      exact ⟨he.1, by rw [s.k]; exact he.2.1, by rw [s.i]; exact he.2.2⟩
    have wcs : ∀ {M' : CM}, Wz C C P M M' σ σ → wc M' w = wc M w := fun v => v.2.2.1.2 w hw.2
    rcases k_leads r0 kr WN h1280 hQ hw with ⟨y1, y2, y3⟩ | ⟨y1, y2⟩
    · -- it leads there
      have ldt : ldB σ (wc M w) a = true := ldB_iff.mpr y2
      obtain ⟨F1, v1, st1, q1⟩ := F.hitw (r := fr + j) (u := 1) (by omega)
      rw [hstep 1 y1, ifF (show ¬ (1 : Int32) = 0 by decide), nm_eq]
      obtain ⟨m, ⟨e1, e2, e3⟩, hm, hk, hi, hu0, xs, L1, hu⟩ := r0
      obtain ⟨M1, hM1⟩ : ∃ M1, M1 = msI M 2803 ((pl D 101).getD (fr + j) 0) 1 := ⟨_, rfl⟩
      rw [← hM1] at F1 v1 st1 q1 ⊢
      have kr1 := F1.kr (r := fr + j) (by omega)
      have m1 : mR M1 2800 ((pl D 101).getD (fr + j) 0) = m := by rw [hM1]; exact e1
      have m2 : mI M1 2801 ((pl D 101).getD (fr + j) 0) = nI a.2.1 := by rw [hM1, mI_msI, ifF (by omega)]; exact e2
      have m3 : mR M1 2802 ((pl D 101).getD (fr + j) 0) = (pl D 99).getD a.2.2 0 := by rw [hM1]; exact e3
      have km : mk M1 m = 12 := by rw [hM1]; exact hm.1.2
      have m4 : mI M1 2203 m = mI M 2203 m := by rw [hM1, mI_msI, ifF (by omega)]
      rw [ifT kr1, m1, ifT km, m4]
      have hit1 : hit D M1 (fr + j) = 1 := by rw [(st1 (fr + j) (by omega)).2, ifT rfl]
      have hitO : ∀ r, r < R → r ≠ fr + j → hit D M1 r = hit D M r := fun r hr hne => by rw [(st1 r hr).2, ifF hne]
      have hm0 := hm.2
      rcases hm0 with ⟨b1, b2, b, w1, w', b3, b4, b5, b6, b7, b8⟩ | ⟨b1, b2, bs, qs, e, d, b3, b4, b5, b6, b7, b8, b9⟩
      · -- a redeclaration
        have n62 : tA σ 62 a.1 ≠ 0 := by rw [b1]; decide
        have ea : adv σ (wc M w) (a :: W) = adv σ (wc M w) W := ifF (fun z => n62 z.2)
        have er : rdk σ (wc M w) (a :: W) = a.1 := ifT ⟨ldt, n62⟩
        rw [b6, ifF (show ¬ nI w' < 0 from by rw [nI_ltL (by omega) (by decide)]; exact Nat.not_lt_zero _), ea, er]
        have asm : ∀ x9 : Int32, (0 ≤ x8 ∧ x9 = x8) ∨ (x8 < 0 ∧ x9 = nI w') → ∃ D' M' y, KL_X0_element_119 cf f x1 eo (nI to) x5 x6 x7 x9 (nI (fr + j + 1)) M1 = some (y, M') ∧ FiS C B P mss fss D' M' σ V I Bm cr (R + (adv σ (wc M w) W).length) E ∧ Wz C C P M M' σ σ ∧ Dx D D' M ∧ (∀ r, r < R → RwS D M D' M' r) ∧ (∀ r, r < R → ¬ (fr + j ≤ r ∧ r < to) → hit D' M' r = hit D M r) ∧ (∀ c, c < (a :: W).length → hit D' M' (fr + j + c) = if ldB σ (wc M w) (ge (a :: W) c) = true then 1 else hit D M (fr + j + c)) ∧ RsR C P D' M' σ I R (adv σ (wc M w) W) ∧ FqO D (Tr 0) M M' ∧ ((0 ≤ x8 ∧ y = x8) ∨ (x8 < 0 ∧ ((y = x8 ∧ ∀ b, b ∈ a :: W → ¬ (ldB σ (wc M w) b = true ∧ tA σ 62 b.1 ≠ 0)) ∨ ∃ w', y = nI w' ∧ 38 ≤ w' ∧ w' < 38 + cm C ∧ tB σ 64 a.1 = wc M w' ∧ 1 ≤ a.1 ∧ a.1 < tM σ))) := fun x9 hx9 => by
          obtain ⟨D', M', y, g1, g2, g3, g4, g5, g6, g7, g8, g9, g10⟩ := ih (j + 1) f D M1 R x9 hj' (by omega) F1 hR (by omega) (kp v1) (hW' v1 (Dx.rf D M) (fun r hr => (st1 r hr).1))
          rw [wcs v1] at g2 g7 g8 g10
          refine ⟨D', M', y, g1, g2, v1.tr g3 (fun _ z => z), (Dx.rf D M).tr g4 v1.1.1, fun r hr => (st1 r hr).1.tr (g5 r hr), fun r hr hn => ?_, fun c hc => ?_, g8, q1.tr g9 (Dx.rf D M), ?_⟩
          · rw [g6 r hr (by omega)]; exact hitO r hr (by omega)
          · by_cases c0 : c = 0
            · subst c0
              show hit D' M' (fr + j) = if ldB σ (wc M w) a = true then 1 else _
              rw [ifT ldt, g6 (fr + j) (by omega) (by omega)]; exact hit1
            · obtain ⟨c, rfl⟩ : ∃ d, c = d + 1 := ⟨c - 1, by omega⟩
              have := g7 c (by have : c + 1 < W.length + 1 := hc; omega)
              rw [show fr + (j + 1) + c = fr + j + (c + 1) by omega] at this
              rw [this, hitO _ (by have : c + 1 < W.length + 1 := hc; omega) (by omega)]; rfl
          · rcases hx9 with ⟨x0, xe⟩ | ⟨x0, xe⟩
            · rcases g10 with ⟨_, z⟩ | ⟨z, _⟩
              · exact Or.inl ⟨x0, z.trans xe⟩
              · rw [xe] at z; exact absurd z (Int32.not_lt.mpr x0)
            · rcases g10 with ⟨_, z⟩ | ⟨z, _⟩
              · exact Or.inr ⟨x0, Or.inr ⟨w', z.trans xe, b7.1, b7.2, b8, hk.1, hk.2⟩⟩
              · rw [xe, nI_ltL (by omega) (by decide)] at z; exact absurd z (Nat.not_lt_zero _)
        by_cases x0 : (0 : Int32) ≤ x8
        · rw [ifT x0]; exact asm x8 (Or.inl ⟨x0, rfl⟩)
        · rw [ifF x0, ifT kr1, ifT km]; exact asm _ (Or.inr ⟨Int32.not_le.mp x0, rfl⟩)
      · -- one that goes on
        have ea : adv σ (wc M w) (a :: W) = (a.1, a.2.1 + 1, a.2.2) :: adv σ (wc M w) W := ifT ⟨ldt, b1⟩
        have er : rdk σ (wc M w) (a :: W) = rdk σ (wc M w) W := ifF (fun z => z.2 b1)
        have hlt := y3 xs (by rw [e1]; exact L1)
        obtain ⟨D2, M2, a1, F2, v2, x2, st2, ⟨c1, c2, c3, c4⟩, q2⟩ := F1.row (by omega) m ((pl D 99).getD a.2.2 0) (nI (a.2.1 + 1))
        have h6 := L1.2.2.1
        rw [b2, ifT (by decide), ifT kr1, ifT kr1, ifT kr1, m2, m3, nI_addL, a1, ob_some, ea, er]
        have v12 := v1.tr v2 (fun _ z => z)
        have x12 : Dx D D2 M := (Dx.rf D M).tr x2 v1.1.1
        have st12 : ∀ r, r < R → RwS D M D2 M2 r := fun r hr => (st1 r hr).1.tr (st2 r hr).1
        have iI := F.2.1.1.2.1
        have roR : RoR C P D2 M2 σ I R (a.1, a.2.1 + 1, a.2.2) := by
          refine ⟨m, ⟨c1, c2, by rw [c3]; exact ((x12.1 99 a.2.2 (by omega)).2).symm⟩, ?_⟩
          have ok : EnOK C P M σ I m (a.1, a.2.1 + 1, a.2.2) := ⟨hm, hk, hi, fun z => absurd b1 z, xs, L1, hlt⟩
          exact ok.mv v12 (Nat.le_refl _) (Ft.rf _ _)
        obtain ⟨D', M', y, g1, g2, g3, g4, g5, g6, g7, g8, g9, g10⟩ := ih (j + 1) f D2 M2 (R + 1) x8 hj' (by omega) F2 (by omega) (by omega) (kp v12) (hW' v12 x12 st12)
        rw [wcs v12] at g2 g7 g8 g10
        refine ⟨D', M', y, g1, ?_, v12.tr g3 (fun _ z => z), x12.tr g4 v12.1.1, fun r hr => (st12 r hr).tr (g5 r (by omega)), fun r hr hn => ?_, fun c hc => ?_, fun c hc => ?_, (q1.tr (q2.mono (fun t z => ?_)) (Dx.rf D M)).tr g9 x12, ?_⟩
        · show FiS C B P mss fss D' M' σ V I Bm cr (R + ((adv σ (wc M w) W).length + 1)) E
          rw [show R + ((adv σ (wc M w) W).length + 1) = R + 1 + (adv σ (wc M w) W).length by omega]
          exact g2
        · rw [g6 r (by omega) (by omega), (st2 r hr).2]; exact hitO r hr (by omega)
        · by_cases c0 : c = 0
          · subst c0
            show hit D' M' (fr + j) = if ldB σ (wc M w) a = true then 1 else _
            rw [ifT ldt, g6 (fr + j) (by omega) (by omega), (st2 (fr + j) (by omega)).2]; exact hit1
          · obtain ⟨c, rfl⟩ : ∃ d, c = d + 1 := ⟨c - 1, by omega⟩
            have hc2 : c + 1 < W.length + 1 := hc
            have := g7 c (by omega)
            rw [show fr + (j + 1) + c = fr + j + (c + 1) by omega] at this
            rw [this, (st2 _ (by omega)).2, hitO _ (by omega) (by omega)]; rfl
        · by_cases c0 : c = 0
          · subst c0
            exact RoR.mv roR g3 g4 (g5 R (Nat.lt_succ_self R)) ⟨F2.2.1.1.2.1, Nat.le_refl _⟩ (Ft.rf _ _)
          · obtain ⟨c, rfl⟩ : ∃ d, c = d + 1 := ⟨c - 1, by omega⟩
            have hc2 : c + 1 < (adv σ (wc M w) W).length + 1 := hc
            have := g8 c (by omega)
            rw [show R + 1 + c = R + (c + 1) by omega] at this
            exact this
        · have l1 := F1.r18.2
          unfold Tr tg at *; omega
        · rcases g10 with z | ⟨z0, z | ⟨w', z1, z2, z3, z4, z5⟩⟩
          · exact Or.inl z
          · refine Or.inr ⟨z0, Or.inl ⟨z.1, fun b hb => ?_⟩⟩
            rcases List.mem_cons.mp hb with g | g
            · rw [g]; exact fun z => z.2 b1
            · exact z.2 b g
          · exact Or.inr ⟨z0, Or.inr ⟨w', z1, z2, z3, by rw [z4]; exact v12.2.2.1.2 w' z3, z5⟩⟩
    · -- it doesn't
      have ldf : ¬ ldB σ (wc M w) a = true := fun z => y2 (ldB_iff.mp z)
      have ea : adv σ (wc M w) (a :: W) = adv σ (wc M w) W := ifF (fun z => ldf z.1)
      have er : rdk σ (wc M w) (a :: W) = rdk σ (wc M w) W := ifF (fun z => ldf z.1)
      rw [hstep 0 y1, ifT (rfl : (0 : Int32) = 0), ea, er]
      have v0 : Wz C C P M M σ σ := Wz.rf (by have := F.1.1.2.2.2.2.1; omega)
      obtain ⟨D', M', y, g1, g2, g3, g4, g5, g6, g7, g8, g9, g10⟩ := ih (j + 1) f D M R x8 hj' (by omega) F hR (by omega) he (hW' v0 (Dx.rf D M) (fun _ _ => RwS.rf))
      refine ⟨D', M', y, g1, g2, g3, g4, g5, fun r hr hn => g6 r hr (by omega), fun c hc => ?_, g8, g9, ?_⟩
      · by_cases c0 : c = 0
        · subst c0
          show hit D' M' (fr + j) = if ldB σ (wc M w) a = true then 1 else hit D M (fr + j)
          rw [ifF ldf, g6 (fr + j) (by omega) (by omega)]
        · obtain ⟨c, rfl⟩ : ∃ d, c = d + 1 := ⟨c - 1, by omega⟩
          have := g7 c (by have : c + 1 < W.length + 1 := hc; omega)
          rw [show fr + (j + 1) + c = fr + j + (c + 1) by omega] at this
          exact this
      · rcases g10 with z | ⟨z0, z | z⟩
        · exact Or.inl z
        · refine Or.inr ⟨z0, Or.inl ⟨z.1, fun b hb => ?_⟩⟩
          rcases List.mem_cons.mp hb with g | g
          · rw [g]; exact fun z => ldf z.1
          · exact z.2 b g
        · exact Or.inr ⟨z0, Or.inr z⟩
end LEAD
