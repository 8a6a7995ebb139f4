/-! Layer B: solved trees: the component differentiates, whole -/
set_option maxRecDepth 100000
section DIFF2
variable {s s' s1 s2 σ : TS} {D D' D2 : FQ} {M M' M1 M2 : CM} {l V K K0 K' N N' h h' f st a n m p q r k c1 c2 c3 t1 t2 t3 j u u' v w x0 X H z z1 z2 z3 d y : Nat} {op vl x x' kx mo he cc : Int32} {E : Prop} {cf : Nat → CM → Option ((Nat ⊕ Nat) × CM)}
/-- what stays of the node that is looked at, and of what is set up -/
def EnD (a : Nat) (M M1 : CM) : Prop := mk M1 a = 18 ∧ (∀ f, mI M1 f a = mI M f a) ∧ (∀ f, mR M1 f a = mR M f a) ∧ mR M1 69 1 = 133 ∧ mk M1 133 = 4 ∧ ∀ j, mA M1 121 j = mA M 121 j
theorem k_env (A : ArS 133 134 40000 D M K) (r69 : mR M 69 1 = 133) (hk : k < K) (ha : a = (pl D 134).getD k 0) {D1 : FQ} {K1 : Nat} (S : StA 133 134 D M K D1 M1 K1) (A1 : ArS 133 134 40000 D1 M1 K1) : EnD a M M1 := by
  have x0 := NdS2.one
  obtain ⟨e1, e2, e3⟩ := S.sn x0 A k hk
  rw [← ha] at e1 e2 e3
  have so := fun o h => S.s1 x0 A.2.2.1 (o := o) h
  refine ⟨?_, e2, e3, by rw [(so 1 (by decide)).r]; exact r69, A1.k4, fun j => (so 121 (by decide)).a j⟩
  obtain ⟨-, a2, -⟩ := A.1.2.1 134 (by decide) k (by have := A.2.2.2.1.2.1; omega)
  rw [← ha] at a2
  rw [S.2.2.2.1.k a2.2, ha]; exact (A.k18 x0 hk).1
theorem DnK.sn (hd : DnK s M h n) (e : ∀ j, mA M1 121 j = mA M 121 j) : DnK s M1 h n := fun u z => by
  obtain ⟨d, d1, d2⟩ := hd u z
  exact ⟨d, d1, (e u).trans d2⟩
theorem k_diff (hV : V ≤ 96) (h7 : N ≤ 70000) : ∀ (h f a n : Nat) (D : FQ) (M : CM) (K : Nat), h + 1 < f → h ≤ 200 → ArS 133 134 40000 D M K → mR M 69 1 = 133 → SxR D M s 134 V K N h 0 a n → PH s h n ≤ 200 → DnK s M h n → OKA 133 134 40000 D M K (KG_X0_diff f a M) (dS s h n) (QD s V N h n) (200 < dH s h n)
  | 0, _, _, _, _, _, _, _, _, _, _, z, _, _ => z.elim
  | h + 1, 0, _, _, _, _, _, hf, _, _, _, _, _, _ => absurd hf (Nat.not_lt_zero _)
  | h + 1, f + 1, a, n, D, M, K, hf, hh, A, r69, z, hp, hd => by
    have ih := fun a n D M K A r z hp hd => k_diff hV h7 h f a n D M K (by omega) (by omega) A r z hp hd
    have x0 := NdS2.one
    have z0 := z
    obtain ⟨⟨⟨k, k1, k2⟩, nb⟩, -, z⟩ := z
    have ka := A.k18 x0 k1
    rw [← k2] at ka
    have en := fun {D1 M1 K1} (S : StA 133 134 D M K D1 M1 K1) (A1 : ArS 133 134 40000 D1 M1 K1) => k_env A r69 k1 k2 S A1
    have F3 : 3 * (h + 1) + 2 = 3 * h + 2 + 3 := by omega
    -- a child in a later state
    have mv : ∀ {D1 M1 K1 st a n}, StA 133 134 D M K D1 M1 K1 → SxR D M s 134 V K N h st a n → SxR D1 M1 s 134 V K1 N h st a n := fun S q => SxR.mv (S.sn x0 A) NdX.rf S.1 (Nat.le_refl _) h7 _ _ _ _ _ (Nat.le_refl _) q
    have cpy : ∀ {E : Prop} {D1 M1 K1 st b y}, ArS 133 134 40000 D1 M1 K1 → StA 133 134 D M K D1 M1 K1 → SxR D M s 134 V K N h st b y → PH s h y ≤ 200 → OKA 133 134 40000 D1 M1 K1 (K_X0_copy b M1) (PS s h y) (fun D' M' K' a' => SxR D' M' s 134 V K' N h st a' y) E := fun A1 S q hq => k_cpT hV h7 h 300 _ _ _ _ _ _ (by omega) (by omega) A1 (en S A1).2.2.2.1 (mv S q) hq
    have dff : ∀ {D1 M1 K1 b y}, ArS 133 134 40000 D1 M1 K1 → StA 133 134 D M K D1 M1 K1 → SxR D M s 134 V K N h 0 b y → PH s h y ≤ 200 → DnK s M h y → OKA 133 134 40000 D1 M1 K1 (KG_X0_diff f b M1) (dS s h y) (QD s V N h y) (200 < dH s h y) := fun A1 S q hq hd => ih _ _ _ _ _ A1 (en S A1).2.2.2.1 (mv S q) hq (hd.sn (en S A1).2.2.2.2.2)
    -- the twin's view of a copy
    have cx : ∀ {D1 M1 K1 st b y F s' N'}, SxR D1 M1 s 134 V K1 N h st b y → NdX s s' N → N ≤ N' → h ≤ F → SxR D1 M1 s' 134 V K1 N' F st b y := fun q gx hN hF => SxR.mv SnK.rf gx (Nat.le_refl _) hN h7 _ _ _ _ _ hF q
    have up : ∀ {D1 M1 K1 F F' st b y s' N'}, N' ≤ 70000 → SxR D1 M1 s' 134 V K1 N' F st b y → F ≤ F' → SxR D1 M1 s' 134 V K1 N' F' st b y := fun hN q hF => SxR.mv SnK.rf NdX.rf (Nat.le_refl _) (Nat.le_refl _) hN _ _ _ _ _ hF q
    have sv : ∀ {D1 M1 K1 D2 M2 K2 F st b y s' N'}, N' ≤ 70000 → ArS 133 134 40000 D1 M1 K1 → StA 133 134 D1 M1 K1 D2 M2 K2 → SxR D1 M1 s' 134 V K1 N' F st b y → SxR D2 M2 s' 134 V K2 N' F st b y := fun hN A1 S q => SxR.mv (S.sn x0 A1) NdX.rf S.1 (Nat.le_refl _) hN _ _ _ _ _ (Nat.le_refl _) q
    have e8 : ∀ {M1 M2 : CM} {c t}, mI M1 3404 c = nI t → mI M2 3404 c = mI M1 3404 c → mI M2 3404 c = nI t := fun e e' => e'.trans e
    show OKA 133 134 40000 D M K (KB_X0_diff (KG_X0_diff f) a M) _ _ _
    have e2 : ∀ {s' : TS}, NdX s s' N → tA s' 121 n = tA s 121 n ∧ tA s' 122 n = tA s 122 n ∧ tA s' 123 n = tA s 123 n ∧ tA s' 124 n = tA s 124 n := fun gx => ⟨gx.1 121 (by decide) n nb.2, gx.1 122 (by decide) n nb.2, gx.1 123 (by decide) n nb.2, gx.1 124 (by decide) n nb.2⟩
    rcases z with ⟨-, q1, q2⟩ | ⟨-, op, vl, x, q1, q2⟩ | ⟨q1, ⟨x, x1, x2⟩, q2, q3⟩ | ⟨q1, ⟨x, x1, x2⟩, ⟨y, y1, y2⟩, q2⟩ | ⟨-, q2, q1, ⟨x, x1, x2⟩, ⟨y, y1, y2⟩, w, w1, w2⟩ | ⟨z, -⟩ | ⟨z, -⟩
    · -- a number, time, a parameter or a discrete variable
      have num : mI M 3400 a ∈ ([0, 1, 12, 13, 16, 18] : List Int32) → (∀ s' N' m, NdX s s' N → N ≤ N' → Der s' N' (h + 1) n m → isN s' N' m 0) → dS s (h + 1) n = 1 ∧ dH s (h + 1) n = 1 → OKA 133 134 40000 D M K (KB_X0_diff (KG_X0_diff f) a M) (dS s (h + 1) n) (QD s V N (h + 1) n) (200 < dH s (h + 1) n) := fun hop hdr sz => by
        rw [sz.1]
        refine (kd_num (f := f + 1) A r69 k1 k2 hop (by omega)).mono rfl (fun D' M' K' a' A' S' e q => ?_) id
        obtain ⟨rfl, nw⟩ := q
        refine ⟨⟨K, by omega, rfl⟩, by rw [sz.2]; exact nw.2.2.2.2.1, by rw [sz.2]; decide, fun s' N' m gx hN hN7 dr => ?_⟩
        have im := hdr s' N' m gx hN dr
        rw [F3]
        exact SxR.b0 (by omega) nw im.1 (Or.inl ⟨rfl, im.2.1, im.2.2.symm, by rw [im.2.2]; decide⟩)
      rcases q2 with ⟨b1, b2, b3⟩ | ⟨b1, b2⟩ | ⟨b1, v, ⟨v0, v1⟩, v2, v3, v4, v5⟩
      · exact num (by rw [b1]; decide) (fun s' N' m gx hN dr => dr.i0 (by rw [(e2 gx).1, b2]; decide)) (dS_0 (by rw [b2]; decide))
      · have sz := dS_0 (s := s) (h := h) (n := n) (by rw [b2]; decide)
        rw [sz.1]
        refine (kd_time (f := f + 1) A r69 k1 k2 b1 (by omega)).mono rfl (fun D' M' K' a' A' S' e q => ?_) id
        obtain ⟨rfl, nw⟩ := q
        refine ⟨⟨K, by omega, rfl⟩, by rw [sz.2]; exact nw.2.2.2.2.1, by rw [sz.2]; decide, fun s' N' m gx hN hN7 dr => ?_⟩
        have im := dr.i1 ((e2 gx).1.trans b2)
        rw [F3]
        exact SxR.b0 (by omega) nw im.1 (Or.inl ⟨rfl, im.2.1, im.2.2.symm, by rw [im.2.2]; decide⟩)
      · have k24 : tA s 121 n = 2 ∨ tA s 121 n = 4 := by
          simp only [List.mem_cons, Prod.mk.injEq, List.not_mem_nil, or_false] at b1
          rcases b1 with ⟨-, b1⟩ | ⟨-, b1⟩
          · exact Or.inl b1
          · exact Or.inr b1
        have ng : ¬ ngv s n := fun y => by unfold ngv at y; rw [v3, ix_nI (by omega)] at y; exact v4 y.1
        have sz := dS_v (s := s) (h := h) (n := n) (by rcases k24 with e | e <;> rw [e] <;> decide)
        rw [ifF ng] at sz
        refine num ?_ (fun s' N' m gx hN dr => dr.iv (by rw [(e2 gx).1]; exact k24) ⟨v1, (e2 gx).2.1.trans v3, by rw [gx.2.1 94 (by decide)]; exact v4⟩) sz
        simp only [List.mem_cons, Prod.mk.injEq, List.not_mem_nil, or_false] at b1
        rcases b1 with ⟨b1, -⟩ | ⟨b1, -⟩ <;> rw [b1] <;> decide
    · -- an unknown
      have sz := q1.dh (h := h)
      have lk := q1.sp
      rcases q2 with ⟨rfl, b1, b2, b3⟩ | ⟨rfl, b1, b2, b3, ⟨j, j1, j2⟩, b4, b5, b6, b7⟩
      · rw [ifT rfl] at sz
        rw [sz.1]
        rcases lk with ⟨rfl, u, l1, l2⟩ | ⟨rfl, l1, v, u, l2, l3⟩
        · obtain ⟨d, ⟨d1, d2⟩, d3⟩ := hd u (Or.inl ⟨1, l1⟩)
          refine (kd_unk (f := f + 1) A r69 k1 k2 b1 ⟨b2.trans l2, l1.lt.1⟩ d3 (by omega)).mono rfl (fun D' M' K' a' A' S' e q => ?_) id
          obtain ⟨rfl, nw⟩ := q
          refine ⟨⟨K, by omega, rfl⟩, by rw [sz.2]; exact nw.2.2.2.2.1, by rw [sz.2]; decide, fun s' N' m gx hN hN7 dr => ?_⟩
          obtain ⟨d', ⟨f1, f2⟩, f3⟩ := dr.iu (l1.mv gx nb.2)
          have : d' = d := nI_inj (f1.symm.trans ((gx.2.2 u (by rw [d1]; exact nI_m1 (by omega))).trans d1)) (by omega) (by omega)
          subst this
          rcases f3 with ⟨-, f3⟩ | ⟨z, -⟩
          · rw [F3]
            exact SxR.bu (by omega) nw f3.1 (Or.inr (Or.inr (Or.inr ⟨f3.2.1, d', d2, f3.2.2, rfl, rfl, rfl⟩)))
          · exact absurd z (by decide)
        · refine (kd_num (f := f + 1) A r69 k1 k2 (by rw [b1]; decide) (by omega)).mono rfl (fun D' M' K' a' A' S' e q => ?_) id
          obtain ⟨rfl, nw⟩ := q
          refine ⟨⟨K, by omega, rfl⟩, by rw [sz.2]; exact nw.2.2.2.2.1, by rw [sz.2]; decide, fun s' N' m gx hN hN7 dr => ?_⟩
          rcases dr.ip ((e2 gx).1.trans l1) ((e2 gx).2.1.trans l2) (l3.mv gx) with ⟨-, im⟩ | ⟨z, -⟩
          · rw [F3]
            exact SxR.b0 (by omega) nw im.1 (Or.inl ⟨rfl, im.2.1, im.2.2.symm, by rw [im.2.2]; decide⟩)
          · exact absurd z (by decide)
      · have n1 : ¬ (-1 : Int32) = 1 := by decide
        rw [ifF n1] at sz
        rw [sz.1]
        have body : KB_X0_diff (KG_X0_diff f) a M = obS (KG_X0_diff f (mR M 3405 a) M) (fun w M => some (.inr w, M)) fun r M1 => if mk M1 133 = 4 then K_X3_make_2 133 7 r 0 M1 else none := by
          unfold KB_X0_diff
          rw [ifT ka.1, r69, b1]
          simp +decide only [↓reduceIte, ka.1, obS_id]
        rw [body]
        have h12 : hgt 1 0 0 = 2 := by decide
        have tail : ∀ (op' vl' : Int32), (∀ s' N' m, NdX s s' N → N ≤ N' → N' ≤ 70000 → Der s' N' (h + 1) n m → ∃ p, is1 s' N' 7 m p ∧ (1 ≤ p ∧ p < N') ∧ ((op' = 0 ∧ 0 ≤ vl' ∧ isN s' N' p vl') ∨ (op' = 17 ∧ ∃ d, vl' = nI d ∧ d < 180 ∧ is1 s' N' 30 p d))) → OKA 133 134 40000 D M K (KG_X0_diff f (mR M 3405 a) M) 1 (fun D' M' K' a' => a' = (pl D' 134).getD K 0 ∧ NwS 134 D' M' K op' vl' 0 (-1) 0 0 0 1) (200 < dH s (h + 1) n) → OKA 133 134 40000 D M K (obS (KG_X0_diff f (mR M 3405 a) M) (fun w M => some (.inr w, M)) fun r M1 => if mk M1 133 = 4 then K_X3_make_2 133 7 r 0 M1 else none) 2 (QD s V N (h + 1) n) (200 < dH s (h + 1) n) := fun op' vl' hdr c => by
          refine OKA.seq (z1 := 1) (z2 := 1) c (fun r1 D1 M1 K1 A1 S1 e1 q => ?_)
          obtain ⟨rfl, nw⟩ := q
          rw [ifT (en S1 A1).2.2.2.2.1]
          refine (ka_make2 x0 A1 (nw.ch2 (K := K1) (by omega) (by decide)) (Or.inl ⟨rfl, rfl⟩)).mono rfl (fun D' M' K' a' A' S' e q => ?_) (fun q => by rw [h12] at q; omega)
          obtain ⟨rfl, nw2, -⟩ := q
          rw [h12] at nw2
          have nw' := nw.sv (S'.sn x0 A1) (by omega)
          refine ⟨⟨K1, by omega, rfl⟩, by rw [sz.2]; exact nw2.2.2.2.2.1, by rw [sz.2]; decide, fun s' N' m gx hN hN7 dr => ?_⟩
          obtain ⟨p, i1, i2, i3⟩ := hdr s' N' m gx hN hN7 dr
          rw [F3]
          have c0 : SxR D' M' s' 134 V K' N' (3 * h + 2 + 2) 0 ((pl D' 134).getD K 0) p := by
            rcases i3 with ⟨rfl, hv0, im⟩ | ⟨rfl, d, rfl, d2, im⟩
            · exact SxR.b0 (by omega) nw' i2 (Or.inl ⟨rfl, im.2.1, im.2.2.symm, by rw [im.2.2]; exact hv0⟩)
            · exact SxR.bu (by omega) nw' i2 (Or.inr (Or.inr (Or.inr ⟨im.2.1, d, d2, im.2.2, rfl, rfl, rfl⟩)))
          have e4 := ((S'.sn x0 A1) K (by omega)).1
          rw [← e4] at nw2
          exact SxR.b1 (st := 0) (op := 7) (kx := 7) (t1 := 1) (by omega) (by decide) (by rw [h12]; exact nw2) i1 c0 (by omega) ⟨nw'.2.2.2.2.1, by decide⟩ hN7
        rcases lk with ⟨rfl, u, l1, l2⟩ | ⟨rfl, l1, v, u, l2, l3⟩
        · obtain ⟨d, ⟨d1, d2⟩, d3⟩ := hd u (Or.inl ⟨-1, l1⟩)
          refine tail 17 (nI d) (fun s' N' m gx hN hN7 dr => ?_) ?_
          · obtain ⟨d', ⟨f1, f2⟩, f3⟩ := dr.iu (l1.mv gx nb.2)
            have : d' = d := nI_inj (f1.symm.trans ((gx.2.2 u (by rw [d1]; exact nI_m1 (by omega))).trans d1)) (by omega) (by omega)
            subst this
            rcases f3 with ⟨z, -⟩ | ⟨-, p, f4, f5⟩
            · exact absurd z (by decide)
            · exact ⟨p, f4, f5.1, Or.inr ⟨rfl, d', rfl, d2, f5⟩⟩
          · exact kd_unk A r69 j1 j2 b4 ⟨b5.trans l2, l1.lt.1⟩ d3 (by omega)
        · refine tail 0 0 (fun s' N' m gx hN hN7 dr => ?_) (kd_num A r69 j1 j2 (by rw [b4]; decide) (by omega))
          rcases dr.ip ((e2 gx).1.trans l1) ((e2 gx).2.1.trans l2) (l3.mv gx) with ⟨z, -⟩ | ⟨-, p, f4, f5⟩
          · exact absurd z (by decide)
          · exact ⟨p, f4, f5.1, Or.inl ⟨rfl, by decide, f5⟩⟩
    · -- one part
      have x7 : x < 70000 := by have := x2.nb.2; omega
      have kk := one_k1 (oneX_T q1)
      have hx2 := PS_1 (h := h) kk
      rw [x1, ix_nI (by omega), hgt_eq] at hx2
      have hdx : DnK s M h x := fun u z => hd u (z.ca (Or.inl kk) x1 x7)
      simp only [List.mem_cons, Prod.mk.injEq, List.not_mem_nil, or_false] at q1
      have num : mI M 3400 a ∈ ([0, 1, 12, 13, 16, 18] : List Int32) → tA s 121 n ∈ ([0, 12, 13] : List Int32) → OKA 133 134 40000 D M K (KB_X0_diff (KG_X0_diff f) a M) (dS s (h + 1) n) (QD s V N (h + 1) n) (200 < dH s (h + 1) n) := fun hop hk => by
        have sz := dS_0 (s := s) (h := h) (n := n) (by
          simp only [List.mem_cons, List.not_mem_nil, or_false] at hk
          rcases hk with e | e | e <;> rw [e] <;> decide)
        rw [sz.1]
        refine (kd_num (f := f + 1) A r69 k1 k2 hop (by omega)).mono rfl (fun D' M' K' a' A' S' e q => ?_) id
        obtain ⟨rfl, nw⟩ := q
        refine ⟨⟨K, by omega, rfl⟩, by rw [sz.2]; exact nw.2.2.2.2.1, by rw [sz.2]; decide, fun s' N' m gx hN hN7 dr => ?_⟩
        have im := dr.i0 (by rw [(e2 gx).1]; exact hk)
        rw [F3]
        exact SxR.b0 (by omega) nw im.1 (Or.inl ⟨rfl, im.2.1, im.2.2.symm, by rw [im.2.2]; decide⟩)
      rcases q1 with ⟨-, q0, q1⟩ | ⟨-, q0, q1⟩ | ⟨-, q0, q1⟩ | ⟨-, q0, q1⟩ | ⟨-, q0, q1⟩ | ⟨z, -⟩
      · -- a negation
        have sz := dS_7 (h := h) q1 x1 x7
        have body : KB_X0_diff (KG_X0_diff f) a M = obS (KG_X0_diff f (mR M 3405 a) M) (fun w M => some (.inr w, M)) fun r M1 => if mk M1 133 = 4 then K_X3_make_2 133 7 r 0 M1 else none := by
          unfold KB_X0_diff
          rw [ifT ka.1, r69, q0]
          simp +decide only [↓reduceIte, ka.1, obS_id]
        rw [body]
        refine OKA.mono (z1 := dS s h x + 1) (Q1 := QD s V N (h + 1) n) (E := 200 < dH s (h + 1) n) ?_ (by rw [sz.1]; omega) (fun _ _ _ _ _ _ _ q => q) id
        refine OKA.seq ((dff A StA.rf x2 (by omega) hdx).mono rfl (fun _ _ _ _ _ _ _ q => q) (fun q => by rw [sz.2, hgt_eq]; omega)) (fun r1 D1 M1 K1 A1 S1 e1 g1 => ?_)
        rw [ifT (en S1 A1).2.2.2.2.1]
        refine (ka_make2 x0 A1 g1.ch (Or.inl ⟨rfl, rfl⟩)).mono rfl (fun D' M' K' a' A' S' e q => ?_) (fun q => by rw [sz.2]; exact q)
        obtain ⟨rfl, nw, ht⟩ := q
        have g1' := g1.sn (S'.sn x0 A1) S'.1
        refine ⟨⟨K1, by omega, rfl⟩, by rw [sz.2]; exact nw.2.2.2.2.1, by rw [sz.2]; exact ⟨by rw [hgt_eq]; omega, ht⟩, fun s' N' m gx hN hN7 dr => ?_⟩
        obtain ⟨a', p, i1, i2, i3⟩ := dr.i7 ((e2 gx).1.trans q1)
        have : a' = x := is1.uq i1 ((e2 gx).2.1.trans x1) (by have := i2.nb.2; omega) (by omega)
        subst this
        rw [F3]
        exact up hN7 (SxR.b1 (st := 0) (by omega) (by decide) nw i3 (g1'.2.2.2 s' N' p gx hN hN7 i2) (by omega) ⟨g1'.2.1, by have := g1.2.2.1; omega⟩ hN7) (by omega)
      · -- abs
        have sz := dS_10 (h := h) q1 x1 x7
        have body : KB_X0_diff (KG_X0_diff f) a M = obS (K_X0_copy (mR M 3405 a) M) (fun w M => some (.inr w, M)) fun r M1 => if mk M1 133 = 4 then obS (K_X3_make_2 133 12 r 0 M1) (fun w M => some (.inr w, M)) fun t M2 => if mk M2 a = 18 then obS (KG_X0_diff f (mR M2 3405 a) M2) (fun w M => some (.inr w, M)) fun p M3 => if mk M3 (mR M2 69 1) = 4 then K_X3_make_2 (mR M2 69 1) 5 t p M3 else none else none else none := by
          unfold KB_X0_diff
          rw [ifT ka.1, r69, q0]
          simp +decide only [↓reduceIte, ka.1, obS_id]
        rw [body]
        refine OKA.mono (z1 := PS s h x + (1 + (dS s h x + 1))) (Q1 := QD s V N (h + 1) n) (E := 200 < dH s (h + 1) n) ?_ (by rw [sz.1]; omega) (fun _ _ _ _ _ _ _ q => q) id
        refine OKA.seq (cpy A StA.rf x2 (by omega)) (fun r1 D1 M1 K1 A1 S1 e1 g1 => ?_)
        obtain ⟨t1, t2, t3⟩ := g1.hc (by omega)
        rw [ifT (en S1 A1).2.2.2.2.1]
        refine OKA.seq ((ka_make2 x0 A1 t1 (Or.inl ⟨rfl, rfl⟩)).mono rfl (fun _ _ _ _ _ _ _ q => q) (fun q => by rw [sz.2, hgt_eq]; omega)) (fun r2 D2 M2 K2 A2 S2 e2' g2 => ?_)
        obtain ⟨rfl, nw2, ht2⟩ := g2
        have S12 := S1.tr S2
        obtain ⟨b1, b2, b3, b4, b5, b6⟩ := en S12 A2
        rw [ifT b1, b3, b4]
        refine OKA.seq ((dff A2 S12 x2 (by omega) hdx).mono rfl (fun _ _ _ _ _ _ _ q => q) (fun q => by rw [sz.2, hgt_eq (hgt _ _ _)]; omega)) (fun r3 D3 M3 K3 A3 S3 e3' g3 => ?_)
        rw [ifT (en (S12.tr S3) A3).2.2.2.2.1]
        have nw2' := nw2.sv (S3.sn x0 A2) (by omega)
        have el2 := ((S3.sn x0 A2) K1 (by omega)).1
        refine (ka_make2 x0 A3 (by rw [← el2]; exact nw2'.ch2 (by omega) (by omega)) g3.ch).mono rfl (fun D' M' K' a' A' S' e q => ?_) (fun q => by rw [sz.2]; exact q)
        obtain ⟨rfl, nw, ht⟩ := q
        have nw2'' := nw2'.sv (S'.sn x0 A3) (by have := S3.1; omega)
        have el2' := ((S'.sn x0 A3) K1 (by have := S3.1; omega)).1
        have g3' := g3.sn (S'.sn x0 A3) S'.1
        refine ⟨⟨K3, by omega, rfl⟩, by rw [sz.2]; exact nw.2.2.2.2.1, by rw [sz.2]; exact ⟨by rw [hgt_eq]; omega, ht⟩, fun s' N' m gx hN hN7 dr => ?_⟩
        obtain ⟨a', p, t, i1, i2, i3, i4⟩ := dr.i10 ((e2 gx).1.trans q1)
        have : a' = x := is1.uq i1 ((e2 gx).2.1.trans x1) (by have := i2.nb.2; omega) (by omega)
        subst this
        rw [F3]
        have u1 := sv h7 A1 ((S2.tr S3).tr S') g1
        have t2' := (u1.hc (by omega)).2
        have p1 := SxR.b1 (st := 0) (by have := S3.1; have := S'.1; omega) (by decide) nw2'' i3 (cx u1 gx hN (show h ≤ 3 * h + 2 by omega)) (by omega) ⟨t2'.1, t2'.2⟩ hN7
        rw [← el2, ← el2'] at nw
        exact up hN7 (SxR.b2 (st := 0) (by omega) (by decide) nw i4 p1 (up hN7 (g3'.2.2.2 s' N' p gx hN hN7 i2) (Nat.le_succ _)) (by omega) ⟨nw2''.2.2.2.2.1, by omega⟩ ⟨g3'.2.1, by have := g3.2.2.1; omega⟩ hN7) (by omega)
      · -- sqrt
        have sz := dS_11 (h := h) q1 x1 x7
        have body : KB_X0_diff (KG_X0_diff f) a M = obS (KG_X0_diff f (mR M 3405 a) M) (fun w M => some (.inr w, M)) fun p M1 => if mk M1 (mR M1 69 1) = 4 then obS (K_X3_number (mR M1 69 1) 131072 M1) (fun w M => some (.inr w, M)) fun w M2 => if mk M2 a = 18 then obS (K_X0_copy (mR M2 3405 a) M2) (fun w M => some (.inr w, M)) fun r M3 => if mk M3 (mR M2 69 1) = 4 then obS (K_X3_make_2 (mR M2 69 1) 9 r 0 M3) (fun w M => some (.inr w, M)) fun t M4 => if mk M4 (mR M2 69 1) = 4 then obS (K_X3_make_2 (mR M2 69 1) 5 w t M4) (fun w M => some (.inr w, M)) fun u M5 => if mk M5 (mR M2 69 1) = 4 then K_X3_make_2 (mR M2 69 1) 6 p u M5 else none else none else none else none else none := by
          unfold KB_X0_diff
          rw [ifT ka.1, r69, q0]
          simp +decide only [↓reduceIte, ka.1, obS_id]
        rw [body]
        refine OKA.mono (z1 := dS s h x + (1 + (PS s h x + (1 + (1 + 1))))) (Q1 := QD s V N (h + 1) n) (E := 200 < dH s (h + 1) n) ?_ (by rw [sz.1]; omega) (fun _ _ _ _ _ _ _ q => q) id
        refine OKA.seq ((dff A StA.rf x2 (by omega) hdx).mono rfl (fun _ _ _ _ _ _ _ q => q) (fun q => by rw [sz.2, hgt_eq (dH s h x)]; omega)) (fun r1 D1 M1 K1 A1 S1 e1 g1 => ?_)
        obtain ⟨b1, b2, b3, b4, b5, b6⟩ := en S1 A1
        rw [b4, ifT b5]
        refine OKA.seq ((ka_num x0 A1).mono rfl (fun _ _ _ _ _ _ _ q => q) (fun q => q.elim)) (fun r2 D2 M2 K2 A2 S2 e2' g2 => ?_)
        obtain ⟨rfl, nw2⟩ := g2
        have S12 := S1.tr S2
        obtain ⟨b1, b2, b3, b4, b5, b6⟩ := en S12 A2
        rw [ifT b1, b3, b4]
        refine OKA.seq (cpy A2 S12 x2 (by omega)) (fun r3 D3 M3 K3 A3 S3 e3' g3 => ?_)
        have S13 := S12.tr S3
        rw [ifT (en S13 A3).2.2.2.2.1]
        obtain ⟨t1, t2, t3⟩ := g3.hc (by omega)
        refine OKA.seq ((ka_make2 x0 A3 t1 (Or.inl ⟨rfl, rfl⟩)).mono rfl (fun _ _ _ _ _ _ _ q => q) (fun q => by rw [sz.2, hgt_eq (dH s h x), hgt_eq 1]; omega)) (fun r4 D4 M4 K4 A4 S4 e4' g4 => ?_)
        obtain ⟨rfl, nw4, ht4⟩ := g4
        have S14 := S13.tr S4
        rw [ifT (en S14 A4).2.2.2.2.1]
        have S24 := S3.tr S4
        have nw2' := nw2.sv (S24.sn x0 A2) (by omega)
        have el2 := ((S24.sn x0 A2) K1 (by omega)).1
        have c2 := nw2'.ch2 (K := K4) (by have := S24.1; omega) (by decide)
        have c4 := nw4.ch2 (K := K4) (by omega) (by omega)
        rw [el2] at c2
        refine OKA.seq ((ka_make2 x0 A4 c2 c4).mono rfl (fun _ _ _ _ _ _ _ q => q) (fun q => by rw [sz.2, hgt_eq (dH s h x)]; omega)) (fun r5 D5 M5 K5 A5 S5 e5' g5 => ?_)
        obtain ⟨rfl, nw5, ht5⟩ := g5
        have S15 := S14.tr S5
        rw [ifT (en S15 A5).2.2.2.2.1]
        have S25 := ((S2.tr S3).tr S4).tr S5
        have g1' := g1.sn (S25.sn x0 A1) S25.1
        refine (ka_make2 x0 A5 g1'.ch (nw5.ch2 (by omega) (by omega))).mono rfl (fun D' M' K' a' A' S' e q => ?_) (fun q => by rw [sz.2]; exact q)
        obtain ⟨rfl, nw, ht⟩ := q
        have k12 := S24.1
        have nwW := (nw2.sv ((S24.tr (S5.tr S')).sn x0 A2) (by omega))
        have nwT := nw4.sv ((S5.tr S').sn x0 A4) (by omega)
        have nwU := nw5.sv (S'.sn x0 A5) (by omega)
        have elW := (((S24.tr (S5.tr S')).sn x0 A2) K1 (by omega)).1
        have elT := (((S5.tr S').sn x0 A4) K3 (by omega)).1
        have elU := ((S'.sn x0 A5) K4 (by omega)).1
        have gP := g1.sn ((S25.tr S').sn x0 A1) (S25.tr S').1
        refine ⟨⟨K5, by omega, rfl⟩, by rw [sz.2]; exact nw.2.2.2.2.1, by rw [sz.2]; exact ⟨by rw [hgt_eq]; omega, ht⟩, fun s' N' m gx hN hN7 dr => ?_⟩
        obtain ⟨a', p, t, u, w, i1, i2, i3, i4, i5, i6⟩ := dr.i11 ((e2 gx).1.trans q1)
        have : a' = x := is1.uq i1 ((e2 gx).2.1.trans x1) (by have := i2.nb.2; omega) (by omega)
        subst this
        rw [F3]
        have u1 := sv h7 A3 ((S4.tr S5).tr S') g3
        have t2' := (u1.hc (by omega)).2
        have pT := SxR.b1 (st := 0) (by omega) (by decide) nwT i3 (cx u1 gx hN (show h ≤ 3 * h + 2 by omega)) (by omega) ⟨t2'.1, t2'.2⟩ hN7
        have pW := SxR.b0 (V := V) (K' := K') (h := 3 * h + 2) (by omega) nwW i4.1 (Or.inl ⟨rfl, i4.2.1, i4.2.2.symm, by rw [i4.2.2]; decide⟩)
        rw [← elW, ← elT] at nwU
        have pU := SxR.b2 (st := 0) (by omega) (by decide) nwU i5 pW pT (by omega) ⟨nwW.2.2.2.2.1, by decide⟩ ⟨nwT.2.2.2.2.1, by omega⟩ hN7
        rw [← elU] at nw
        exact up hN7 (SxR.b2 (st := 0) (by omega) (by decide) nw i6 (up hN7 (gP.2.2.2 s' N' p gx hN hN7 i2) (by omega)) pU (by omega) ⟨gP.2.1, by have := g1.2.2.1; omega⟩ ⟨nwU.2.2.2.2.1, by omega⟩ hN7) (by omega)
      · exact num (by rw [q0]; decide) (by rw [q1]; decide)
      · exact num (by rw [q0]; decide) (by rw [q1]; decide)
      · exact absurd z (by decide)
    · -- two parts
      have x7 : x < 70000 := by have := x2.nb.2; omega
      have y7 : y < 70000 := by have := y2.nb.2; omega
      have kk := two_k2 (twoX_T q1)
      have hx2 := PS_2 (h := h) kk
      rw [x1, y1, ix_nI (show x < 2147483648 by omega), ix_nI (show y < 2147483648 by omega), hgt_eq] at hx2
      have hdx : DnK s M h x := fun u z => hd u (z.ca (Or.inr kk) x1 x7)
      have hdy : DnK s M h y := fun u z => hd u (z.cb kk y1 y7)
      simp only [List.mem_cons, Prod.mk.injEq, List.not_mem_nil, or_false] at q1
      have addsub : (mI M 3400 a = 3 ∧ tA s 121 n = 5) ∨ (mI M 3400 a = 4 ∧ tA s 121 n = 6) → OKA 133 134 40000 D M K (KB_X0_diff (KG_X0_diff f) a M) (dS s (h + 1) n) (QD s V N (h + 1) n) (200 < dH s (h + 1) n) := fun hq => by
        have k56 : tA s 121 n = 5 ∨ tA s 121 n = 6 := hq.imp (fun q => q.2) (fun q => q.2)
        have sz := dS_5 (h := h) k56 x1 y1 ⟨x7, y7⟩
        have body : KB_X0_diff (KG_X0_diff f) a M = obS (KG_X0_diff f (mR M 3405 a) M) (fun w M => some (.inr w, M)) fun r M1 => if mk M1 a = 18 then if mk M1 a = 18 then obS (KG_X0_diff f (mR M1 3406 a) M1) (fun w M => some (.inr w, M)) fun r' M2 => if mk M2 (mR M1 69 1) = 4 then K_X3_make_2 (mR M1 69 1) (mI M1 3400 a) r r' M2 else none else none else none := by
          unfold KB_X0_diff
          rw [ifT ka.1, r69]
          rcases hq with ⟨q0, -⟩ | ⟨q0, -⟩ <;> rw [q0] <;> simp +decide only [↓reduceIte, ka.1, obS_id]
        rw [body]
        refine OKA.mono (z1 := dS s h x + (dS s h y + 1)) (Q1 := QD s V N (h + 1) n) (E := 200 < dH s (h + 1) n) ?_ (by rw [sz.1]; omega) (fun _ _ _ _ _ _ _ q => q) id
        refine OKA.seq ((dff A StA.rf x2 (by omega) hdx).mono rfl (fun _ _ _ _ _ _ _ q => q) (fun q => by rw [sz.2, hgt_eq]; omega)) (fun r1 D1 M1 K1 A1 S1 e1 g1 => ?_)
        obtain ⟨b1, b2, b3, b4, b5, b6⟩ := en S1 A1
        rw [ifT b1, ifT b1, b3, b4, b2]
        refine OKA.seq ((dff A1 S1 y2 (by omega) hdy).mono rfl (fun _ _ _ _ _ _ _ q => q) (fun q => by rw [sz.2, hgt_eq]; omega)) (fun r2 D2 M2 K2 A2 S2 e2' g2 => ?_)
        rw [ifT (en (S1.tr S2) A2).2.2.2.2.1]
        have g1' := g1.sn (S2.sn x0 A1) S2.1
        refine (ka_make2 x0 A2 g1'.ch g2.ch).mono rfl (fun D' M' K' a' A' S' e q => ?_) (fun q => by rw [sz.2]; exact q)
        obtain ⟨rfl, nw, ht⟩ := q
        have gP := g1'.sn (S'.sn x0 A2) S'.1
        have gQ := g2.sn (S'.sn x0 A2) S'.1
        refine ⟨⟨K2, by omega, rfl⟩, by rw [sz.2]; exact nw.2.2.2.2.1, by rw [sz.2]; exact ⟨by rw [hgt_eq]; omega, ht⟩, fun s' N' m gx hN hN7 dr => ?_⟩
        obtain ⟨a', b', p, q, i1, i1', i2, i2', i3⟩ := dr.i5 (by rw [(e2 gx).1]; exact k56)
        have : a' = x := nI_inj (i1.symm.trans ((e2 gx).2.1.trans x1)) (by have := i2.nb.2; omega) (by omega)
        subst this
        have : b' = y := nI_inj (i1'.symm.trans ((e2 gx).2.2.1.trans y1)) (by have := i2'.nb.2; omega) (by omega)
        subst this
        rw [F3]
        rw [(e2 gx).1] at i3
        exact up hN7 (SxR.b2 (st := 0) (by omega) (by rcases hq with ⟨q1, q2⟩ | ⟨q1, q2⟩ <;> rw [q1, q2] <;> decide) nw i3 (gP.2.2.2 s' N' p gx hN hN7 i2) (gQ.2.2.2 s' N' q gx hN hN7 i2') (by omega) ⟨gP.2.1, by have := g1.2.2.1; omega⟩ ⟨gQ.2.1, by have := g2.2.2.1; omega⟩ hN7) (by omega)
      have minmax : (mI M 3400 a = 10 ∧ tA s 121 n = 14) ∨ (mI M 3400 a = 11 ∧ tA s 121 n = 15) → OKA 133 134 40000 D M K (KB_X0_diff (KG_X0_diff f) a M) (dS s (h + 1) n) (QD s V N (h + 1) n) (200 < dH s (h + 1) n) := fun hq => by
        have k56 : tA s 121 n = 14 ∨ tA s 121 n = 15 := hq.imp (fun q => q.2) (fun q => q.2)
        have sz := dS_14 (h := h) k56 x1 y1 ⟨x7, y7⟩
        obtain ⟨co, hco⟩ : ∃ co : Int32, co = if mI M 3400 a = 10 then 22 else 23 := ⟨_, rfl⟩
        have body : KB_X0_diff (KG_X0_diff f) a M = KJ_X0_diff_423 (KG_X0_diff f) a 133 co M := by
          unfold KB_X0_diff
          rw [ifT ka.1, r69, hco]
          rcases hq with ⟨q0, -⟩ | ⟨q0, -⟩ <;> rw [q0] <;> simp +decide only [↓reduceIte, ka.1]
        rw [body]
        unfold KJ_X0_diff_423
        rw [ifT ka.1]
        refine OKA.mono (z1 := PS s h x + (PS s h y + (1 + (dS s h x + (dS s h y + 1))))) (Q1 := QD s V N (h + 1) n) (E := 200 < dH s (h + 1) n) ?_ (by rw [sz.1]; omega) (fun _ _ _ _ _ _ _ q => q) id
        refine OKA.seq (cpy A StA.rf x2 (by omega)) (fun r1 D1 M1 K1 A1 S1 e1 g1 => ?_)
        obtain ⟨b1, b2, b3, b4, b5, b6⟩ := en S1 A1
        rw [ifT b1, b3]
        refine OKA.seq (cpy A1 S1 y2 (by omega)) (fun r2 D2 M2 K2 A2 S2 e2' g2 => ?_)
        have S12 := S1.tr S2
        rw [ifT (en S12 A2).2.2.2.2.1]
        have g1' := sv h7 A1 S2 g1
        obtain ⟨t1, t2, t3⟩ := g1'.hc (by omega)
        obtain ⟨t1', t2', t3'⟩ := g2.hc (by omega)
        refine OKA.seq ((ka_make2 x0 A2 t1 t1').mono rfl (fun _ _ _ _ _ _ _ q => q) (fun q => by rw [sz.2, hgt_eq (hgt _ _ _)]; omega)) (fun r3 D3 M3 K3 A3 S3 e3' g3 => ?_)
        obtain ⟨rfl, nw3, ht3⟩ := g3
        have S13 := S12.tr S3
        obtain ⟨b1, b2, b3, b4, b5, b6⟩ := en S13 A3
        rw [ifT b1, b3]
        refine OKA.seq ((dff A3 S13 x2 (by omega) hdx).mono rfl (fun _ _ _ _ _ _ _ q => q) (fun q => by rw [sz.2, hgt_eq (hgt _ _ _)]; omega)) (fun r4 D4 M4 K4 A4 S4 e4' g4 => ?_)
        have S14 := S13.tr S4
        obtain ⟨b1, b2, b3, b4, b5, b6⟩ := en S14 A4
        rw [ifT b1, b3, b4]
        refine OKA.seq ((dff A4 S14 y2 (by omega) hdy).mono rfl (fun _ _ _ _ _ _ _ q => q) (fun q => by rw [sz.2, hgt_eq (hgt _ _ _)]; omega)) (fun r5 D5 M5 K5 A5 S5 e5' g5 => ?_)
        rw [ifT (en (S14.tr S5) A5).2.2.2.2.1, obS_id]
        have S35 := S4.tr S5
        have k35 := S35.1
        have nw3' := nw3.sv (S35.sn x0 A3) (by omega)
        have el3 := ((S35.sn x0 A3) K2 (by omega)).1
        have g4' := g4.sn (S5.sn x0 A4) S5.1
        refine (ka_make x0 A5 (by rw [← el3]; exact nw3'.ch2 (by omega) (by omega)) g4'.ch g5.ch).mono rfl (fun D' M' K' a' A' S' e q => ?_) (fun q => by rw [sz.2]; exact q)
        obtain ⟨rfl, nw, ht⟩ := q
        have nwL := nw3'.sv (S'.sn x0 A5) (by omega)
        have elL := ((S'.sn x0 A5) K2 (by omega)).1
        have gP := g4'.sn (S'.sn x0 A5) S'.1
        have gQ := g5.sn (S'.sn x0 A5) S'.1
        refine ⟨⟨K5, by omega, rfl⟩, by rw [sz.2]; exact nw.2.2.2.2.1, by rw [sz.2]; exact ⟨by rw [hgt_eq]; omega, ht⟩, fun s' N' m gx hN hN7 dr => ?_⟩
        obtain ⟨a', b', p, q, c, i1, i1', i2, i2', i3, i4⟩ := dr.i14 (by rw [(e2 gx).1]; exact k56)
        have : a' = x := nI_inj (i1.symm.trans ((e2 gx).2.1.trans x1)) (by have := i2.nb.2; omega) (by omega)
        subst this
        have : b' = y := nI_inj (i1'.symm.trans ((e2 gx).2.2.1.trans y1)) (by have := i2'.nb.2; omega) (by omega)
        subst this
        rw [F3]
        rw [(e2 gx).1] at i3
        have uA := sv h7 A2 ((S3.tr S35).tr S') g1'
        have uB := sv h7 A2 ((S3.tr S35).tr S') g2
        have pA := (uA.hc (by omega)).2
        have pB := (uB.hc (by omega)).2
        have pL := SxR.b4 (V := V) (K' := K') (N := N') (s := s') (h := 3 * h + 2) (by omega) nwL i3.1 (Or.inr ⟨i3.2.1, by rw [i3.2.2.1, hco]; rcases hq with ⟨q1, q2⟩ | ⟨q1, q2⟩ <;> rw [q1, q2] <;> decide, rfl⟩) i3.2.2.2.1 i3.2.2.2.2 (cx uA gx hN (show h ≤ 3 * h + 2 by omega)) (cx uB gx hN (show h ≤ 3 * h + 2 by omega)) (by omega) ⟨pA.1, pA.2⟩ ⟨pB.1, pB.2⟩ hN7
        rw [← el3, ← elL] at nw
        exact up hN7 (SxR.b3 (by omega) nw i4 pL (up hN7 (gP.2.2.2 s' N' p gx hN hN7 i2) (Nat.le_succ _)) (up hN7 (gQ.2.2.2 s' N' q gx hN hN7 i2') (Nat.le_succ _)) (by omega) ⟨nwL.2.2.2.2.1, by omega⟩ ⟨gP.2.1, by have := g4.2.2.1; omega⟩ ⟨gQ.2.1, by have := g5.2.2.1; omega⟩ hN7) (by omega)
      rcases q1 with ⟨-, q0, q1⟩ | ⟨-, q0, q1⟩ | ⟨-, q0, q1⟩ | ⟨-, q0, q1⟩ | ⟨-, q0, q1⟩ | ⟨-, q0, q1⟩ | ⟨z, -⟩ | ⟨z, -⟩
      · exact addsub (Or.inl ⟨q0, q1⟩)
      · exact addsub (Or.inr ⟨q0, q1⟩)
      · -- a product
        have sz := dS_8 (h := h) q1 x1 y1 ⟨x7, y7⟩
        have body : KB_X0_diff (KG_X0_diff f) a M = obS (KG_X0_diff f (mR M 3405 a) M) (fun w M => some (.inr w, M)) fun r M1 => if mk M1 a = 18 then obS (K_X0_copy (mR M1 3406 a) M1) (fun w M => some (.inr w, M)) fun r2 M2 => if mk M2 133 = 4 then obS (K_X3_make_2 133 5 r r2 M2) (fun w M => some (.inr w, M)) fun l M3 => if mk M3 a = 18 then obS (K_X0_copy (mR M3 3405 a) M3) (fun w M => some (.inr w, M)) fun r4 M4 => if mk M4 a = 18 then obS (KG_X0_diff f (mR M4 3406 a) M4) (fun w M => some (.inr w, M)) fun r5 M5 => if mk M5 (mR M3 69 1) = 4 then obS (K_X3_make_2 (mR M3 69 1) 5 r4 r5 M5) (fun w M => some (.inr w, M)) fun l' M6 => if mk M6 (mR M3 69 1) = 4 then K_X3_make_2 (mR M3 69 1) 3 l l' M6 else none else none else none else none else none else none := by
          unfold KB_X0_diff
          rw [ifT ka.1, r69, q0]
          simp +decide only [↓reduceIte, ka.1, obS_id]
        rw [body]
        refine OKA.mono (z1 := dS s h x + (PS s h y + (1 + (PS s h x + (dS s h y + (1 + 1)))))) (Q1 := QD s V N (h + 1) n) (E := 200 < dH s (h + 1) n) ?_ (by rw [sz.1]; omega) (fun _ _ _ _ _ _ _ q => q) id
        refine OKA.seq ((dff A StA.rf x2 (by omega) hdx).mono rfl (fun _ _ _ _ _ _ _ q => q) (fun q => by rw [sz.2, hgt_eq (hgt _ _ _), hgt_eq (dH s h x)]; omega)) (fun r1 D1 M1 K1 A1 S1 e1 g1 => ?_)
        obtain ⟨b1, b2, b3, b4, b5, b6⟩ := en S1 A1
        rw [ifT b1, b3]
        refine OKA.seq (cpy A1 S1 y2 (by omega)) (fun r2 D2 M2 K2 A2 S2 e2' g2 => ?_)
        have S12 := S1.tr S2
        rw [ifT (en S12 A2).2.2.2.2.1]
        have g1' := g1.sn (S2.sn x0 A1) S2.1
        obtain ⟨t1, t2, t3⟩ := g2.hc (by omega)
        refine OKA.seq ((ka_make2 x0 A2 g1'.ch t1).mono rfl (fun _ _ _ _ _ _ _ q => q) (fun q => by rw [sz.2, hgt_eq (hgt _ _ _)]; omega)) (fun r3 D3 M3 K3 A3 S3 e3' g3 => ?_)
        obtain ⟨rfl, nw3, ht3⟩ := g3
        have S13 := S12.tr S3
        obtain ⟨b1, b2, b3, b4, b5, b6⟩ := en S13 A3
        rw [ifT b1, b3, b4]
        refine OKA.seq (cpy A3 S13 x2 (by omega)) (fun r4 D4 M4 K4 A4 S4 e4' g4 => ?_)
        have S14 := S13.tr S4
        obtain ⟨b1, b2, b3, b4, b5, b6⟩ := en S14 A4
        rw [ifT b1, b3]
        refine OKA.seq ((dff A4 S14 y2 (by omega) hdy).mono rfl (fun _ _ _ _ _ _ _ q => q) (fun q => by rw [sz.2, hgt_eq (hgt _ _ _), hgt_eq (PH s h x)]; omega)) (fun r5 D5 M5 K5 A5 S5 e5' g5 => ?_)
        have S15 := S14.tr S5
        rw [ifT (en S15 A5).2.2.2.2.1]
        have g4' := sv h7 A4 S5 g4
        obtain ⟨u1, u2, u3⟩ := g4'.hc (by omega)
        refine OKA.seq ((ka_make2 x0 A5 u1 g5.ch).mono rfl (fun _ _ _ _ _ _ _ q => q) (fun q => by rw [sz.2, hgt_eq (hgt _ _ _)]; omega)) (fun r6 D6 M6 K6 A6 S6 e6' g6 => ?_)
        obtain ⟨rfl, nw6, ht6⟩ := g6
        have S16 := S15.tr S6
        rw [ifT (en S16 A6).2.2.2.2.1]
        have S36 := (S4.tr S5).tr S6
        have k36 := S36.1
        have nw3' := nw3.sv (S36.sn x0 A3) (by omega)
        have el3 := ((S36.sn x0 A3) K2 (by omega)).1
        refine (ka_make2 x0 A6 (by rw [← el3]; exact nw3'.ch2 (by omega) (by omega)) (nw6.ch2 (by omega) (by omega))).mono rfl (fun D' M' K' a' A' S' e q => ?_) (fun q => by rw [sz.2]; exact q)
        obtain ⟨rfl, nw, ht⟩ := q
        have nwL := nw3'.sv (S'.sn x0 A6) (by omega)
        have elL := ((S'.sn x0 A6) K2 (by omega)).1
        have nwR := nw6.sv (S'.sn x0 A6) (by omega)
        have elR := ((S'.sn x0 A6) K5 (by omega)).1
        have S2f := (S3.tr S36).tr S'
        have gP := g1'.sn (S2f.sn x0 A2) S2f.1
        have gQ := g5.sn ((S6.tr S').sn x0 A5) (S6.tr S').1
        refine ⟨⟨K6, by omega, rfl⟩, by rw [sz.2]; exact nw.2.2.2.2.1, by rw [sz.2]; exact ⟨by rw [hgt_eq]; omega, ht⟩, fun s' N' m gx hN hN7 dr => ?_⟩
        obtain ⟨a', b', p, q, l, r, i1, i1', i2, i2', i3, i4, i5⟩ := dr.i8 ((e2 gx).1.trans q1)
        have : a' = x := nI_inj (i1.symm.trans ((e2 gx).2.1.trans x1)) (by have := i2.nb.2; omega) (by omega)
        subst this
        have : b' = y := nI_inj (i1'.symm.trans ((e2 gx).2.2.1.trans y1)) (by have := i2'.nb.2; omega) (by omega)
        subst this
        rw [F3]
        have uB := sv h7 A2 S2f g2
        have uA := sv h7 A5 (S6.tr S') g4'
        have pA := (uA.hc (by omega)).2
        have pB := (uB.hc (by omega)).2
        have pP := gP.2.2.2 s' N' p gx hN hN7 i2
        have pQ := gQ.2.2.2 s' N' q gx hN hN7 i2'
        have pL := SxR.b2 (st := 0) (by omega) (by decide) nwL i3 pP (cx uB gx hN (show h ≤ 3 * h + 2 by omega)) (by omega) ⟨gP.2.1, by have := g1.2.2.1; omega⟩ ⟨pB.1, pB.2⟩ hN7
        have pR := SxR.b2 (st := 0) (by omega) (by decide) nwR i4 (cx uA gx hN (show h ≤ 3 * h + 2 by omega)) pQ (by omega) ⟨pA.1, pA.2⟩ ⟨gQ.2.1, by have := g5.2.2.1; omega⟩ hN7
        rw [← el3, ← elL, ← elR] at nw
        exact up hN7 (SxR.b2 (st := 0) (by omega) (by decide) nw i5 pL pR (by omega) ⟨nwL.2.2.2.2.1, by omega⟩ ⟨nwR.2.2.2.2.1, by omega⟩ hN7) (by omega)
      · -- a quotient
        have sz := dS_9 (h := h) q1 x1 y1 ⟨x7, y7⟩
        have body : KB_X0_diff (KG_X0_diff f) a M = obS (KG_X0_diff f (mR M 3405 a) M) (fun w M => some (.inr w, M)) fun r M1 => if mk M1 a = 18 then obS (K_X0_copy (mR M1 3405 a) M1) (fun w M => some (.inr w, M)) fun r2 M2 => if mk M2 a = 18 then obS (K_X0_copy (mR M2 3406 a) M2) (fun w M => some (.inr w, M)) fun r3 M3 => if mk M3 (mR M1 69 1) = 4 then obS (K_X3_make_2 (mR M1 69 1) 6 r2 r3 M3) (fun w M => some (.inr w, M)) fun t M4 => if mk M4 a = 18 then obS (KG_X0_diff f (mR M4 3406 a) M4) (fun w M => some (.inr w, M)) fun r5 M5 => if mk M5 (mR M4 69 1) = 4 then obS (K_X3_make_2 (mR M4 69 1) 5 t r5 M5) (fun w M => some (.inr w, M)) fun u M6 => if mk M6 (mR M4 69 1) = 4 then obS (K_X3_make_2 (mR M4 69 1) 4 r u M6) (fun w M => some (.inr w, M)) fun v M7 => if mk M7 a = 18 then obS (K_X0_copy (mR M7 3406 a) M7) (fun w M => some (.inr w, M)) fun r8 M8 => if mk M8 (mR M7 69 1) = 4 then K_X3_make_2 (mR M7 69 1) 6 v r8 M8 else none else none else none else none else none else none else none else none := by
          unfold KB_X0_diff
          rw [ifT ka.1, r69, q0]
          simp +decide only [↓reduceIte, ka.1, obS_id]
        rw [body]
        refine OKA.mono (z1 := dS s h x + (PS s h x + (PS s h y + (1 + (dS s h y + (1 + (1 + (PS s h y + 1)))))))) (Q1 := QD s V N (h + 1) n) (E := 200 < dH s (h + 1) n) ?_ (by rw [sz.1]; omega) (fun _ _ _ _ _ _ _ q => q) id
        refine OKA.seq ((dff A StA.rf x2 (by omega) hdx).mono rfl (fun _ _ _ _ _ _ _ q => q) (fun q => by rw [sz.2, hgt_eq (hgt _ _ _), hgt_eq (dH s h x)]; omega)) (fun r1 D1 M1 K1 A1 S1 e1 g1 => ?_)
        obtain ⟨b1, b2, b3, b4, b5, b6⟩ := en S1 A1
        rw [ifT b1, b3, b4]
        refine OKA.seq (cpy A1 S1 x2 (by omega)) (fun r2 D2 M2 K2 A2 S2 e2' g2 => ?_)
        have S12 := S1.tr S2
        obtain ⟨b1, b2, b3, b4, b5, b6⟩ := en S12 A2
        rw [ifT b1, b3]
        refine OKA.seq (cpy A2 S12 y2 (by omega)) (fun r3 D3 M3 K3 A3 S3 e3' g3 => ?_)
        have S13 := S12.tr S3
        rw [ifT (en S13 A3).2.2.2.2.1]
        have g2' := sv h7 A2 S3 g2
        obtain ⟨t1, t2, t3⟩ := g2'.hc (by omega)
        obtain ⟨t1', t2', t3'⟩ := g3.hc (by omega)
        refine OKA.seq ((ka_make2 x0 A3 t1 t1').mono rfl (fun _ _ _ _ _ _ _ q => q) (fun q => by rw [sz.2, hgt_eq (hgt _ _ _), hgt_eq (dH s h x), hgt_eq (hgt _ _ _)]; omega)) (fun r4 D4 M4 K4 A4 S4 e4' g4 => ?_)
        obtain ⟨rfl, nw4, ht4⟩ := g4
        have S14 := S13.tr S4
        obtain ⟨b1, b2, b3, b4, b5, b6⟩ := en S14 A4
        rw [ifT b1, b3, b4]
        refine OKA.seq ((dff A4 S14 y2 (by omega) hdy).mono rfl (fun _ _ _ _ _ _ _ q => q) (fun q => by rw [sz.2, hgt_eq (hgt _ _ _), hgt_eq (dH s h x), hgt_eq (hgt _ _ _)]; omega)) (fun r5 D5 M5 K5 A5 S5 e5' g5 => ?_)
        have S15 := S14.tr S5
        rw [ifT (en S15 A5).2.2.2.2.1]
        have nw4' := nw4.sv (S5.sn x0 A4) (by omega)
        have el4 := ((S5.sn x0 A4) K3 (by omega)).1
        have k5 := S5.1
        refine OKA.seq ((ka_make2 x0 A5 (by rw [← el4]; exact nw4'.ch2 (by omega) (by omega)) g5.ch).mono rfl (fun _ _ _ _ _ _ _ q => q) (fun q => by rw [sz.2, hgt_eq (hgt _ _ _), hgt_eq (dH s h x)]; omega)) (fun r6 D6 M6 K6 A6 S6 e6' g6 => ?_)
        obtain ⟨rfl, nw6, ht6⟩ := g6
        have S16 := S15.tr S6
        rw [ifT (en S16 A6).2.2.2.2.1]
        have S1' := (((S2.tr S3).tr S4).tr S5).tr S6
        have g1' := g1.sn (S1'.sn x0 A1) S1'.1
        refine OKA.seq ((ka_make2 x0 A6 g1'.ch (nw6.ch2 (by omega) (by omega))).mono rfl (fun _ _ _ _ _ _ _ q => q) (fun q => by rw [sz.2, hgt_eq (hgt _ _ _)]; omega)) (fun r7 D7 M7 K7 A7 S7 e7' g7 => ?_)
        obtain ⟨rfl, nw7, ht7⟩ := g7
        have S17 := S16.tr S7
        obtain ⟨b1, b2, b3, b4, b5, b6⟩ := en S17 A7
        rw [ifT b1, b3, b4]
        refine OKA.seq (cpy A7 S17 y2 (by omega)) (fun r8 D8 M8 K8 A8 S8 e8' g8 => ?_)
        rw [ifT (en (S17.tr S8) A8).2.2.2.2.1]
        obtain ⟨v1, v2, v3⟩ := g8.hc (by omega)
        have k8 := S8.1
        have nw7' := nw7.sv (S8.sn x0 A7) (by omega)
        have el7 := ((S8.sn x0 A7) K6 (by omega)).1
        refine (ka_make2 x0 A8 (by rw [← el7]; exact nw7'.ch2 (by omega) (by omega)) v1).mono rfl (fun D' M' K' a' A' S' e q => ?_) (fun q => by rw [sz.2]; exact q)
        obtain ⟨rfl, nw, ht⟩ := q
        have S7f := S8.tr S'
        have S6f := S7.tr S7f
        have S4f := (S5.tr S6).tr S6f
        have S3f := S4.tr S4f
        have nwV := nw7.sv (S7f.sn x0 A7) (by omega)
        have elV := ((S7f.sn x0 A7) K6 (by omega)).1
        have nwU := nw6.sv (S6f.sn x0 A6) (by omega)
        have elU := ((S6f.sn x0 A6) K5 (by omega)).1
        have nwT := nw4.sv (S4f.sn x0 A4) (by omega)
        have elT := ((S4f.sn x0 A4) K3 (by omega)).1
        have gP := g1'.sn (S6f.sn x0 A6) S6f.1
        have gQ := g5.sn ((S6.tr S6f).sn x0 A5) (S6.tr S6f).1
        refine ⟨⟨K8, by omega, rfl⟩, by rw [sz.2]; exact nw.2.2.2.2.1, by rw [sz.2]; exact ⟨by rw [hgt_eq]; omega, ht⟩, fun s' N' m gx hN hN7 dr => ?_⟩
        obtain ⟨a', b', p, q, t, u, w, i1, i1', i2, i2', i3, i4, i5, i6⟩ := dr.i9 ((e2 gx).1.trans q1)
        have : a' = x := nI_inj (i1.symm.trans ((e2 gx).2.1.trans x1)) (by have := i2.nb.2; omega) (by omega)
        subst this
        have : b' = y := nI_inj (i1'.symm.trans ((e2 gx).2.2.1.trans y1)) (by have := i2'.nb.2; omega) (by omega)
        subst this
        rw [F3]
        have uA := sv h7 A3 S3f g2'
        have uB := sv h7 A3 S3f g3
        have uC := sv h7 A8 S' g8
        have pA := (uA.hc (by omega)).2
        have pB := (uB.hc (by omega)).2
        have pC := (uC.hc (by omega)).2
        have pP := gP.2.2.2 s' N' p gx hN hN7 i2
        have pQ := gQ.2.2.2 s' N' q gx hN hN7 i2'
        have pT := SxR.b2 (st := 0) (by omega) (by decide) nwT i3 (cx uA gx hN (show h ≤ 3 * h + 1 by omega)) (cx uB gx hN (show h ≤ 3 * h + 1 by omega)) (by omega) ⟨pA.1, pA.2⟩ ⟨pB.1, pB.2⟩ hN7
        rw [← el4] at nw6
        have nwU' := nw6.sv (S6f.sn x0 A6) (by omega)
        have el4' := (((S6.tr S6f).sn x0 A5) K3 (by have := A5.2.2.2.1; omega)).1
        rw [← el4'] at nwU'
        have pU := SxR.b2 (st := 0) (by omega) (by decide) nwU' i4 pT pQ (by omega) ⟨nwT.2.2.2.2.1, by omega⟩ ⟨gQ.2.1, by have := g5.2.2.1; omega⟩ hN7
        rw [← elU] at nwV
        have pV := SxR.b2 (st := 0) (by omega) (by decide) nwV i5 (up hN7 pP (Nat.le_succ _)) pU (by omega) ⟨gP.2.1, by have := g1.2.2.1; omega⟩ ⟨nwU.2.2.2.2.1, by omega⟩ hN7
        rw [← elV] at nw
        exact up hN7 (SxR.b2 (st := 0) (by omega) (by decide) nw i6 pV (cx uC gx hN (show h ≤ 3 * h + 2 + 2 by omega)) (by omega) ⟨nwV.2.2.2.2.1, by omega⟩ ⟨pC.1, pC.2⟩ hN7) (by omega)
      · exact minmax (Or.inl ⟨q0, q1⟩)
      · exact minmax (Or.inr ⟨q0, q1⟩)
      · exact absurd z (by decide)
      · exact absurd z (by decide)
    · -- a choice
      have x7 : x < 70000 := by have := x2.nb.2; omega
      have y7 : y < 70000 := by have := y2.nb.2; omega
      have w7 : w < 70000 := by have := w2.nb.2; omega
      have hx2 := PS_3 (h := h) q1
      rw [x1, y1, w1, ix_nI (show x < 2147483648 by omega), ix_nI (show y < 2147483648 by omega), ix_nI (show w < 2147483648 by omega), hgt_eq] at hx2
      have hdy : DnK s M h y := fun u z => hd u (z.cd q1 (Or.inr (Or.inl y1)) y7)
      have hdw : DnK s M h w := fun u z => hd u (z.cd q1 (Or.inr (Or.inr w1)) w7)
      have sz := dS_16 (h := h) q1 x1 y1 w1 ⟨y7, w7, x7⟩
      have body : KB_X0_diff (KG_X0_diff f) a M = obS (K_X0_copy (mR M 3405 a) M) (fun w M => some (.inr w, M)) fun r M1 => if mk M1 a = 18 then obS (KG_X0_diff f (mR M1 3406 a) M1) (fun w M => some (.inr w, M)) fun r2 M2 => if mk M2 a = 18 then obS (KG_X0_diff f (mR M2 3407 a) M2) (fun w M => some (.inr w, M)) fun r3 M3 => if mk M3 (mR M2 69 1) = 4 then K_X3_make (mR M2 69 1) 14 0 r r2 r3 M3 else none else none else none := by
        unfold KB_X0_diff
        rw [ifT ka.1, r69, q2]
        simp +decide only [↓reduceIte, ka.1, obS_id]
      rw [body]
      refine OKA.mono (z1 := PS s h x + (dS s h y + (dS s h w + 1))) (Q1 := QD s V N (h + 1) n) (E := 200 < dH s (h + 1) n) ?_ (by rw [sz.1]; omega) (fun _ _ _ _ _ _ _ q => q) id
      refine OKA.seq (cpy A StA.rf x2 (by omega)) (fun r1 D1 M1 K1 A1 S1 e1 g1 => ?_)
      obtain ⟨b1, b2, b3, b4, b5, b6⟩ := en S1 A1
      rw [ifT b1, b3]
      refine OKA.seq ((dff A1 S1 y2 (by omega) hdy).mono rfl (fun _ _ _ _ _ _ _ q => q) (fun q => by rw [sz.2, hgt_eq]; omega)) (fun r2 D2 M2 K2 A2 S2 e2' g2 => ?_)
      have S12 := S1.tr S2
      obtain ⟨b1, b2, b3, b4, b5, b6⟩ := en S12 A2
      rw [ifT b1, b3, b4]
      refine OKA.seq ((dff A2 S12 w2 (by omega) hdw).mono rfl (fun _ _ _ _ _ _ _ q => q) (fun q => by rw [sz.2, hgt_eq]; omega)) (fun r3 D3 M3 K3 A3 S3 e3' g3 => ?_)
      rw [ifT (en (S12.tr S3) A3).2.2.2.2.1]
      have g1' := sv h7 A1 (S2.tr S3) g1
      obtain ⟨t1, t2, t3⟩ := g1'.hc (by omega)
      have g2' := g2.sn (S3.sn x0 A2) S3.1
      refine (ka_make x0 A3 t1 g2'.ch g3.ch).mono rfl (fun D' M' K' a' A' S' e q => ?_) (fun q => by rw [sz.2]; exact q)
      obtain ⟨rfl, nw, ht⟩ := q
      have gP := g2'.sn (S'.sn x0 A3) S'.1
      have gQ := g3.sn (S'.sn x0 A3) S'.1
      refine ⟨⟨K3, by omega, rfl⟩, by rw [sz.2]; exact nw.2.2.2.2.1, by rw [sz.2]; exact ⟨by rw [hgt_eq]; omega, ht⟩, fun s' N' m gx hN hN7 dr => ?_⟩
      obtain ⟨c', a', b', p, q, i0, i1, i1', i2, i2', i3⟩ := dr.i16 ((e2 gx).1.trans q1)
      have : a' = y := nI_inj (i1.symm.trans ((e2 gx).2.2.1.trans y1)) (by have := i2.nb.2; omega) (by omega)
      subst this
      have : b' = w := nI_inj (i1'.symm.trans ((e2 gx).2.2.2.trans w1)) (by have := i2'.nb.2; omega) (by omega)
      subst this
      have i3' : is3 s' N' m x p q := ⟨i3.1, i3.2.1, by rw [i3.2.2.1, ← i0]; exact (e2 gx).2.1.trans x1, i3.2.2.2⟩
      rw [F3]
      have uC := sv h7 A3 S' g1'
      have pC := (uC.hc (by omega)).2
      exact up hN7 (SxR.b3 (by omega) nw i3' (cx uC gx hN (show h ≤ 3 * h + 2 by omega)) (gP.2.2.2 s' N' p gx hN hN7 i2) (gQ.2.2.2 s' N' q gx hN hN7 i2') (by omega) ⟨pC.1, pC.2⟩ ⟨gP.2.1, by have := g2.2.2.1; omega⟩ ⟨gQ.2.1, by have := g3.2.2.1; omega⟩ hN7) (by omega)
    · exact absurd z (by decide)
    · exact absurd z (by decide)
end DIFF2
