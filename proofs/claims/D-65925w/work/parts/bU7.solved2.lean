/-! Layer B: the component solves a flat tree, whole -/
set_option maxRecDepth 100000
section SOLVED2
variable {s s' s1 s2 σ : TS} {D D' D1 D2 : FQ} {M M0 M' M1 M2 : CM} {l V K K1 K2 K0 K' Kf N N' h h' f st a n m p q r k c1 c2 c3 t1 t2 t3 j u v w x0 X H z z1 z2 z3 o y : Nat} {op vl x kx mo he op' vl' : Int32} {E E' : Prop} {cf : Nat → CM → Option ((Nat ⊕ Nat) × CM)}
theorem k_sv32n (A : ArS x0 l X D M K) (ka : mk M a = 18) (hv : v < (pl D 98).length ∧ mI M 3401 a = nI v) (hk : ¬ mI M 3203 ((pl D 98).getD v 0) = 0) : KJ_X0_solvedEx_32 cf a M = KJ_X0_solvedEx_57 cf a 0 M := by
  have g : K_J2_get 98 (nI v) M = some ((pl D 98).getD v 0, M) := ls_get (A.1.1 98 (by decide)).1 hv.1
  have g2 : mk M ((pl D 98).getD v 0) = 17 := (A.1.2.1 98 (by decide) v hv.1).1
  unfold KJ_X0_solvedEx_32 KJ_X0_solvedEx_56
  rw [ifT ka, hv.2, g, ob_some, ifT (Or.inr g2), ifT g2, ifF hk]
theorem k_svT (hx : NdS2 x0 l X H) (hV : V ≤ 96) (h7 : N ≤ 70000) : ∀ (h f st a n : Nat) (D : FQ) (M : CM) (K : Nat), h + 1 < f → h ≤ 100 → EnS x0 l X Kf V s D M K → NdR 0 D M s 106 V h st Kf N a n → NumT D M s Kf N h n → (l = 134 → DrD s h n) → OKH x0 l X D M K (KG_X0_solvedEx f a M) (PS s h n) (fun D' M' K' a' => SxR D' M' s l V K' N h st a' n ∧ RlS D' M M' s l V K' N (OcT s N h n)) E
  | 0, _, _, _, _, _, _, _, _, _, _, z, _, _ => z.elim
  | h + 1, 0, _, _, _, _, _, _, hf, _, _, _, _, _ => absurd hf (Nat.not_lt_zero _)
  | h + 1, f + 1, st, a, n, D, M, K, hf, hh, e, z, nt, dr => by
    have ih := fun st a n D M K e z nt dr => k_svT hx hV h7 h f st a n D M K (by omega) (by omega) e z nt dr
    obtain ⟨A, r69, ⟨hKf, hKf2, nuA⟩, hVl, vad⟩ := id e
    obtain ⟨f, rfl⟩ : ∃ g, f = g + 1 := ⟨f - 1, by omega⟩
    have nul : ∀ M, KG_X0_solvedEx (f + 1) 0 M = some (.inl 0, M) := fun M => k_sv0 f M
    obtain ⟨⟨⟨k, k1, k2, kn⟩, nb⟩, ⟨t, -, -, -, -, ho⟩, z⟩ := id z
    have kn := kn rfl
    have n5 : n < N ∧ n < 100000 := ⟨nb.2, by omega⟩
    have hk6 : k < (pl D 106).length := by omega
    have ka : mk M a = 18 ∧ a ≠ 0 := by
      obtain ⟨b1, b2, -⟩ := A.1.2.1 106 (by decide) k hk6
      rw [k2]; exact ⟨b1, by omega⟩
    have hH : 200 ≤ H := by rcases hx with ⟨-, -, -, rfl⟩ | ⟨-, -, -, rfl⟩ <;> decide
    have mvE : ∀ {D1 M1 K1}, ArS x0 l X D1 M1 K1 → StH x0 l D M K D1 M1 K1 → EnS x0 l X Kf V s D1 M1 K1 ∧ NdK D M s D1 M1 s 106 Kf N := fun A1 S => e.mv hx A1 S
    have mvC : ∀ {D1 M1 K1 st a n}, ArS x0 l X D1 M1 K1 → StH x0 l D M K D1 M1 K1 → NdR 0 D M s 106 V h st Kf N a n → NdR 0 D1 M1 s 106 V h st Kf N a n := fun A1 S q => NdR.mv (mvE A1 S).2 (Nat.le_refl _) (Nat.le_refl _) (Nat.le_refl _) h h _ _ _ (Nat.le_refl _) q
    have mv2 : ∀ {D1 M1 K1 D2 M2 K2 st a n}, ArS x0 l X D1 M1 K1 → StH x0 l D1 M1 K1 D2 M2 K2 → SxR D1 M1 s l V K1 N h st a n → SxR D2 M2 s l V K2 N h st a n := fun A1 S q => SxR.mv (S.sn hx A1) NdX.rf S.1 (Nat.le_refl _) h7 _ _ _ _ _ (Nat.le_refl _) q
    have ch2 : ∀ x, tA s 121 n ∈ kd2 → tA s 122 n = nI x → x < N → NumT D M s Kf N h x ∧ (l = 134 → DrD s h x) := fun x hk e1 hx' => ⟨fun m o r => nt m ⟨n5, Or.inr (Or.inl ⟨hk, x, e1, o⟩)⟩ r, fun hl v u y d lu => dr hl v u y (by rw [DrL]; exact Or.inr (Or.inl ⟨hk, by rw [e1, ix_nI (by omega)]; exact d⟩)) lu⟩
    have ch3 : ∀ x, tA s 121 n ∈ kd3 → tA s 123 n = nI x → x < N → NumT D M s Kf N h x ∧ (l = 134 → DrD s h x) := fun x hk e1 hx' => ⟨fun m o r => nt m ⟨n5, Or.inr (Or.inr (Or.inl ⟨hk, x, e1, o⟩))⟩ r, fun hl v u y d lu => dr hl v u y (by rw [DrL]; exact Or.inr (Or.inr (Or.inl ⟨hk, by rw [e1, ix_nI (by omega)]; exact d⟩))) lu⟩
    have ch4 : ∀ x, tA s 121 n ∈ kd4 → tA s 124 n = nI x → x < N → NumT D M s Kf N h x ∧ (l = 134 → DrD s h x) := fun x hk e1 hx' => ⟨fun m o r => nt m ⟨n5, Or.inr (Or.inr (Or.inr ⟨hk, x, e1, o⟩))⟩ r, fun hl v u y d lu => dr hl v u y (by rw [DrL]; exact Or.inr (Or.inr (Or.inr ⟨hk, by rw [e1, ix_nI (by omega)]; exact d⟩))) lu⟩
    have nm1 : ∀ {r}, r < 24 → ¬ (-1 : Int32) = nI r := fun hr z => nI_m1 (by omega) z.symm
    have slf : OcT s N (h + 1) n n := ⟨n5, Or.inl rfl⟩
    have numr : isR s n → ∃ r, r < 24 ∧ mI M 3403 a = nI r ∧ tA s 162 n = nI r := fun i => by
      obtain ⟨-, r, c1, c2, c3, -⟩ := nt n slf i
      rw [show n - 1 = k by omega, ← k2] at c2
      exact ⟨r, c1, c2, c3⟩
    have U : UnS s (OcT s N (h + 1) n) := nt.un hKf2
    show OKH x0 l X D M K (KB_X0_solvedEx (KG_X0_solvedEx (f + 1)) a M) _ _ E
    rw [k_svW ka.1 ka.2]
    -- a leaf that is no relation
    have leaf : lf3 M a → ¬ isR s n → tA s 121 n ∈ k0T → mI M 3403 a = -1 → (∀ D' M' K', K < K' → NwS l D' M' K (mI M 3400 a) (mI M 3401 a) (mI M 3402 a) (mI M 3403 a) 0 0 0 1 → SxR D' M' s l V K' N (h + 1) st ((pl D' l).getD K 0) n) → PS s (h + 1) n = 1 → OKH x0 l X D M K (KJ_X0_solvedEx_57 (KG_X0_solvedEx (f + 1)) a 0 M) (PS s (h + 1) n) (fun D' M' K' a' => SxR D' M' s l V K' N (h + 1) st a' n ∧ RlS D' M M' s l V K' N (OcT s N (h + 1) n)) E := fun lf ni k0 he hb ps => by
      rw [ps]
      refine (k_svL hx A r69 hk6 k2 (Or.inl he) lf (Nat.succ_pos f)).mono rfl (fun D' M' K' a' A' S' ek q => ?_) id
      obtain ⟨⟨q1, q2, q3, q4⟩, q5⟩ := q
      have e5 : ∀ j, mX M' 137 j = mX M 137 j := by
        rcases q5 with q5 | ⟨r, r1, r2, -⟩
        · exact q5.2
        · exact absurd (he.symm.trans r2) (nm1 r1)
      rw [q2]
      exact ⟨hb D' M' K' (by omega) q3, ((RlS.nil (D1 := D) (K1 := K) (fun _ => rfl)).no q4 (by omega) h7 e5 ni).im (fun m => by rw [oc_0 n5 k0]; exact ⟨Or.inr, fun y => y.elim (fun y => y.elim) id⟩)⟩
    rcases z with ⟨rfl, b1, b2, b3, lf⟩ | ⟨rfl, b1, ⟨v, v1, v2, v3, -, v4, v5⟩, lf⟩ | ⟨rfl, b1, b2, -, lf⟩ | ⟨rfl, b1, ⟨x, x1, x2⟩, g6, g7⟩ | ⟨rfl, b1, ⟨x, x1, x2⟩, ⟨y, y1, y2⟩, g7⟩ | ⟨rfl, b1, b2, ⟨x, x1, x2⟩, ⟨y, y1, y2⟩, w, w1, w2⟩ | ⟨rfl, b2, b1, ⟨y, y1, y2⟩, ⟨w, w1, w2⟩, g7⟩ | ⟨rfl, b1, ⟨x, x1, x2⟩, ⟨y, y1, y2⟩, g7⟩ | ⟨rfl, b1, b2, ⟨x, x1, x2⟩, g6, g7⟩ | ⟨rfl, b1, b2, -, b3, lf⟩
    · rw [ifF (by rw [b1]; decide)]
      exact leaf lf (by unfold isR; rw [b2]; decide) (by rw [b2]; decide) (ho (by rw [b1]; decide)) (fun D' M' K' hK nw => SxR.b0 hK nw nb (Or.inl ⟨b1, b2, b3, by rw [kn]; exact nuA k k1 (by rw [← kn]; exact b2)⟩)) (PS_0 (by rw [b2]; decide)).1
    · have opv : mI M 3400 a = 1 ∨ mI M 3400 a = 15 ∨ mI M 3400 a = 16 := by
        simp only [List.mem_cons, Prod.mk.injEq, List.not_mem_nil, or_false] at b1
        rcases b1 with ⟨b, -⟩ | ⟨b, -⟩ | ⟨b, -⟩
        · exact Or.inl b
        · exact Or.inr (Or.inl b)
        · exact Or.inr (Or.inr b)
      have knd : tA s 121 n = 2 ∨ tA s 121 n = 3 ∨ tA s 121 n = 4 := by
        simp only [List.mem_cons, Prod.mk.injEq, List.not_mem_nil, or_false] at b1
        rcases b1 with ⟨-, b⟩ | ⟨-, b⟩ | ⟨-, b⟩
        · exact Or.inl b
        · exact Or.inr (Or.inl b)
        · exact Or.inr (Or.inr b)
      have ni : ¬ isR s n := by unfold isR; rcases knd with b | b | b <;> rw [b] <;> decide
      have k0 : tA s 121 n ∈ k0T := by rcases knd with b | b | b <;> rw [b] <;> decide
      rw [ifT opv]
      by_cases h0 : tA s 94 v = 0
      · refine (k_svU (h := h) hx e hV k1 k2 nb b1 ⟨v1, v2, v3⟩ h0 (fun hl h3 u x lu => dr hl v u x (by rw [DrL]; exact Or.inl ⟨h3, v3⟩) lu)).mono rfl (fun D' M' K' a' A' S' ek q => ⟨q.1, ?_⟩) id
        exact ((RlS.nil (D1 := D) (K1 := K) (fun _ => rfl)).no (S'.sn hx A) S'.1 h7 (fun j => q.2.x j) ni).im (fun m => by rw [oc_0 n5 k0]; exact ⟨Or.inr, fun y => y.elim (fun y => y.elim) id⟩)
      · obtain ⟨⟨xk, xk1, xk2, xk3⟩, -⟩ := vad v v1
        rw [k_sv32n A ka.1 ⟨by omega, v2⟩ (by rw [xk2, ← xk3]; exact h0)]
        have k3 : ¬ tA s 121 n = 3 := fun y => h0 (v4 y)
        have opn : (mI M 3400 a, tA s 121 n) ∈ plX := by
          simp only [List.mem_cons, Prod.mk.injEq, List.not_mem_nil, or_false] at b1 ⊢
          rcases b1 with b | ⟨-, b⟩ | b
          · exact Or.inl b
          · exact absurd b k3
          · exact Or.inr b
        have h42 : tA s 121 n = 4 → tA s 94 v = 2 := fun y => by
          have := v5 y
          rw [xk3] at h0 this ⊢
          have : xk = 2 := by
            by_cases e0 : xk = 0
            · subst e0; exact absurd rfl h0
            · by_cases e1 : xk = 1
              · subst e1; exact absurd rfl this
              · omega
          rw [this]; rfl
        refine leaf lf ni k0 (ho (by rcases opv with b | b | b <;> rw [b] <;> decide)) (fun D' M' K' hK nw => SxR.b0 hK nw nb (Or.inr (Or.inr ⟨opn, v, ⟨v1, by omega⟩, v2, v3, h0, h42⟩))) ?_
        have kv : tA s 121 n ∈ ([2, 3, 4] : List Int32) := by rcases knd with b | b | b <;> rw [b] <;> decide
        rw [(PS_v kv).1, ifF (fun y => by unfold ngv at y; rw [v3, ix_nI (by omega)] at y; exact h0 y.1)]
    · rw [ifF (by rw [b1]; decide)]
      exact leaf lf (by unfold isR; rw [b2]; decide) (by rw [b2]; decide) (ho (by rw [b1]; decide)) (fun D' M' K' hK nw => SxR.b0 hK nw nb (Or.inr (Or.inl ⟨b1, b2⟩))) (PS_0 (by rw [b2]; decide)).1
    · have hone : (0, mI M 3400 a, tA s 121 n) ∈ oneX := by
        simp only [List.mem_cons, Prod.mk.injEq, List.not_mem_nil, or_false] at b1 ⊢
        rcases b1 with ⟨p, q⟩ | ⟨p, q⟩ | ⟨p, q⟩ | ⟨p, q⟩ | ⟨p, q⟩ <;> rw [p, q] <;> decide
      have opn : ¬ (mI M 3400 a = 1 ∨ mI M 3400 a = 15 ∨ mI M 3400 a = 16) ∧ mI M 3400 a ∉ rlO ∧ tA s 121 n ∈ kd2 ∧ ¬ isR s n := by
        unfold isR
        simp only [List.mem_cons, Prod.mk.injEq, List.not_mem_nil, or_false] at b1
        rcases b1 with ⟨p, q⟩ | ⟨p, q⟩ | ⟨p, q⟩ | ⟨p, q⟩ | ⟨p, q⟩ <;> rw [p, q] <;> decide
      have kx1 := one_k1 (oneX_T hone)
      have xN := x2.nb
      have sz := PS_1 (h := h) kx1
      rw [x1, ix_nI (by omega)] at sz
      have he := ho opn.2.1
      obtain ⟨nx, dx⟩ := ch2 x opn.2.2.1 x1 (by omega)
      rw [ifF opn.1]
      refine (k_svB (z1 := PS s h x) (z2 := 0) (z3 := 0) hx A r69 hk6 k2 (Or.inl he) (Q1 := fun D' M' K' a' => SxR D' M' s l V K' N h 0 a' x ∧ RlS D' M M' s l V K' N (OcT s N h x)) (Q2 := fun r1 D' M' K' r2 => r2 = 0 ∧ SxR D' M' s l V K' N h 0 r1 x ∧ RlS D' M M' s l V K' N (OcT s N h x)) (Q3 := fun r1 r2 D' M' K' r3 => (r2 = 0 ∧ r3 = 0) ∧ SxR D' M' s l V K' N h 0 r1 x ∧ RlS D' M M' s l V K' N (OcT s N h x)) (Q := fun D' M' K' a' => SxR D' M' s l V K' N (h + 1) 0 a' n ∧ RlS D' M M' s l V K' N (OcT s N (h + 1) n)) (ih _ _ _ _ _ _ e x2 nx dx) (fun r1 D1 M1 K1 A1 S1 q => ?_) (fun r1 r2 D1 M1 K1 A1 S1 q => ?_) (fun r1 r2 r3 D3 M3 K3 A3 S3 q => ?_)).mono (by rw [sz.1]; omega) (fun _ _ _ _ _ _ _ q => q) id
      · rw [g6, nul]
        exact (kh_null A1).mono rfl (fun _ _ _ _ _ _ _ z => ⟨z.1, by rw [z.2.1, z.2.2.1, z.2.2.2]; exact q⟩) id
      · obtain ⟨q0, q⟩ := q
        rw [g7, nul]
        exact (kh_null A1).mono rfl (fun _ _ _ _ _ _ _ z => ⟨⟨q0, z.1⟩, by rw [z.2.1, z.2.2.1, z.2.2.2]; exact q⟩) id
      · obtain ⟨⟨rfl, rfl⟩, q, qr⟩ := q
        obtain ⟨t, c1, c2, c3, c4, -⟩ := q.ch (by omega)
        refine ⟨t, 0, 0, c1, Or.inl ⟨rfl, rfl⟩, Or.inl ⟨rfl, rfl⟩, by rw [hgt_eq]; omega, fun D4 M4 A4 S4 nw4 e4 => ⟨SxR.b1 (Nat.lt_succ_self _) hone nw4 ⟨nb, rfl, x1⟩ (mv2 A3 S4 q) (by omega) ⟨by obtain ⟨j, j1, j2⟩ := q.nb.1; rw [j2, ((S4.sn hx A3) j j1).2.1, ← j2]; exact c2, by omega⟩ h7, ?_⟩⟩
        have e5 : ∀ j, mX M4 137 j = mX M3 137 j := e4.elim (fun q => q.2) (fun ⟨r, r1, r2, _⟩ => absurd (he.symm.trans r2) (nm1 r1))
        exact (qr.no (S4.sn hx A3) S4.1 h7 e5 opn.2.2.2).im (fun m => oc_1 n5 kx1 x1 (by omega))
    · have htwo : (0, mI M 3400 a, tA s 121 n) ∈ twoX := by
        simp only [List.mem_cons, Prod.mk.injEq, List.not_mem_nil, or_false] at b1 ⊢
        rcases b1 with ⟨p, q⟩ | ⟨p, q⟩ | ⟨p, q⟩ | ⟨p, q⟩ | ⟨p, q⟩ | ⟨p, q⟩ <;> rw [p, q] <;> decide
      have opn : ¬ (mI M 3400 a = 1 ∨ mI M 3400 a = 15 ∨ mI M 3400 a = 16) ∧ mI M 3400 a ∉ rlO ∧ (tA s 121 n ∈ kd2 ∧ tA s 121 n ∈ kd3) ∧ ¬ isR s n := by
        unfold isR
        simp only [List.mem_cons, Prod.mk.injEq, List.not_mem_nil, or_false] at b1
        rcases b1 with ⟨p, q⟩ | ⟨p, q⟩ | ⟨p, q⟩ | ⟨p, q⟩ | ⟨p, q⟩ | ⟨p, q⟩ <;> rw [p, q] <;> decide
      have kx2 := two_k2 (twoX_T htwo)
      have xN := x2.nb
      have yN := y2.nb
      have sz := PS_2 (h := h) kx2
      rw [x1, y1, ix_nI (n := x) (by omega), ix_nI (n := y) (by omega)] at sz
      have he := ho opn.2.1
      obtain ⟨nx, dx⟩ := ch2 x opn.2.2.1.1 x1 (by omega)
      obtain ⟨ny, dy⟩ := ch3 y opn.2.2.1.2 y1 (by omega)
      rw [ifF opn.1]
      refine (k_svB (z1 := PS s h x) (z2 := PS s h y) (z3 := 0) hx A r69 hk6 k2 (Or.inl he) (Q1 := fun D' M' K' a' => SxR D' M' s l V K' N h 0 a' x ∧ RlS D' M M' s l V K' N (OcT s N h x)) (Q2 := fun r1 D' M' K' r2 => (SxR D' M' s l V K' N h 0 r1 x ∧ SxR D' M' s l V K' N h 0 r2 y) ∧ RlS D' M M' s l V K' N (fun m => OcT s N h x m ∨ OcT s N h y m)) (Q3 := fun r1 r2 D' M' K' r3 => r3 = 0 ∧ (SxR D' M' s l V K' N h 0 r1 x ∧ SxR D' M' s l V K' N h 0 r2 y) ∧ RlS D' M M' s l V K' N (fun m => OcT s N h x m ∨ OcT s N h y m)) (Q := fun D' M' K' a' => SxR D' M' s l V K' N (h + 1) 0 a' n ∧ RlS D' M M' s l V K' N (OcT s N (h + 1) n)) (ih _ _ _ _ _ _ e x2 nx dx) (fun r1 D1 M1 K1 A1 S1 q => ?_) (fun r1 r2 D1 M1 K1 A1 S1 q => ?_) (fun r1 r2 r3 D3 M3 K3 A3 S3 q => ?_)).mono (by rw [sz.1]; omega) (fun _ _ _ _ _ _ _ q => q) id
      · exact (ih _ _ _ _ _ _ (mvE A1 S1).1 (mvC A1 S1 y2) (ny.mv (mvE A1 S1).2) dy).mono rfl (fun D' M' K' a' A' S' _ z => ⟨⟨mv2 A1 S' q.1, z.1⟩, q.2.seq z.2 (S'.sn hx A1) S'.1 h7 (nx.un hKf2) (ny.un hKf2)⟩) id
      · rw [g7, nul]
        exact (kh_null A1).mono rfl (fun _ _ _ _ _ _ _ z => ⟨z.1, by rw [z.2.1, z.2.2.1, z.2.2.2]; exact q⟩) id
      · obtain ⟨rfl, ⟨q, q'⟩, qr⟩ := q
        obtain ⟨t, c1, c2, c3, c4, -⟩ := q.ch (by omega)
        obtain ⟨t', c1', c2', c3', c4', -⟩ := q'.ch (by omega)
        have hm : ∀ {D4 M4 K4 c t}, StH x0 l D3 M3 K3 D4 M4 K4 → (∃ k, k < K3 ∧ c = (pl D3 l).getD k 0) → mI M3 3404 c = nI t → mI M4 3404 c = nI t := fun S4 ⟨j, j1, j2⟩ e => by rw [j2, ((S4.sn hx A3) j j1).2.1, ← j2]; exact e
        refine ⟨t, t', 0, c1, c1', Or.inl ⟨rfl, rfl⟩, by rw [hgt_eq]; omega, fun D4 M4 A4 S4 nw4 e4 => ⟨SxR.b2 (Nat.lt_succ_self _) htwo nw4 ⟨nb, rfl, x1, y1⟩ (mv2 A3 S4 q) (mv2 A3 S4 q') (by omega) ⟨hm S4 q.nb.1 c2, by omega⟩ ⟨hm S4 q'.nb.1 c2', by omega⟩ h7, ?_⟩⟩
        have e5 : ∀ j, mX M4 137 j = mX M3 137 j := e4.elim (fun q => q.2) (fun ⟨r, r1, r2, _⟩ => absurd (he.symm.trans r2) (nm1 r1))
        exact (qr.no (S4.sn hx A3) S4.1 h7 e5 opn.2.2.2).im (fun m => oc_2 n5 kx2 x1 (by omega) y1 (by omega))
    · have he := ho (by rw [b1]; decide)
      have xN := x2.nb
      have yN := y2.nb
      have wN := w2.nb
      have sz := PS_3 (h := h) b2
      rw [x1, y1, w1, ix_nI (n := x) (by omega), ix_nI (n := y) (by omega), ix_nI (n := w) (by omega)] at sz
      obtain ⟨nx, dx⟩ := ch2 x (by rw [b2]; decide) x1 (by omega)
      obtain ⟨ny, dy⟩ := ch3 y (by rw [b2]; decide) y1 (by omega)
      obtain ⟨nw, dw⟩ := ch4 w (by rw [b2]; decide) w1 (by omega)
      rw [ifF (by rw [b1]; decide)]
      have UU : UnS s (fun m => OcT s N h x m ∨ OcT s N h y m) := fun m r p => p.elim (fun p => nx.un hKf2 m r p) (fun p => ny.un hKf2 m r p)
      refine (k_svB (z1 := PS s h x) (z2 := PS s h y) (z3 := PS s h w) hx A r69 hk6 k2 (Or.inl he) (Q1 := fun D' M' K' a' => SxR D' M' s l V K' N h 1 a' x ∧ RlS D' M M' s l V K' N (OcT s N h x)) (Q2 := fun r1 D' M' K' r2 => (SxR D' M' s l V K' N h 1 r1 x ∧ SxR D' M' s l V K' N h 0 r2 y) ∧ RlS D' M M' s l V K' N (fun m => OcT s N h x m ∨ OcT s N h y m)) (Q3 := fun r1 r2 D' M' K' r3 => ((SxR D' M' s l V K' N h 1 r1 x ∧ SxR D' M' s l V K' N h 0 r2 y) ∧ SxR D' M' s l V K' N h 0 r3 w) ∧ RlS D' M M' s l V K' N (fun m => (OcT s N h x m ∨ OcT s N h y m) ∨ OcT s N h w m)) (Q := fun D' M' K' a' => SxR D' M' s l V K' N (h + 1) 0 a' n ∧ RlS D' M M' s l V K' N (OcT s N (h + 1) n)) (ih _ _ _ _ _ _ e x2 nx dx) (fun r1 D1 M1 K1 A1 S1 q => ?_) (fun r1 r2 D1 M1 K1 A1 S1 q => ?_) (fun r1 r2 r3 D3 M3 K3 A3 S3 q => ?_)).mono (by rw [sz.1]; omega) (fun _ _ _ _ _ _ _ q => q) id
      · exact (ih _ _ _ _ _ _ (mvE A1 S1).1 (mvC A1 S1 y2) (ny.mv (mvE A1 S1).2) dy).mono rfl (fun D' M' K' a' A' S' _ z => ⟨⟨mv2 A1 S' q.1, z.1⟩, q.2.seq z.2 (S'.sn hx A1) S'.1 h7 (nx.un hKf2) (ny.un hKf2)⟩) id
      · exact (ih _ _ _ _ _ _ (mvE A1 S1).1 (mvC A1 S1 w2) (nw.mv (mvE A1 S1).2) dw).mono rfl (fun D' M' K' a' A' S' _ z => ⟨⟨⟨mv2 A1 S' q.1.1, mv2 A1 S' q.1.2⟩, z.1⟩, q.2.seq z.2 (S'.sn hx A1) S'.1 h7 UU (nw.un hKf2)⟩) id
      · obtain ⟨⟨⟨q, q'⟩, q''⟩, qr⟩ := q
        obtain ⟨t, c1, c2, c3, c4, -⟩ := q.ch (by omega)
        obtain ⟨t', c1', c2', c3', c4', -⟩ := q'.ch (by omega)
        obtain ⟨t2, d1, d2, d3, d4, -⟩ := q''.ch (by omega)
        have hm : ∀ {D4 M4 K4 c t}, StH x0 l D3 M3 K3 D4 M4 K4 → (∃ k, k < K3 ∧ c = (pl D3 l).getD k 0) → mI M3 3404 c = nI t → mI M4 3404 c = nI t := fun S4 ⟨j, j1, j2⟩ e => by rw [j2, ((S4.sn hx A3) j j1).2.1, ← j2]; exact e
        refine ⟨t, t', t2, c1, c1', d1, by rw [hgt_eq]; omega, fun D4 M4 A4 S4 nw4 e4 => ⟨?_, ?_⟩⟩
        · rw [b1] at nw4
          exact SxR.b3 (Nat.lt_succ_self _) nw4 ⟨nb, b2, x1, y1, w1⟩ (mv2 A3 S4 q) (mv2 A3 S4 q') (mv2 A3 S4 q'') (by omega) ⟨hm S4 q.nb.1 c2, by omega⟩ ⟨hm S4 q'.nb.1 c2', by omega⟩ ⟨hm S4 q''.nb.1 d2, by omega⟩ h7
        · have e5 : ∀ j, mX M4 137 j = mX M3 137 j := e4.elim (fun q => q.2) (fun ⟨r, r1, r2, _⟩ => absurd (he.symm.trans r2) (nm1 r1))
          exact (qr.no (S4.sn hx A3) S4.1 h7 e5 (by unfold isR; rw [b2]; decide)).im (fun m => oc_3 n5 b2 x1 (by omega) y1 (by omega) w1 (by omega))
    · obtain ⟨r, r1, r2, r3⟩ := numr (Or.inl b2)
      have yN := y2.nb
      have wN := w2.nb
      have sz := PS_4 (h := h) (Or.inl b2)
      rw [y1, w1, ix_nI (n := y) (by omega), ix_nI (n := w) (by omega)] at sz
      obtain ⟨ny, dy⟩ := ch3 y (by rw [b2]; decide) y1 (by omega)
      obtain ⟨nw, dw⟩ := ch4 w (by rw [b2]; decide) w1 (by omega)
      have opn : ¬ (mI M 3400 a = 1 ∨ mI M 3400 a = 15 ∨ mI M 3400 a = 16) := by
        simp only [List.mem_cons, Prod.mk.injEq, List.not_mem_nil, or_false] at b1
        rcases b1 with ⟨p, -⟩ | ⟨p, -⟩ | ⟨p, -⟩ | ⟨p, -⟩ | ⟨p, -⟩ | ⟨p, -⟩ <;> rw [p] <;> decide
      rw [ifF opn]
      refine (k_svB (z1 := PS s h y) (z2 := PS s h w) (z3 := 0) hx A r69 hk6 k2 (Or.inr ⟨r, r1, r2⟩) (Q1 := fun D' M' K' a' => SxR D' M' s l V K' N h 0 a' y ∧ RlS D' M M' s l V K' N (OcT s N h y)) (Q2 := fun r1 D' M' K' r2 => (SxR D' M' s l V K' N h 0 r1 y ∧ SxR D' M' s l V K' N h 0 r2 w) ∧ RlS D' M M' s l V K' N (fun m => OcT s N h y m ∨ OcT s N h w m)) (Q3 := fun r1 r2 D' M' K' r3 => r3 = 0 ∧ (SxR D' M' s l V K' N h 0 r1 y ∧ SxR D' M' s l V K' N h 0 r2 w) ∧ RlS D' M M' s l V K' N (fun m => OcT s N h y m ∨ OcT s N h w m)) (Q := fun D' M' K' a' => SxR D' M' s l V K' N (h + 1) 1 a' n ∧ RlS D' M M' s l V K' N (OcT s N (h + 1) n)) (ih _ _ _ _ _ _ e y2 ny dy) (fun r1 D1 M1 K1 A1 S1 q => ?_) (fun r1 r2 D1 M1 K1 A1 S1 q => ?_) (fun r1' r2' r3' D3 M3 K3 A3 S3 q => ?_)).mono (by rw [sz.1]; omega) (fun _ _ _ _ _ _ _ q => q) id
      · exact (ih _ _ _ _ _ _ (mvE A1 S1).1 (mvC A1 S1 w2) (nw.mv (mvE A1 S1).2) dw).mono rfl (fun D' M' K' a' A' S' _ z => ⟨⟨mv2 A1 S' q.1, z.1⟩, q.2.seq z.2 (S'.sn hx A1) S'.1 h7 (ny.un hKf2) (nw.un hKf2)⟩) id
      · rw [g7, nul]
        exact (kh_null A1).mono rfl (fun _ _ _ _ _ _ _ z => ⟨z.1, by rw [z.2.1, z.2.2.1, z.2.2.2]; exact q⟩) id
      · obtain ⟨rfl, ⟨q, q'⟩, qr⟩ := q
        obtain ⟨t, c1, c2, c3, c4, -⟩ := q.ch (by omega)
        obtain ⟨t', c1', c2', c3', c4', -⟩ := q'.ch (by omega)
        have hm : ∀ {D4 M4 K4 c t}, StH x0 l D3 M3 K3 D4 M4 K4 → (∃ k, k < K3 ∧ c = (pl D3 l).getD k 0) → mI M3 3404 c = nI t → mI M4 3404 c = nI t := fun S4 ⟨j, j1, j2⟩ e => by rw [j2, ((S4.sn hx A3) j j1).2.1, ← j2]; exact e
        refine ⟨t, t', 0, c1, c1', Or.inl ⟨rfl, rfl⟩, by rw [hgt_eq]; omega, fun D4 M4 A4 S4 nw4 e4 => ?_⟩
        have sx : SxR D4 M4 s l V (K3 + 1) N (h + 1) 1 ((pl D4 l).getD K3 0) n := SxR.b4 (Nat.lt_succ_self _) nw4 nb (Or.inl ⟨b2, b1, r, r1, r2, r3⟩) y1 w1 (mv2 A3 S4 q) (mv2 A3 S4 q') (by omega) ⟨hm S4 q.nb.1 c2, by omega⟩ ⟨hm S4 q'.nb.1 c2', by omega⟩ h7
        refine ⟨sx, ?_⟩
        rcases e4 with ⟨e4, -⟩ | ⟨r', p1, p2, p3⟩
        · exact absurd (e4.symm.trans r2) (nm1 r1)
        · have : r' = r := nIq (p2.symm.trans r2) (by omega) (by omega)
          subst this
          have oc := fun m => oc_4 (m := m) (h := h) n5 b2 y1 (by omega) w1 (by omega)
          exact (qr.new (S4.sn hx A3) S4.1 h7 (fun m r p => U m r ((oc m).mpr p)) (Or.inl b2) ⟨r1, r3⟩ p3 (SxR.mv SnK.rf NdX.rf (Nat.le_refl _) (Nat.le_refl _) h7 _ _ _ _ _ hh sx)).im oc
    · have htwo : (1, mI M 3400 a, tA s 121 n) ∈ twoX := by
        simp only [List.mem_cons, Prod.mk.injEq, List.not_mem_nil, or_false] at b1 ⊢
        rcases b1 with ⟨p, q⟩ | ⟨p, q⟩ <;> rw [p, q] <;> decide
      have opn : ¬ (mI M 3400 a = 1 ∨ mI M 3400 a = 15 ∨ mI M 3400 a = 16) ∧ mI M 3400 a ∉ rlO ∧ (tA s 121 n ∈ kd2 ∧ tA s 121 n ∈ kd3) ∧ ¬ isR s n := by
        unfold isR
        simp only [List.mem_cons, Prod.mk.injEq, List.not_mem_nil, or_false] at b1
        rcases b1 with ⟨p, q⟩ | ⟨p, q⟩ <;> rw [p, q] <;> decide
      have kx2 := two_k2 (twoX_T htwo)
      have xN := x2.nb
      have yN := y2.nb
      have sz := PS_2 (h := h) kx2
      rw [x1, y1, ix_nI (n := x) (by omega), ix_nI (n := y) (by omega)] at sz
      have he := ho opn.2.1
      obtain ⟨nx, dx⟩ := ch2 x opn.2.2.1.1 x1 (by omega)
      obtain ⟨ny, dy⟩ := ch3 y opn.2.2.1.2 y1 (by omega)
      rw [ifF opn.1]
      refine (k_svB (z1 := PS s h x) (z2 := PS s h y) (z3 := 0) hx A r69 hk6 k2 (Or.inl he) (Q1 := fun D' M' K' a' => SxR D' M' s l V K' N h 1 a' x ∧ RlS D' M M' s l V K' N (OcT s N h x)) (Q2 := fun r1 D' M' K' r2 => (SxR D' M' s l V K' N h 1 r1 x ∧ SxR D' M' s l V K' N h 1 r2 y) ∧ RlS D' M M' s l V K' N (fun m => OcT s N h x m ∨ OcT s N h y m)) (Q3 := fun r1 r2 D' M' K' r3 => r3 = 0 ∧ (SxR D' M' s l V K' N h 1 r1 x ∧ SxR D' M' s l V K' N h 1 r2 y) ∧ RlS D' M M' s l V K' N (fun m => OcT s N h x m ∨ OcT s N h y m)) (Q := fun D' M' K' a' => SxR D' M' s l V K' N (h + 1) 1 a' n ∧ RlS D' M M' s l V K' N (OcT s N (h + 1) n)) (ih _ _ _ _ _ _ e x2 nx dx) (fun r1 D1 M1 K1 A1 S1 q => ?_) (fun r1 r2 D1 M1 K1 A1 S1 q => ?_) (fun r1 r2 r3 D3 M3 K3 A3 S3 q => ?_)).mono (by rw [sz.1]; omega) (fun _ _ _ _ _ _ _ q => q) id
      · exact (ih _ _ _ _ _ _ (mvE A1 S1).1 (mvC A1 S1 y2) (ny.mv (mvE A1 S1).2) dy).mono rfl (fun D' M' K' a' A' S' _ z => ⟨⟨mv2 A1 S' q.1, z.1⟩, q.2.seq z.2 (S'.sn hx A1) S'.1 h7 (nx.un hKf2) (ny.un hKf2)⟩) id
      · rw [g7, nul]
        exact (kh_null A1).mono rfl (fun _ _ _ _ _ _ _ z => ⟨z.1, by rw [z.2.1, z.2.2.1, z.2.2.2]; exact q⟩) id
      · obtain ⟨rfl, ⟨q, q'⟩, qr⟩ := q
        obtain ⟨t, c1, c2, c3, c4, -⟩ := q.ch (by omega)
        obtain ⟨t', c1', c2', c3', c4', -⟩ := q'.ch (by omega)
        have hm : ∀ {D4 M4 K4 c t}, StH x0 l D3 M3 K3 D4 M4 K4 → (∃ k, k < K3 ∧ c = (pl D3 l).getD k 0) → mI M3 3404 c = nI t → mI M4 3404 c = nI t := fun S4 ⟨j, j1, j2⟩ e => by rw [j2, ((S4.sn hx A3) j j1).2.1, ← j2]; exact e
        refine ⟨t, t', 0, c1, c1', Or.inl ⟨rfl, rfl⟩, by rw [hgt_eq]; omega, fun D4 M4 A4 S4 nw4 e4 => ⟨SxR.b2 (Nat.lt_succ_self _) htwo nw4 ⟨nb, rfl, x1, y1⟩ (mv2 A3 S4 q) (mv2 A3 S4 q') (by omega) ⟨hm S4 q.nb.1 c2, by omega⟩ ⟨hm S4 q'.nb.1 c2', by omega⟩ h7, ?_⟩⟩
        have e5 : ∀ j, mX M4 137 j = mX M3 137 j := e4.elim (fun q => q.2) (fun ⟨r, r1, r2, _⟩ => absurd (he.symm.trans r2) (nm1 r1))
        exact (qr.no (S4.sn hx A3) S4.1 h7 e5 opn.2.2.2).im (fun m => oc_2 n5 kx2 x1 (by omega) y1 (by omega))
    · have hone : (1, mI M 3400 a, tA s 121 n) ∈ oneX := by rw [b1, b2]; decide
      have kx1 := one_k1 (oneX_T hone)
      have xN := x2.nb
      have sz := PS_1 (h := h) kx1
      rw [x1, ix_nI (by omega)] at sz
      have he := ho (by rw [b1]; decide)
      obtain ⟨nx, dx⟩ := ch2 x (by rw [b2]; decide) x1 (by omega)
      rw [ifF (by rw [b1]; decide)]
      refine (k_svB (z1 := PS s h x) (z2 := 0) (z3 := 0) hx A r69 hk6 k2 (Or.inl he) (Q1 := fun D' M' K' a' => SxR D' M' s l V K' N h 1 a' x ∧ RlS D' M M' s l V K' N (OcT s N h x)) (Q2 := fun r1 D' M' K' r2 => r2 = 0 ∧ SxR D' M' s l V K' N h 1 r1 x ∧ RlS D' M M' s l V K' N (OcT s N h x)) (Q3 := fun r1 r2 D' M' K' r3 => (r2 = 0 ∧ r3 = 0) ∧ SxR D' M' s l V K' N h 1 r1 x ∧ RlS D' M M' s l V K' N (OcT s N h x)) (Q := fun D' M' K' a' => SxR D' M' s l V K' N (h + 1) 1 a' n ∧ RlS D' M M' s l V K' N (OcT s N (h + 1) n)) (ih _ _ _ _ _ _ e x2 nx dx) (fun r1 D1 M1 K1 A1 S1 q => ?_) (fun r1 r2 D1 M1 K1 A1 S1 q => ?_) (fun r1 r2 r3 D3 M3 K3 A3 S3 q => ?_)).mono (by rw [sz.1]; omega) (fun _ _ _ _ _ _ _ q => q) id
      · rw [g6, nul]
        exact (kh_null A1).mono rfl (fun _ _ _ _ _ _ _ z => ⟨z.1, by rw [z.2.1, z.2.2.1, z.2.2.2]; exact q⟩) id
      · obtain ⟨q0, q⟩ := q
        rw [g7, nul]
        exact (kh_null A1).mono rfl (fun _ _ _ _ _ _ _ z => ⟨⟨q0, z.1⟩, by rw [z.2.1, z.2.2.1, z.2.2.2]; exact q⟩) id
      · obtain ⟨⟨rfl, rfl⟩, q, qr⟩ := q
        obtain ⟨t, c1, c2, c3, c4, -⟩ := q.ch (by omega)
        refine ⟨t, 0, 0, c1, Or.inl ⟨rfl, rfl⟩, Or.inl ⟨rfl, rfl⟩, by rw [hgt_eq]; omega, fun D4 M4 A4 S4 nw4 e4 => ⟨SxR.b1 (Nat.lt_succ_self _) hone nw4 ⟨nb, rfl, x1⟩ (mv2 A3 S4 q) (by omega) ⟨by obtain ⟨j, j1, j2⟩ := q.nb.1; rw [j2, ((S4.sn hx A3) j j1).2.1, ← j2]; exact c2, by omega⟩ h7, ?_⟩⟩
        have e5 : ∀ j, mX M4 137 j = mX M3 137 j := e4.elim (fun q => q.2) (fun ⟨r, r1, r2, _⟩ => absurd (he.symm.trans r2) (nm1 r1))
        exact (qr.no (S4.sn hx A3) S4.1 h7 e5 (by unfold isR; rw [b2]; decide)).im (fun m => oc_1 n5 kx1 x1 (by omega))
    · obtain ⟨r, r1, r2, r3⟩ := numr (Or.inr b2)
      rw [ifF (by rw [b1]; decide), (PS_0 (by rw [b2]; decide)).1]
      refine (k_svL hx A r69 hk6 k2 (Or.inr ⟨r, r1, r2⟩) lf (Nat.succ_pos f)).mono rfl (fun D' M' K' a' A' S' ek q => ?_) id
      obtain ⟨⟨q1, q2, q3, q4⟩, q5⟩ := q
      rw [b1] at q3
      have sx : SxR D' M' s l V K' N (h + 1) 1 ((pl D' l).getD K 0) n := SxR.bs (by omega) q3 nb b2 ⟨r, r1, r2, r3⟩ b3
      rw [q2]
      refine ⟨sx, ?_⟩
      rcases q5 with ⟨e4, -⟩ | ⟨r', p1, p2, p3⟩
      · exact absurd (e4.symm.trans r2) (nm1 r1)
      · have : r' = r := nIq (p2.symm.trans r2) (by omega) (by omega)
        subst this
        have oc : ∀ m, OcT s N (h + 1) n m ↔ False ∨ m = n := fun m => by rw [oc_0 n5 (by rw [b2]; decide)]; exact ⟨Or.inr, fun y => y.elim (fun y => y.elim) id⟩
        exact ((RlS.nil (D1 := D) (K1 := K) (fun _ => rfl)).new q4 (by omega) h7 (fun m r p => U m r ((oc m).mpr p)) (Or.inr b2) ⟨r1, r3⟩ p3 (SxR.mv SnK.rf NdX.rf (Nat.le_refl _) (Nat.le_refl _) h7 _ _ _ _ _ hh sx)).im oc
end SOLVED2
