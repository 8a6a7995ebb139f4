/-! Layer B: running: relations are found, both sides -/
set_option maxRecDepth 100000
abbrev evI : List Nat := [86, 90, 96, 97, 3213, 3214, 3804, 3805]
abbrev evA : List Nat := [124, 125, 148, 149, 150]
abbrev evT : List Nat := [0, 1, 163, 166, 167, 168, 169, 170, 171, 222, 225, 226, 235, 236, 238, 239]
abbrev fdrA : List Nat := [148]
abbrev fdrT : List Nat := [0, 1, 163, 170, 171]
abbrev fbI : Nat → Int32 ⊕ (Int32 ⊕ Nat) := fun w => .inr (.inr w)
section FIND
variable {pq : Bool} {C : PC} {B : Nat} {P : Nat → Prop} {mss fss : List Nat} {V U S q A Wn K1 K2 N e r w v u b n i j k : Nat} {D : FQ} {M M' M1 : CM} {σ σ' s : TS} {x x2 y : Int32}
theorem RnW.rv (w : RnW C B P mss fss V U S q A Wn K1 K2 N D M σ) (d : VaE x2 V U Wn D M σ) (hr : r < q) : ∃ m, (m < 70000 ∧ tA σ 153 r = nI m) ∧ mk M (mX M 137 r) = 18 ∧ ((tA σ 121 m = 24 ∧ mI M 3400 (mX M 137 r) = 29 ∧ ∃ x y, mI M 3401 (mX M 137 r) = nI x ∧ mI M 3402 (mX M 137 r) = nI y ∧ tA σ 122 m = nI x ∧ tA σ 123 m = nI y ∧ x ≤ 2147418112 ∧ 1 ≤ y ∧ y ≤ 2147418112) ∨ (tA σ 121 m = 20 ∧ ¬ mI M 3400 (mX M 137 r) = 29 ∧ NvE M σ (K_X0_live (mX M 137 r) M) (F_finds (nI m) x2 σ))) := by
  obtain ⟨m, ⟨m1, -⟩, m3, z⟩ := w.rl hr
  obtain ⟨E, h171⟩ := w.ev d
  obtain ⟨ka, hn⟩ := sxe_k E z (by decide)
  have z0 := z
  obtain ⟨z, lv⟩ := z
  have h7 : N ≤ 70000 := E.2.2.2.2.2.2.2.2
  have k12 : tA σ 121 m ∉ k1T ∧ tA σ 121 m ∉ k2T ∧ ¬ tA σ 121 m = 25 := by
    rcases m3 with k | k <;> rw [k] <;> decide
  refine ⟨m, ⟨hn, m1⟩, ka, ?_⟩
  have gen : ∀ l K', (∀ h st b n, SxR D M σ l V K' N h st b n → SxR D M σ 134 V K1 N h st b n ∨ SxR D M σ 136 V K2 N h st b n) → SxR D M σ l V K' N (99 + 1) 1 (mX M 137 r) m → ((tA σ 121 m = 24 ∧ mI M 3400 (mX M 137 r) = 29 ∧ ∃ x y, mI M 3401 (mX M 137 r) = nI x ∧ mI M 3402 (mX M 137 r) = nI y ∧ tA σ 122 m = nI x ∧ tA σ 123 m = nI y ∧ x ≤ 2147418112 ∧ 1 ≤ y ∧ y ≤ 2147418112) ∨ (tA σ 121 m = 20 ∧ ¬ mI M 3400 (mX M 137 r) = 29 ∧ NvE M σ (K_X0_live (mX M 137 r) M) (F_finds (nI m) x2 σ))) := fun l K' up z => by
    obtain ⟨-, -, z⟩ := z
    rcases z with ⟨q0, -⟩ | ⟨q0, -⟩ | ⟨q1, -⟩ | ⟨q1, -⟩ | ⟨q0, -⟩ | ⟨-, q, ⟨y, y1, y2⟩, ⟨c, c1, c2⟩, -⟩ | ⟨-, q1, q2, -, -, a, y, a1, y1, a2, y2, b1, b2, b3⟩
    · exact absurd q0 (by decide)
    · exact absurd q0 (by decide)
    · exact absurd (one_k1 (oneX_T q1)) k12.1
    · exact absurd (two_k2 (twoX_T q1)) k12.2.1
    · exact absurd q0 (by decide)
    · rcases q with ⟨k, hop, -⟩ | ⟨k, -⟩
      · have lv' : LvB U σ (99 + 1) m := lv
        obtain ⟨-, -, -, -, l4⟩ := lv'
        obtain ⟨l1, l2⟩ := l4 (Or.inl k)
        have yb := y2.nb.2.2
        have cb := c2.nb.2.2
        rw [y1, ix_nI (by omega)] at l1
        rw [c1, ix_nI (by omega)] at l2
        refine Or.inr ⟨k, fun z => ?_, z_live E h171 (h := 99) (by omega) z0 hop y1 ⟨up _ _ _ _ y2, l1⟩ c1 ⟨up _ _ _ _ c2, l2⟩⟩
        rw [z] at hop
        simp only [List.mem_cons, List.not_mem_nil, or_false, Prod.mk.injEq] at hop
        rcases hop with ⟨z, -⟩ | ⟨z, -⟩ | ⟨z, -⟩ | ⟨z, -⟩ | ⟨z, -⟩ | ⟨z, -⟩ <;> exact absurd z (by decide)
      · exact absurd k k12.2.2
    · exact Or.inl ⟨q2, q1, a, y, a1, y1, a2, y2, b1, b2, b3⟩
  rcases z with z | z
  · exact gen 134 K1 (fun _ _ _ _ z => Or.inl z) z
  · exact gen 136 K2 (fun _ _ _ _ z => Or.inr z) z
theorem nZ_01 (x : Int32) : nZ x = 0 ∨ nZ x = 1 := by
  have h : (x &&& 1).toBitVec.toNat = x.toBitVec.toNat % 2 := by
    rw [Int32.toBitVec_and, BitVec.toNat_and]; exact Nat.and_one_is_mod _
  unfold nZ
  rcases Nat.mod_two_eq_zero_or_one x.toBitVec.toNat with e | e
  · left; apply Int32.toBitVec_inj.mp; apply BitVec.eq_of_toNat_eq; rw [h, e]; rfl
  · right; apply Int32.toBitVec_inj.mp; apply BitVec.eq_of_toNat_eq; rw [h, e]; rfl
theorem VaE.w148 (d : VaE x2 V U Wn D M σ) (r : Nat) (x : Int32) : VaE x2 V U Wn D (mwA M 148 r (nZ x)) (tsA σ 163 r (nZ x)) := by
  obtain ⟨⟨d0, d1, d1'⟩, d2, d3, d4, d5, d6⟩ := d
  refine ⟨⟨d0, d1, d1'⟩, fun u hu => ?_, fun v hv => ?_, fun j hj z => ?_, d5, fun w hw => ?_⟩
  · rw [mA_mwA, mA_mwA, tA_tsA, tA_tsA, ifF (fun z => by omega), ifF (fun z => by omega), ifF (fun z => by omega), ifF (fun z => by omega)]; exact d2 u hu
  · rw [tA_tsA, tA_tsA, tA_tsA, ifF (fun z => by omega), ifF (fun z => by omega), ifF (fun z => by omega)]; exact d3 v hv
  · rw [mA_mwA, tA_tsA]
    by_cases y : j = r
    · rw [ifT ⟨rfl, y⟩, ifT ⟨rfl, y⟩]; exact ⟨rfl, nZ_01 x⟩
    · rw [ifF (fun z => y z.2), ifF (fun z => y z.2)]; exact d4 j hj z
  · rw [tA_tsA, ifF (fun z => by omega)]; exact d6 w hw
theorem RsK.w148 (r : Nat) (x y : Int32) : RsK evI evA evT V D M σ (mwA M 148 r x) (tsA σ 163 r y) := ⟨KF.rf.wA rfl ⟨by decide, by decide⟩, (Ft.rf _ σ).p_tsA rfl, fun _ _ _ => rfl⟩
theorem RsK.w148g {I A T : List Nat} (hA : A.contains 148 = true) (hT : T.contains 163 = true) (r : Nat) (x y : Int32) : RsK I A T V D M σ (mwA M 148 r x) (tsA σ 163 r y) := ⟨KF.rf.wA hA ⟨by decide, by decide⟩, (Ft.rf _ σ).p_tsA hT, fun _ _ _ => rfl⟩
theorem RnW.vk (w : RnW C B P mss fss V U S q A Wn K1 K2 N D M σ) (g : RsK evI evA evT V D M σ M' σ') (h0 : tI σ' 0 = 0) : RnW C B P mss fss V U S q A Wn K1 K2 N D M' σ' := w.kf g.1 (by decide) (by decide) g.2.1 (by decide) h0 g.2.2
theorem RsK.vv (f : Ft [170, 171] σ σ') : RsK evI evA evT V D M σ M σ' := ⟨KF.rf, f.mono (by decide), PaK.rf⟩
theorem t_128F (h : tI s 0 ≠ 0) {x1 x3 x4 x5 : Int32} {f : Nat} : L_event_128 (f + 1) x1 x3 x4 x5 s = some (x4, s) := by
  rw [L_event_128]
  by_cases z : tI s 154 ≤ x5
  · rw [ifT z]
  · rw [ifF z, t_isBad1 h, ob_some, ifF (show ¬ (1 : Int32) = 0 by decide)]
theorem fr_loop (x1 x3 : Int32) : ∀ (m r kf tf : Nat) (x : Int32) (M : CM) (σ : TS), r + m = q → m < kf → m + 1 < tf → (x = 0 ∨ x = 1) → RnW C B P mss fss V U S q A Wn K1 K2 N D M σ → VaE 1 V U Wn D M σ →
    RsO pq fbI [] fdrA fdrT 1 V D M σ (fun a b M' σ' => (a = .inl b ∧ (b = 0 ∨ b = 1)) ∧ RnW C B P mss fss V U S q A Wn K1 K2 N D M' σ' ∧ VaE 1 V U Wn D M' σ') (KL_X0_findRelations_4 kf x (nI r) M) (L_event_128 tf x1 x3 x (nI r) σ) := by
  intro m
  induction m with
  | zero =>
    intro r kf tf x M σ e hk ht hx w d
    obtain ⟨kf, rfl⟩ : ∃ g, kf = g + 1 := ⟨kf - 1, by omega⟩
    obtain ⟨tf, rfl⟩ : ∃ g, tf = g + 1 := ⟨tf - 1, by omega⟩
    obtain ⟨⟨-, -, -, -, q24, -⟩, -, -, ⟨h41, h154⟩, -⟩ := w.st
    have t1 : mI M 41 1 ≤ nI r := by rw [h41, bI_le (by omega) (by omega)]; omega
    have t2 : tI σ 154 ≤ nI r := by rw [h154, bI_le (by omega) (by omega)]; omega
    exact Or.inr ⟨.inl x, x, M, σ, by rw [KL_X0_findRelations_4, ifT t1], by rw [L_event_128, ifT t2], RsK.rf, ⟨rfl, hx⟩, w, d⟩
  | succ m ih =>
    intro r kf tf x M σ e hk ht hx w d
    obtain ⟨kf, rfl⟩ : ∃ g, kf = g + 1 := ⟨kf - 1, by omega⟩
    obtain ⟨tf, rfl⟩ : ∃ g, tf = g + 2 := ⟨tf - 2, by omega⟩
    obtain ⟨⟨-, -, -, -, q24, -⟩, -, -, ⟨h41, h154⟩, -⟩ := w.st
    have t1 : ¬ mI M 41 1 ≤ nI r := by rw [h41, bI_le (by omega) (by omega)]; omega
    have t2 : ¬ tI σ 154 ≤ nI r := by rw [h154, bI_le (by omega) (by omega)]; omega
    have ir : inb (nI r) 24 := inb_nI' (by omega) (by decide)
    have xr : ix (nI r) = r := ix_nI (by omega)
    have n94 : fdrT.contains 94 = false := rfl
    have h0 := d.1.1
    obtain ⟨m0, ⟨m7, m1⟩, km, mm⟩ := w.rv d (show r < q by omega)
    have im : inb (nI m0) 70000 := inb_nI' m7 (by decide)
    have xm : ix (nI m0) = m0 := ix_nI (by omega)
    rw [KL_X0_findRelations_4, ifF t1, ifT ir, nm_eq, xr, ifT km, L_event_128, ifF t2, t_isBad0 h0, ob_some, ifT (rfl : (0 : Int32) = 0), ifT ir, xr, m1, ifT im, xm]
    rcases mm with ⟨k1, k2, -⟩ | ⟨k1, k2, lv⟩
    · rw [ifT k1, ifT k2, nm_eq, nm_eq, p1n]
      exact ih (r + 1) kf (tf + 1) x M σ (by omega) (by omega) (by omega) hx w d
    · rw [ifF k2, ifF (show ¬ tA σ 121 m0 = 24 by rw [k1]; decide), ifT ir]
      refine RsO.seq n94 (lv.fo (pq := pq) (I := []) (A := fdrA) (T := fdrT) (by decide) d.2.2.2.2.1.2 w.lt.1 w.lt.2) (fun wx M' σ' y k3 k4 fo => ?_) (fun a b M' σ' k3 k4 g ⟨g1, g2, g3, v, g4, g5⟩ => ?_)
      · refine ⟨by rw [k3, obS_inr], (if y = tA σ' 163 r then x else 1), tsA σ' 163 r (nZ y), ?_, (Ft.rf _ σ').p_tsA rfl, rfl, rfl, rfl, rfl⟩
        have ne : tI (tsA σ' 163 r (nZ y)) 0 ≠ 0 := fo.ne
        rw [k4, ob_some, ifT ir]
        by_cases z : y = tA σ' 163 r
        · rw [ifT z, ifT z, ifT ir, nm_eq, nm_eq, t_128F ne]
        · rw [ifF z, ifF z, ifT ir, nm_eq, nm_eq, t_128F ne]
      · have g5 : v = b := g5
        subst g1; subst g4; subst g5
        have d1 := d.ev g2 g3
        have w1 := w.vk (RsK.vv g2) d1.1.1
        have e148 : mA M' 148 r = tA σ' 163 r := (d1.2.2.2.1 r (by omega) (by rw [(g2 154 rfl).1, h154, bI_lt (by omega) (by omega)]; omega)).1
        have go : ∀ x', (x' = 0 ∨ x' = 1) → RsO pq fbI [] fdrA fdrT 1 V D M' σ' (fun a b M' σ' => (a = .inl b ∧ (b = 0 ∨ b = 1)) ∧ RnW C B P mss fss V U S q A Wn K1 K2 N D M' σ' ∧ VaE 1 V U Wn D M' σ') (KL_X0_findRelations_4 kf x' (nI (r + 1)) (mwA M' 148 r (nZ v))) (L_event_128 (tf + 1) x1 x3 x' (nI (r + 1)) (tsA σ' 163 r (nZ v))) := fun x' hx' => RsO.pre (RsK.w148g rfl rfl r _ _) n94 (ih (r + 1) kf (tf + 1) x' _ _ (by omega) (by omega) (by omega) hx' (w1.vk (RsK.w148 r _ _) d1.1.1) (d1.w148 r v))
        rw [k3, k4, obS_inl, ob_some, ifT ir, ifT ir, e148]
        by_cases z : v = tA σ' 163 r
        · rw [ifT z, ifT z]
          simp only [nm_eq, if_pos ir, p1n]
          rw [show x ||| 0 = x by rcases hx with rfl | rfl <;> decide]
          exact go x hx
        · rw [ifF z, ifF z]
          simp only [nm_eq, if_pos ir, p1n]
          rw [show x ||| 1 = 1 by rcases hx with rfl | rfl <;> decide]
          exact go 1 (Or.inr rfl)
/-- relations are found -/
theorem z_findRels (x1 x3 : Int32) (w : RnW C B P mss fss V U S q A Wn K1 K2 N D M σ) (d : VaE 1 V U Wn D M σ) : RsO pq (fun w => (.inr w : Int32 ⊕ Nat)) [] fdrA fdrT 1 V D M σ (fun a b M' σ' => (a = .inl b ∧ (b = 0 ∨ b = 1)) ∧ RnW C B P mss fss V U S q A Wn K1 K2 N D M' σ' ∧ VaE 1 V U Wn D M' σ') (K_X0_findRelations M) (L_event_128 FU x1 x3 0 0 σ) := by
  obtain ⟨⟨-, -, -, -, q24, -⟩, -⟩ := w.st
  have fu : 1000 < FU := by unfold FU; decide
  unfold K_X0_findRelations
  rcases fr_loop (pq := pq) x1 x3 q 0 FU FU 0 M σ (by omega) (by omega) (by omega) (Or.inl rfl) w d with ⟨M', σ', wo, y, k1, k2, fo⟩ | ⟨a, b, M', σ', k1, k2, g, ⟨rfl, q1⟩, q2⟩
  · exact Or.inl ⟨M', σ', wo, y, by rw [show KL_X0_findRelations_4 FU 0 0 M = _ from k1, obS_inr], k2, fo⟩
  · exact Or.inr ⟨.inl b, b, M', σ', by rw [show KL_X0_findRelations_4 FU 0 0 M = _ from k1, obS_inl], k2, g, ⟨rfl, q1⟩, q2⟩
end FIND
