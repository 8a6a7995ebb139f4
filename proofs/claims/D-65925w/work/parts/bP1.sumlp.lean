/-! Layer B: the flat model: sums of flows, both sides -/
set_option maxRecDepth 100000
/-- a sum -/
def SuO (zb : Nat) (z7 : Nat → Nat) (C : PC) (B : Nat) (P : Nat → Prop) (mss fss : List Nat) (V I Bm Lp L : Nat) (σ0 : TS) (D : FQ) (M : CM) (σ : TS) (K N E A Wn : Nat) (kr : Option ((Nat ⊕ (Unit ⊕ Nat)) × CM)) (tr : Option (Int32 × TS)) : Prop :=
  (∃ M' s' w y, kr = some (.inr (.inr w), M') ∧ tr = some (y, s') ∧ FfB C B P mss fss M M' σ s' w) ∨
  (∃ D' M' σ' K' N' a n, kr = some (.inl a, M') ∧ tr = some (nI n, σ') ∧ BS zb z7 C B P mss fss V I Bm Lp 0 D' M' σ' K' N' E A Wn ∧ (K ≤ K' ∧ N ≤ N') ∧ BTr V C P K N D M σ D' M' σ' ∧ NdR 0 D' M' σ' 106 V 100 0 K' N' a n ∧ Ft sF_make σ0 σ' ∧ ∃ z, SzR σ' N' 100 n z ∧ z + L ≤ n + 1)
section SUMLP
variable {zb : Nat} {C : PC} {D D' D1 : FQ} {M M' M1 M2 : CM} {σ σ' σ0 σ1 σ2 s s1 : TS} {mss fss : List Nat} {B V I Bm K N K' N' K1 N1 E A Wn v l w d m i n k f g Lp hh L : Nat} {P : Nat → Prop} {x3 x y r op x2 x3' y4 x5 : Int32} {z7 : Nat → Nat} {S : List Nat}
theorem SuO.pre {kr : Option ((Nat ⊕ (Unit ⊕ Nat)) × CM)} {tr : Option (Int32 × TS)} (bt : BTr V C P K N D M σ D1 M1 σ1) (le : K ≤ K1 ∧ N ≤ N1) (h : SuO zb z7 C B P mss fss V I Bm Lp L σ0 D1 M1 σ1 K1 N1 E A Wn kr tr) : SuO zb z7 C B P mss fss V I Bm Lp L σ0 D M σ K N E A Wn kr tr := by
  rcases h with ⟨M2, σ2, w, y2, c1, c2, c3⟩ | ⟨D2, M2, σ2, K2, N2, a, n, c1, c2, c3, c4, c5, c6⟩
  · exact Or.inl ⟨M2, σ2, w, y2, c1, c2, c3.pre bt.2.2.2.1⟩
  · exact Or.inr ⟨D2, M2, σ2, K2, N2, a, n, c1, c2, c3, by omega, bt.tr c5 le.1 le.2, c6⟩
theorem OwV.pos (h : OwV σ V n k v) : 1 ≤ cnt σ n 0 V := by
  have h1 := cnt_cut (σ := σ) (n := n) (V := 0) (V1 := v + 1) (V2 := V) (Nat.zero_le _) h.1
  rw [Nat.sub_zero, Nat.sub_zero, cnt_s, ifT h.2.1] at h1
  omega
theorem sum_lp (hL1 : 1 ≤ L) (hf : f < 400 ∧ f / 2 < I) (hk : k ≤ 1000) (hx : ¬ x3 = 0) {x4 : Nat} (hr : ¬ tA σ0 74 (f / 2) = tA σ0 74 0) : ∀ (d g kf tf c : Nat) D M σ K N a n, g + d = 2 * I → f ≤ g → d < kf → d < tf → BS zb z7 C B P mss fss V I Bm Lp 0 D M σ K N E A Wn → Ft sF_make σ0 σ → OwV σ0 V (f / 2) k v → c ≤ scd σ0 0 V (g / 2) + (if g % 2 = 1 ∧ hdT σ0 (g - 1) = f then 1 else 0) → NdR 0 D M σ 106 V (c + 1) 0 K N a n → (∃ z, SzR σ N (c + 1) n z ∧ z + L ≤ n + 1) → SuO zb z7 C B P mss fss V I Bm Lp L σ0 D M σ K N E A Wn (KL_X0_joinOne_39 kf (nI f) (nI k) x3 x4 a (nI g) M) (L_setEquations_138 tf (nI f) (nI k) y4 (nI n) (nI g) σ) := by
  intro d
  induction d with
  | zero =>
    intro g kf tf c D M σ K N a n hg hfg hkf htf h fs ho hc nd ⟨zz, sz1, sz2⟩
    obtain ⟨kf, rfl⟩ : ∃ g, kf = g + 1 := ⟨kf - 1, by omega⟩
    obtain ⟨tf, rfl⟩ : ∃ g, tf = g + 1 := ⟨tf - 1, by omega⟩
    have c1 := h.fx.2.2.1.2.1
    have c2 := h.fx.2.2.2.1.2
    have I200 := h.fx.2.1.2.1
    have V96 := h.hV.2
    have cb : c ≤ 97 := by
      have := scd_le (σ := σ0) V 0 (g / 2) (by omega)
      split at hc <;> omega
    have le : nI (2 * I) ≤ nI g := (bI_le (by omega) (by omega)).mpr (by omega)
    refine Or.inr ⟨D, M, σ, K, N, a, n, ?_, ?_, h, ⟨Nat.le_refl _, Nat.le_refl _⟩, BTr.rf h.cn, NdR.mv NdK.rf (Nat.le_refl _) (Nat.le_refl _) (Nat.le_refl V) (c + 1) 100 0 _ _ (by omega) nd, fs, zz, SzR.mv Nd4.rf (Nat.le_refl _) _ _ _ _ _ (by omega) (Nat.le_refl _) sz1, sz2⟩
    · unfold KL_X0_joinOne_39
      rw [c2, n_dbl, ifT le]
    · unfold L_setEquations_138
      rw [c1, n_dbl, ifT le]
  | succ d ih =>
    intro g kf tf c D M σ K N a n hg hfg hkf htf h fs ho hc nd ⟨zz, sz1, sz2⟩
    obtain ⟨kf, rfl⟩ : ∃ g, kf = g + 1 := ⟨kf - 1, by omega⟩
    obtain ⟨tf, rfl⟩ : ∃ g, tf = g + 1 := ⟨tf - 1, by omega⟩
    have c1 := h.fx.2.2.1.2.1
    have c2 := h.fx.2.2.2.1.2
    have c7 := h.fx.2.2.1.1
    have I200 := h.fx.2.1.2.1
    have V96 := h.hV.2
    have J := h.2.2.2.2.2.1.1
    have cb : c ≤ 97 := by
      have := scd_le (σ := σ0) V 0 (g / 2) (by omega)
      split at hc <;> omega
    have le : ¬ nI (2 * I) ≤ nI g := fun z => by have := (bI_le (by omega) (by omega)).mp z; omega
    have g4 : g < 400 ∧ g / 2 < I := ⟨by omega, by omega⟩
    have hd0 : ∀ j, hdT σ j = hdT σ0 j := hdT_ft (fs 155 rfl).2.2.1
    have v96 := (fs 96 rfl).2.2.1
    have ho' : OwV σ V (f / 2) k v := ho.vk v96
    have cp : ∀ j, j < 400 ∧ j / 2 < I → hdT σ0 j = f → 1 ≤ cnt σ0 (j / 2) 0 V := fun j hj e => by
      obtain ⟨u, u1, -⟩ := h.own hf.2 hj (by rw [hd0]; exact e) ho' hk
      have := u1.pos
      rw [cnt_eq _ _ (fun u _ _ => v96 u)] at this
      exact this
    have nx : ∀ c', c' ≤ c + (if hdT σ0 g = f then 1 else 0) → c' ≤ scd σ0 0 V ((g + 1) / 2) + (if (g + 1) % 2 = 1 ∧ hdT σ0 (g + 1 - 1) = f then 1 else 0) := fun c' hc' => by
      rcases Nat.mod_two_eq_zero_or_one g with z | z
      · rw [ifF (by omega)] at hc
        rw [show (g + 1) / 2 = g / 2 by omega]
        by_cases e0 : hdT σ0 g = f
        · rw [ifT e0] at hc'
          rw [ifT ⟨by omega, by rw [show g + 1 - 1 = g by omega]; exact e0⟩]
          omega
        · rw [ifF e0] at hc'
          exact Nat.le_trans (by omega) (Nat.le_add_right _ _)
      · rw [show (g + 1) / 2 = g / 2 + 1 by omega]
        have es : scd σ0 0 V (g / 2 + 1) = scd σ0 0 V (g / 2) + cnt σ0 (g / 2) 0 V := rfl
        rw [es]
        refine Nat.le_trans ?_ (Nat.le_add_right _ _)
        by_cases e0 : hdT σ0 g = f
        · have c0 := cp g g4 e0
          rw [ifT e0] at hc'
          by_cases e1 : hdT σ0 (g - 1) = f
          · exfalso
            obtain ⟨-, -, -, sm, -⟩ := z_hd J (f := g) g4.1
            rw [hd0, e0] at sm
            refine h.bothF (f := f) g4.2 (fun q => hr ?_) (by rw [hd0, show 2 * (g / 2) = g - 1 by omega]; exact e1) (by rw [hd0, show 2 * (g / 2) + 1 = g by omega]; exact e0)
            have := sm.1.trans q
            rw [(fs 74 rfl).2.2.1, (fs 74 rfl).2.2.1] at this
            exact this
          · rw [ifF (fun q => e1 q.2)] at hc
            omega
        · rw [ifF e0] at hc'
          by_cases e1 : hdT σ0 (g - 1) = f
          · have c0 := cp (g - 1) (by omega) e1
            rw [show (g - 1) / 2 = g / 2 by omega] at c0
            rw [ifT ⟨z, e1⟩] at hc
            omega
          · rw [ifF (fun q => e1 q.2)] at hc
            omega
    obtain ⟨-, q1, q2, -, -⟩ := z_hd J (f := g) g4.1
    obtain ⟨rec, hrec⟩ : ∃ q, q = KL_X0_joinOne_39 kf := ⟨_, rfl⟩
    obtain ⟨trec, htrec⟩ : ∃ q, q = L_setEquations_138 tf := ⟨_, rfl⟩
    have ih' := fun c D M σ K N a n h fs hc nd sz => ih (g + 1) kf tf c D M σ K N a n (by omega) (by omega) (by omega) (by omega) h fs ho hc nd sz
    rw [← hrec, ← htrec] at ih'
    have tb : ∀ M' s w (x5 : Int32), FfB C B P mss fss M M' σ s w → Ft sF_make σ s → inb x5 70000 → ∃ y s', trec (nI f) (nI k) y4 x5 (nI (g + 1)) s = some (y, s') ∧ FfB C B P mss fss M M' σ s' w := fun M' s w x5 hF f5 h5 => by
      obtain ⟨y3, s3, d1, d2, -⟩ := t_138b (x4 := y4) J I200 V96 hk c1 c7 d (g + 1) tf x5 s (by omega) (by omega) hF f5 h5
      rw [htrec]
      exact ⟨y3, s3, d1, d2⟩
    unfold KL_X0_joinOne_39 L_setEquations_138
    rw [c1, c2, n_dbl, ifF le, ifF le, q1, ob_some, q2, ob_some, ← hrec, ← htrec]
    by_cases e : hdT σ g = f
    · have e' : nI (hdT σ g) = nI f := by rw [e]
      obtain ⟨i1, i2⟩ := h.fi g4
      obtain ⟨r1, r2⟩ := h.r27
      obtain ⟨u, u1, u2, u3⟩ := h.own hf.2 g4 e ho' hk
      have gh := n_half g g4.1
      have go : ∀ op op' : Int32, (op, op') ∈ biF → SuO zb z7 C B P mss fss V I Bm Lp L σ0 D M σ K N E A Wn (obS (K_X3_make 105 1 (nI u) 0 0 0 M) (fun w20 M16 => some (.inr (.inr w20), M16)) fun r17 M16 => if mk M16 (mR M16 27 1) = 4 then obS (K_X3_make_2 (mR M16 27 1) op a r17 M16) (fun w33 M29 => some (.inr (.inr w33), M29)) fun r30 M29 => nm (nI g + 1) fun v34 => rec (nI f) (nI k) x3 x4 r30 v34 M29 else none) (J_setEquations_176_138 trec (nI f) (nI k) y4 (nI n) (nI g) op' σ) := fun op op' hop => by
        have bi : op' ∈ biT := by
          simp only [List.mem_cons, List.not_mem_nil, or_false, Prod.mk.injEq] at hop
          rcases hop with ⟨-, q⟩ | ⟨-, q⟩ | ⟨-, q⟩ | ⟨-, q⟩ | ⟨-, q⟩ | ⟨-, q⟩ <;> rw [q] <;> decide
        unfold J_setEquations_176_138
        rw [gh, u3, ob_some]
        rcases h.var1 u1.1 with ⟨M1, s1, w1, y1, a1, a2, a3, a4, a5⟩ | ⟨D1, M1, s1, K1, N1, n1, m1, a1, a2, h1, le1, bt1, nd1, a5, u1z, su1, su2⟩
        · rw [a1, obS_inr, a2, ob_some]
          obtain ⟨y2, s2, b2, b5, b3, b4⟩ := a3.mk1 (op := op') (x2 := nI n) (x3 := y1) (x4 := 0) (Or.inr (Or.inr (Or.inl ⟨bi, inb_nI' (by have := nd.nb; have := h.hl.2; omega) (by decide), a4⟩)))
          rw [b2, ob_some, nm_eq, nI_addL]
          obtain ⟨y3, s3, d1, d2⟩ := tb _ _ _ y2 b3 (a5.tr (b4.mono (by decide))) b5
          exact Or.inl ⟨_, s3, _, y3, rfl, d1, d2⟩
        · rw [a1, obS_inl, a2, ob_some]
          obtain ⟨r3, r4⟩ := h1.r27
          rw [r3, ifT r4]
          have e2 : K_X3_make_2 105 op a n1 M1 = K_X3_make 105 op 0 a n1 0 M1 := by unfold K_X3_make_2; rw [ifT r4, obS_id]
          rw [e2]
          have c1' := NdR.mv bt1.2.2.1 le1.1 le1.2 (Nat.le_refl V) (c + 1) (c + 1) 0 _ _ (Nat.le_refl _) nd
          have c2' := NdR.mv NdK.rf (Nat.le_refl _) (Nat.le_refl _) (Nat.le_refl V) 1 (c + 1) 0 _ _ (by omega) nd1
          have fl := mk_bi (vl := 0) (op := op) (op' := op') h1.1 (by omega) c1' c2' (Or.inl ⟨rfl, hop⟩) (L := L) hL1 (SzR.mv bt1.2.2.1.n4 le1.2 _ _ _ _ _ (Nat.le_refl _) (Nat.le_refl _) sz1) (SzR.mv Nd4.rf (Nat.le_refl _) _ _ _ _ _ (by omega) (Nat.le_refl _) su1) ⟨by omega, by have := nd.nb; omega⟩
          rcases h1.fl1 fl (fS_F_make _ _ _ _ _) ⟨rfl, rfl⟩ with ⟨M2, s2, w1, y1, b1, b2, b3, b4, b5⟩ | ⟨D2, M2, s2, K2, N2, n2, m2, b1, b2, h2, le2, bt2, nd2, b5, v1z, sv1, sv2⟩
          · rw [b1, obS_inr, b2, ob_some, nm_eq, nI_addL]
            obtain ⟨y3, s3, d1, d2⟩ := tb _ _ _ y1 (b3.pre bt1.2.2.2.1) (a5.tr b5) b4
            exact Or.inl ⟨_, s3, _, y3, rfl, d1, d2⟩
          · rw [b1, obS_inl, b2, ob_some, nm_eq, nm_eq, nI_addL]
            exact SuO.pre bt1 le1 (SuO.pre bt2 le2 (ih' (c + 1) D2 M2 s2 K2 N2 n2 m2 h2 ((fs.tr a5).tr b5) (nx (c + 1) (by rw [ifT (by rw [← hd0]; exact e)]; exact Nat.le_refl _)) nd2 ⟨v1z, sv1, sv2⟩))
      rw [ifT e', ifT e', ifF hx]
      unfold KJ_X0_joinOne_73_39
      rw [ifF hx, i1, ob_some, ifT (Or.inr i2), u2, ob_some, r1, ifT r2]
      by_cases q2 : nI g - nI g / 2 * 2 = 0
      · simp only [ifT q2]; exact go 4 6 (by decide)
      · simp only [ifF q2]; exact go 3 5 (by decide)
    · have e' : ¬ nI (hdT σ g) = nI f := fun z => by
        obtain ⟨q0, -⟩ := z_hd J (f := g) g4.1
        exact e ((bI_eq (by omega) (by omega)).mp z)
      rw [ifF e', ifF e', nm_eq, nm_eq, nI_addL]
      exact ih' c D M σ K N a n h fs (nx c (Nat.le_add_right _ _)) nd ⟨zz, sz1, sz2⟩
end SUMLP
