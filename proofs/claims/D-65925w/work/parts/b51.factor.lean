/-! Layer B: factors -/
set_option maxRecDepth 100000
section FACTOR
variable {C : PC} {M M' M0 Mb : CM} {σ σ' σ0 σb : TS} {i dep c s n so ib depb cb' sb' nb' i0 v l p w : Nat} {α β γ δ : Type} {G : γ → CM → δ → TS → Prop}
/-- an Ast of a kind and a value -/
def lfM (M : CM) (k v : Int32) : CM := msI (msI (mnew M 8 0 8) 1400 (mn M) k) 1401 (mn M) v
theorem lfM_ok (M : CM) (k v : Int32) : Fz none_ M (lfM M k v) ∧ mn (lfM M k v) = mn M + 1 ∧ ms (lfM M k v) = ms M + 8 ∧ mk (lfM M k v) (mn M) = 8 ∧ mI (lfM M k v) 1400 (mn M) = k ∧ mI (lfM M k v) 1401 (mn M) = v := by
  refine ⟨(Fz.rf.mnew.msI (fun z => by omega)).msI (fun z => by omega), rfl, rfl, ?_, ?_, ?_⟩
  · show mk (mnew M 8 0 8) (mn M) = 8; rw [mk_mnew, ifT rfl]
  · unfold lfM; rw [mI_msI, ifF (by omega), mI_msI, ifT ⟨rfl, rfl⟩]
  · unfold lfM; rw [mI_msI, ifT ⟨rfl, rfl⟩]
theorem lf_al {α : Type} (M : CM) (k v : Int32) (K : Nat → CM → Option α) (hc : mn M ≤ 601024 ∧ ms M + 8 ≤ 7293034) (h0 : 167 ≤ mn M) : (if mn M ≤ 601024 ∧ ms M + 8 ≤ 7293034 then nm (mn M) fun v27 => nm (mnew M 8 0 8) fun M28 => if ¬ v27 = 0 then ob (K_X8_init v27 k M28) fun _ M30 => if mk M30 v27 = 8 then nm (msI M30 1401 v27 v) fun M35 => K v27 M35 else none else none else none) = K (mn M) (lfM M k v) := by
  rw [ifT hc, nm_eq, nm_eq, ifT (by omega), k_ast hc (by omega) k, ob_some, ifT (by show mk (mnew M 8 0 8) (mn M) = 8; rw [mk_mnew, ifT rfl]), nm_eq]
  rfl
theorem ob_id {α : Type} (p : Option (α × TS)) : (ob p fun r s => some (r, s)) = p := by
  rcases p with _ | ⟨r, s⟩ <;> rfl
theorem obS_id {α : Type} (p : Option ((α ⊕ Nat) × CM)) : (obS p (fun w M => some (.inr w, M)) fun r M => some (.inl r, M)) = p := by
  rcases p with _ | ⟨r | r, s⟩ <;> rfl
/-- a reference stands here, whose first name both know -/
theorem ref_node (P : Pe C M σ i dep c s n) (hc : 64 ≤ c) (hs : 4096 ≤ s) (hn : 16 ≤ n) (hcr : car C = 0) {σ1 : TS} (hN : F_passName σ = some (wc M w, σ1)) (h0 : tI σ1 0 = 0) : Ok C M σ i dep c s n 0 (K_X2_ref M) (ob (F_refFrom (wc M w) σ1) fun r55 s54 => ob (F_node 2 r55 0 0 s54) fun r59 s58 => some (r59, s58)) := by
  rcases z_refFrom P (by omega) (by omega) (by omega) with ⟨M2, σ1', σ2, i2, o, q, w', a1, a2, a3, a4, P2, a5, E2, R, hq, a6⟩ | ⟨w', M2, y, σ1', a1, a2, fb⟩ | ⟨w2, M2, σ1', σ2, w', r, a1, a2, a3, a4, fb⟩
  · rw [hN] at a2
    injection a2 with a2; injection a2 with b1 b2
    subst b2
    rw [← b1] at a4
    obtain ⟨σ7, n1, n2, n3, n4, n5, ⟨n6, n7, n8, n9⟩, P7, E7⟩ := y_node (n := n) (P2.wk (c' := c) (s' := s) (n' := n + 1) (by omega) (by omega) (by omega)) 2 (nI q) 0 0
    rw [a1, a4, ob_some, n1, ob_some]
    have RR : RfR (fun x => mn M ≤ x ∧ x < mn M2) (tQ σ7) (cm C) M2 σ7 o q := R.mv (P2.mv E7 (Q := fun x => mn M ≤ x ∧ x < mn M2) (fun o z => ⟨z.2, by have := z.1; have := P.n167; omega⟩)) (fun _ z => z) (by omega)
    exact Or.inl ⟨o, M2, tN σ2, σ7, i2, rfl, rfl, P7, a5, E2.tr E7, 1, ⟨RR.1, RR.2.1, n5, by omega⟩, Or.inr (Or.inr (Or.inl ⟨rfl, hcr, n6, q, n7, hq, RR⟩))⟩
  · rw [hN] at a2
    injection a2 with a2; injection a2 with b1 b2
    subst b2
    exact absurd h0 fb.2.2.2.1
  · rw [hN] at a2
    injection a2 with a2; injection a2 with b1 b2
    subst b2
    rw [← b1] at a4
    rw [a1, a4, ob_some]
    exact Or.inr (FB.ko fb (BW.bo (bw_node fb.bd _ _ _ _) fun r s hs => BW.sm hs))
theorem named_ok {cfK : CM → Option ((Nat ⊕ Nat) × CM)} {cfT tE : TS → Option (Int32 × TS)} {tO : Int32 → Int32 → TS → Option (Int32 × TS)}
    (hexpr : ∀ (L : Nat) (M : CM) (σ : TS) (i' c s n : Nat), i < i' → 64 ≤ c → 4096 ≤ s → 16 ≤ n → Pe (C.lo L) M σ i' (dep + 1) c s n → Ok (C.lo L) M σ i' (dep + 1) c s n 0 (cfK M) (cfT σ)) (hbE : ∀ σ1 s, Br C σ1 s → BW C σ1 (cfT s))
    (P : Pe C M σ i dep c s n) (hc : 64 ≤ c) (hs : 4096 ≤ s) (hn : 16 ≤ n) (hkey : F_isKey σ = some (0, σ)) (hi : i < ct C) (h11 : tI σ 11 = 1) (h92 : mA M 92 i = nI w) (hw38 : 38 ≤ w) (hw : w < 38 + cm C) (hwc : wc M w = tL σ 16) : Ok C M σ i dep c s n 0 (KB_X2_named cfK (mA M 94 i) M) (J_factor_330 tE tO (B_call cfT) σ) := by
  have h167 := P.n167
  have hit := P.it
  obtain ⟨g1, g2⟩ := P.px.in1
  have h12 := P.at12
  obtain ⟨σ1, n1, P1, E1⟩ := z_step P hi
  have fr1 := fS_F_next _ _ _ n1
  have hin : inb (nI (i + 1)) 2001 := inb_nI' (by omega) (by decide)
  have hN : F_passName σ = some (wc M w, σ1) := by
    unfold F_passName F_isName
    rw [t_isBad0 P.g0, ob_some, ifT (rfl : (0 : Int32) = 0), ifT h11, hkey, ob_some, ifT (rfl : (0 : Int32) = 0), ob_some, ifF (show ¬ (1 : Int32) = 0 from by decide), nm_eq, n1, ob_some, hwc]
  unfold KB_X2_named J_factor_330
  rw [ifT g1, nm_eq, g2, h92, P.i5, nI_addL, ifT hin, ix_nI (by omega), hkey, ob_some, ifT (rfl : (0 : Int32) = 0), nm_eq, nm_eq, n1, ob_some, ← hwc, h12]
  rcases y_sgn P1.px (x := 40) (by decide) with ⟨u1, u2, _, u4, u5⟩ | ⟨u1, u2⟩
  · have u1 : mA M 91 (i + 1) = 40 := u1
    rw [ifT u1, u2, ob_some, ifF (show ¬ (1 : Int32) = 0 from by decide), ob_id]
    exact call_ok hexpr hbE P hc hs hn hw n1 P1 E1 u4 u5 (mA M 94 i)
  · have u1 : ¬ mA M 91 (i + 1) = 40 := u1
    rw [ifF u1, u2, ob_some, ifT (rfl : (0 : Int32) = 0)]
    rcases P.en.2.2.2.2 with ⟨m1, m2, m3⟩ | ⟨m1, m0, m2, m3, m4, m5, m6, _⟩
    · rw [ifT m2, ifT (show tI σ1 39 = 0 from by rw [(fr1 39 rfl).1]; exact m3)]
      rcases z_isLoop P hw with ⟨l1, l2, _⟩ | ⟨l1, l2⟩
      · have l2' := t_isFor_kp l2 (fr1 37 rfl).1 (fun j => (fr1 35 rfl).2.2.2 j)
        rw [l1, ob_some, ifF (show ¬ (1 : Int32) = 0 from by decide), l2', ob_some, ifF (show ¬ (1 : Int32) = 0 from by decide), P.i5, nI_addL, ifT hin, ix_nI (by omega)]
        rcases y_sgn P1.px (x := 46) (by decide) with ⟨v1, v2, _, v4, v5⟩ | ⟨v1, v2⟩
        · have v1 : mA M 91 (i + 1) = 46 := v1
          rw [ifT v1, v2, ob_some, ifF (show ¬ (1 : Int32) = 0 from by decide), obS_id]
          exact ref_node P hc hs hn m1 hN P1.g0
        · have v1 : ¬ mA M 91 (i + 1) = 46 := v1
          rw [ifF v1, ifT hin, v2, ob_some, ifT (rfl : (0 : Int32) = 0)]
          rcases y_sgn P1.px (x := 91) (by decide) with ⟨v1, v2, _, v4, v5⟩ | ⟨v1, v2⟩
          · have v1 : mA M 91 (i + 1) = 91 := v1
            rw [ifT v1, v2, ob_some, ifF (show ¬ (1 : Int32) = 0 from by decide), obS_id]
            exact ref_node P hc hs hn m1 hN P1.g0
          · have v1 : ¬ mA M 91 (i + 1) = 91 := v1
            have cap := P1.cap (k := 8) (by omega)
            rw [ifF v1, nm_eq, lf_al (msI M 405 90 (nI (i + 1))) 102 (nI w) (fun v M35 => (some (.inl v, M35) : Option ((Nat ⊕ Nat) × CM))) cap P1.n167, v2, ob_some, ifT (rfl : (0 : Int32) = 0)]
            obtain ⟨j1, j2, j3, j4, j5, j6⟩ := lfM_ok (msI M 405 90 (nI (i + 1))) 102 (nI w)
            have P2 := P1.al j1 (c' := c) (s' := s) (by omega) (by omega)
            have E2 := Es.al (σ := σ1) j1 P1.n167
            obtain ⟨σ5, p1, p2, p3, p4, p5, ⟨p6, p7, p8, p9⟩, P5, E5⟩ := y_newPart (n := n + 3) P2 (wc M w)
            obtain ⟨σ7, n1, n2, n3, n4, n5, ⟨n6, n7, n8, n9⟩, P7, E7⟩ := y_node (n := n + 2) P5 41 (nI (tQ σ1)) 0 0
            rw [p1, ob_some, n1, ob_some]
            have E17 := (E1.tr E2).tr (E5.tr E7)
            have e1 : mn (msI M 405 90 (nI (i + 1))) = mn M := rfl
            have hwc7 : wc (lfM (msI M 405 90 (nI (i + 1))) 102 (nI w)) w = wc M w := P.wcs E17.1 (fun o z => by rw [z]; exact P.en.1) w
            refine Or.inl ⟨mn M, _, tN σ5, σ7, i + 1, rfl, rfl, P7.wk (by omega) (by omega) (by omega), by omega, E17, 1, ⟨⟨Nat.le_refl _, by omega⟩, j4, n5, by omega⟩, Or.inr (Or.inl ⟨rfl, m1, j5, n6, w, tQ σ1, j6, hw38, hw, n7, p5, by omega, p4, ?_⟩)⟩
            rw [(fS_F_node _ _ _ _ _ _ _ n1 29 rfl).2.2.2, p6, hwc7]
      · have l2' := t_isFor_kp l2 (fr1 37 rfl).1 (fun j => (fr1 35 rfl).2.2.2 j)
        rw [l1, ob_some, ifT (rfl : (0 : Int32) = 0), obS_id, l2', ob_some, ifT (rfl : (0 : Int32) = 0)]
        exact ref_node P hc hs hn m1 hN P1.g0
    · rw [ifF m2, ifF (show ¬ tI σ1 39 = 0 from by rw [(fr1 39 rfl).1, m5]; decide)]
      rcases z_argument P (by omega) hw with ⟨k, k1, k2, l1, l2⟩ | ⟨l1, l2⟩
      · have l2' := t_formal_kp l2 (fr1 38 rfl).1 (fun j => (fr1 36 rfl).2.2.2 j)
        have h0k : (0 : Int32) ≤ nI k := by rw [show (0 : Int32) = nI 0 from rfl, bI_le (by decide) (by omega)]; exact Nat.zero_le _
        have cap := P1.cap (k := 8) (by omega)
        rw [l1, ob_some, ifT h0k, l2', ob_some, ifT h0k, nm_eq, P.i5, nI_addL, lf_al (msI M 405 90 (nI (i + 1))) 109 (nI k) (fun v M35 => (some (.inl v, M35) : Option ((Nat ⊕ Nat) × CM))) cap P1.n167]
        obtain ⟨j1, j2, j3, j4, j5, j6⟩ := lfM_ok (msI M 405 90 (nI (i + 1))) 109 (nI k)
        have P2 := P1.al j1 (c' := c) (s' := s) (by omega) (by omega)
        have E2 := Es.al (σ := σ1) j1 P1.n167
        obtain ⟨σ7, n1, n2, n3, n4, n5, ⟨n6, n7, n8, n9⟩, P7, E7⟩ := y_node (n := n + 3) P2 42 (nI k) 0 0
        rw [n1, ob_some]
        have e1 : mn (msI M 405 90 (nI (i + 1))) = mn M := rfl
        exact Or.inl ⟨mn M, _, tN σ1, σ7, i + 1, rfl, rfl, P7.wk (by omega) (by omega) (by omega), by omega, (E1.tr E2).tr E7, 1, ⟨⟨Nat.le_refl _, by omega⟩, j4, n5, by omega⟩, Or.inr (Or.inr (Or.inr (Or.inr (Or.inr (Or.inl ⟨rfl, j5, n6, k, j6, n7, k1, k2⟩)))))⟩
      · have l2' := t_formal_kp l2 (fr1 38 rfl).1 (fun j => (fr1 36 rfl).2.2.2 j)
        obtain ⟨r, p, hr, s1, s2⟩ := y_stop P.px (P.cap (by omega))
        have hrp : r = 2 ∧ p = mA M 94 i := by
          unfold F_cantStand at s2
          rw [ifF (by rw [h11]; decide), t_bad P.g0, ob_some, h12] at s2
          injection s2 with s2; injection s2 with _ s2
          have e0 : tI (tsI (tsI σ 0 2) 1 (mA M 94 i)) 0 = tI (tsI (tsI σ 0 r) 1 p) 0 := by rw [s2]
          have e1 : tI (tsI (tsI σ 0 2) 1 (mA M 94 i)) 1 = tI (tsI (tsI σ 0 r) 1 p) 1 := by rw [s2]
          exact ⟨e0.symm, e1.symm⟩
        rw [hrp.1, hrp.2] at s1
        rw [l1, ob_some, ifF (by decide), s1, ob_some, ifT (wM_k _ _ _), l2', ob_some, ifF (by decide), t_bad P1.g0, ob_some]
        have fb := P.fbx P1 E1 (by omega) (by omega) (r := 2) (q := mA M 94 i) (by decide)
        exact Or.inr (FB.ko fb (BW.bo (bw_node fb.bd _ _ _ _) fun r s hs => BW.sm hs))
end FACTOR
