/-! Layer B: elements, whole -/
set_option maxRecDepth 100000
section EL1
variable {C : PC} {M M' M0 Mb : CM} {σ σ' σ0 σb s1 : TS} {i dep c s n so ib depb cb' sb' nb' i0 v l p w m Q Q' N k k0 el le e K fl sz cc E0 cur ce a : Nat} {bs qs bs' os es : List Nat}
theorem EF.un {S : List Nat} (h : EF C M0 M σ e fl sz [] k0) (hm : mn M0 + 3 ≤ mn M ∧ mn M ≤ 601024) (h90 : 90 < mn M0) (F : Fz (fun o => o = 90 ∨ o = mn M0 + 1) M M') (hk : mk M (mn M0 + 1) = 50) (hw : ∀ w, wc M' w = wc M w) (hU : UnR M' σ' (mn M0 + 1) e) (h51 : tB σ 51 e = 0) (f : Ft S σ σ') (hS : [51, 52, 53, 55, 57, 65].all (fun k => !S.contains k) = true) : EF C M0 M' σ' e fl sz [] k0 := by
  have hf : ∀ k, k ∈ [51, 52, 53, 55, 57, 65] → S.contains k = false := fun k hk => by
    have := List.all_eq_true.mp hS k hk
    simpa using this
  obtain ⟨⟨a1, a2, ax⟩, ⟨a3, a4, a5⟩, a6, _, ⟨a11, a12, a13⟩, a14, a15, a16, a17, a18⟩ := h
  have sv : So M M' (mn M0) := F.so (by omega) (by omega)
  have hal : ¬ (mR M 4201 (mn M0 + 2) = 90 ∨ mR M 4201 (mn M0 + 2) = mn M0 + 1) := fun z => by
    by_cases e4 : mR M 4201 (mn M0 + 2) = 4398046511104
    · rw [e4] at z; omega
    · have q0 := a14.2.2.2 e4
      rcases a14.1.2.2.2.2 with ⟨q, _⟩ | ⟨_, q, _⟩
      · exact e4 q
      · rcases z with z | z
        · omega
        · rw [z, hk] at q; exact absurd q (by decide)
  refine ⟨⟨by rw [sv.i]; exact a1, by rw [(f 57 (hf 57 (by decide))).2.2.1]; exact a2, Or.inl (by rw [(f 51 (hf 51 (by decide))).2.2.2]; exact h51)⟩, ⟨a3, by rw [sv.i]; exact a4, by rw [(f 52 (hf 52 (by decide))).2.2.1]; exact a5⟩, ?_, hU, ⟨by rw [sv.i]; exact a11, by rw [(f 53 (hf 53 (by decide))).2.2.1]; exact a12, a13⟩, a14.kp F (by omega) hal, fun j hj => absurd hj (Nat.not_lt_zero _), by rw [(f 55 (hf 55 (by decide))).2.2.1]; exact a16, a17, by unfold tM at a18 ⊢; rw [(f 65 (hf 65 (by decide))).1]; exact a18⟩
  rw [(f 51 (hf 51 (by decide))).2.2.2, sv.i]
  rcases a6 with q | ⟨w, q1, q2, q3, q4⟩
  · exact Or.inl q
  · exact Or.inr ⟨w, q1, q2, q3, by rw [hw]; exact q4⟩
/-- before its type stands -/
def EF0 (C : PC) (M0 M : CM) (σ : TS) (e fl k0 : Nat) : Prop := (mI M 2000 (mn M0) = 0 ∧ tA σ 57 e = 0) ∧ (fl < 64 ∧ mI M 2001 (mn M0) = nI (32 * fl) ∧ tA σ 52 e = nI fl) ∧ (UnR M σ (mn M0 + 1) e ∧ tA σ 54 e = 0) ∧ (mI M 2004 (mn M0) = 0 ∧ tA σ 53 e = 0) ∧ (LsB M0 M (mn M0 + 2) [] ∧ tA σ 55 e = 0 ∧ 1 ≤ k0 ∧ k0 ≤ tM σ) ∧ (mR M 2007 (mn M0) = 0 ∧ tA σ 56 e = 0)
theorem EF0.st {S : List Nat} (h : EF0 C M0 M σ e fl k0) (hm : mn M0 + 3 ≤ mn M) (h90 : 90 < mn M0) (E : Es M σ M' σ') (f : Ft S σ σ') (hS : [52, 53, 54, 55, 56, 57, 65].all (fun k => !S.contains k) = true) : EF0 C M0 M' σ' e fl k0 := by
  have hf : ∀ k, k ∈ [52, 53, 54, 55, 56, 57, 65] → S.contains k = false := fun k hk => by
    have := List.all_eq_true.mp hS k hk
    simpa using this
  obtain ⟨⟨a1, a2⟩, ⟨a3, a4, a5⟩, ⟨⟨a7, a8, vv, a9, a10⟩, a10'⟩, ⟨a11, a12⟩, ⟨a14, a16, a17, a18⟩, a19, a20⟩ := h
  have sv : So M M' (mn M0) := E.1.so (by omega) (by omega)
  have su : So M M' (mn M0 + 1) := E.1.so (by omega) (by omega)
  have hal : mR M 4201 (mn M0 + 2) ≠ 90 := fun z => by
    have := a14.2.2.2 (by rw [z]; decide)
    omega
  exact ⟨⟨by rw [sv.i]; exact a1, by rw [(f 57 (hf 57 (by decide))).2.2.1]; exact a2⟩, ⟨a3, by rw [sv.i]; exact a4, by rw [(f 52 (hf 52 (by decide))).2.2.1]; exact a5⟩, ⟨⟨by rw [su.k]; exact a7, by rw [su.l]; exact a8, vv, fun k hk => by rw [su.a]; exact a9 k hk, by rw [(f 54 (hf 54 (by decide))).2.2.1]; exact a10⟩, by rw [(f 54 (hf 54 (by decide))).2.2.1]; exact a10'⟩, ⟨by rw [sv.i]; exact a11, by rw [(f 53 (hf 53 (by decide))).2.2.1]; exact a12⟩, ⟨a14.kp E.1 (by omega) hal, by rw [(f 55 (hf 55 (by decide))).2.2.1]; exact a16, a17, by unfold tM at a18 ⊢; rw [(f 65 (hf 65 (by decide))).1]; exact a18⟩, by rw [sv.r]; exact a19, by rw [(f 56 (hf 56 (by decide))).2.2.1]; exact a20⟩
/-- the type comes -/
theorem EF0.ty {S : List Nat} {x : Int32} (h : EF0 C M0 M σ e fl k0) (hm : mn M0 + 3 ≤ mn M ∧ mn M ≤ 601024) (h90 : 90 < mn M0) (hk : mk M (mn M0) = 11) (hM : M' = msI M 2002 (mn M0) x) (f : Ft S σ σ') (hS : [52, 53, 54, 55, 56, 57, 65].all (fun k => !S.contains k) = true) (ht : (x = 12 ∧ tB σ' 51 e = 0) ∨ ∃ w, x = nI w ∧ 38 ≤ w ∧ w < 38 + cm C ∧ tB σ' 51 e = wc M' w) : EF C M0 M' σ' e fl 0 [] k0 ∧ (mR M' 2007 (mn M0) = 0 ∧ tA σ' 56 e = 0) ∧ tA σ' 54 e = 0 := by
  have hf : ∀ k, k ∈ [52, 53, 54, 55, 56, 57, 65] → S.contains k = false := fun k hk => by
    have := List.all_eq_true.mp hS k hk
    simpa using this
  obtain ⟨⟨a1, a2⟩, ⟨a3, a4, a5⟩, ⟨⟨a7, a8, vv, a9, a10⟩, a10'⟩, ⟨a11, a12⟩, ⟨a14, a16, a17, a18⟩, a19, a20⟩ := h
  have F : Fz (fun o => o = mn M0) M M' := by rw [hM]; exact Fz.rf.msI (fun _ => rfl)
  have hal : mR M 4201 (mn M0 + 2) ≠ mn M0 := fun z => by
    rcases a14.1.2.2.2.2 with ⟨q, _⟩ | ⟨_, q, _⟩
    · rw [q] at z; omega
    · rw [z, hk] at q; exact absurd q (by decide)
  have iv : ∀ g, g ≠ 2002 → mI M' g (mn M0) = mI M g (mn M0) := fun g hg => by rw [hM, mI_msI, ifF (fun z => hg z.1)]
  have su : So M M' (mn M0 + 1) := F.so (by omega) (by omega)
  refine ⟨⟨⟨by rw [iv 2000 (by decide)]; exact a1, by rw [(f 57 (hf 57 (by decide))).2.2.1]; exact a2, Or.inr (by rw [(f 54 (hf 54 (by decide))).2.2.1]; exact a10')⟩, ⟨a3, by rw [iv 2001 (by decide)]; exact a4, by rw [(f 52 (hf 52 (by decide))).2.2.1]; exact a5⟩, ?_, ⟨by rw [su.k]; exact a7, by rw [su.l]; exact a8, vv, fun k hk => by rw [su.a]; exact a9 k hk, by rw [(f 54 (hf 54 (by decide))).2.2.1]; exact a10⟩, ⟨by rw [iv 2004 (by decide)]; exact a11, by rw [(f 53 (hf 53 (by decide))).2.2.1]; exact a12, by decide⟩, a14.kp F (by omega) hal, fun j hj => absurd hj (Nat.not_lt_zero _), by rw [(f 55 (hf 55 (by decide))).2.2.1]; exact a16, a17, by unfold tM at a18 ⊢; rw [(f 65 (hf 65 (by decide))).1]; exact ⟨a18, by decide⟩⟩, ⟨by rw [hM]; exact a19, by rw [(f 56 (hf 56 (by decide))).2.2.1]; exact a20⟩, by rw [(f 54 (hf 54 (by decide))).2.2.1]; exact a10'⟩
  have e2 : mI M' 2002 (mn M0) = x := by rw [hM, mI_msI, ifT ⟨rfl, rfl⟩]
  rw [e2]; exact ht
theorem el_s2 (H : ElC C Mb σb M0 σ0 ib depb cb' sb' nb' e cur ce cc E0 i0 es) (hEP : EP e M0 σ0 M σ) (hEF : EF0 C M0 M σ e fl K) (P : Pe C M σ i dep c s n) (hc : 80 ≤ c) (hs : 8000 ≤ s) (hn : 20 ≤ n) (hi0 : i0 ≤ i) (hK : tI σ 65 = nI K ∧ 1 ≤ K ∧ K + (ct C - i) ≤ cX C) : ElG C Mb σb M0 i0 dep c s n cur ce cc E0 es (KJ_X2_element_136 (mn M0) M) (ob (J_component_52 (nI cc) (nI e) σ) fun _ s => J_element_162 (nI cc) s) := by
  have H0 := H
  obtain ⟨Pb, hcl, E, X0, he, h20, h67, d0, c0, s0, n0, P0⟩ := H
  obtain ⟨he481, hcc⟩ := H0.e481
  have hin : inb (nI e) 481 := inb_nI' he481 (by decide)
  have hix : ix (nI e) = e := ix_nI (by omega)
  have hm0 := hEP.2.2.2.2.1
  have hcap := P.2.2.2.1
  unfold KJ_X2_element_136 J_component_52
  rw [t_isBad0 P.g0, ob_some, ifT (rfl : (0 : Int32) = 0)]
  rcases z_takeKey P (j := 12) (x := 12) (y := 1919246700) rfl (by decide) (by decide) with ⟨σ1, u1, u2, u3, P1, E1, u6⟩ | ⟨u1, u2⟩
  · -- real
    have fr1 := fS_F_next _ _ _ u3
    have EP1 := hEP.st E1 (by omega) fr1 (by decide)
    have EF1 := hEF.st hm0 (by omega) E1 fr1 (by decide)
    obtain ⟨M2, hM2⟩ : ∃ M2, M2 = msI (msI M 405 90 (nI (i + 1))) 2002 (mn M0) 12 := ⟨_, rfl⟩
    obtain ⟨σ2, hσ2⟩ : ∃ σ2, σ2 = tsB σ1 51 e 0 := ⟨_, rfl⟩
    have f2 : Ft [51] σ1 σ2 := by rw [hσ2]; exact (Ft.rf _ _).p_tsB rfl
    have F2 : Fz (fun o => o = mn M0) (msI M 405 90 (nI (i + 1))) M2 := by rw [hM2]; exact Fz.rf.msI (fun _ => rfl)
    have n2 : mn M2 = mn M := by rw [hM2]; rfl
    have s2 : ms M2 = ms M := by rw [hM2]; rfl
    have nm1 : mn (msI M 405 90 (nI (i + 1))) = mn M := rfl
    have hk1 : mk (msI M 405 90 (nI (i + 1))) (mn M0) = 11 := EP1.2.2.2.2.2.1
    obtain ⟨P2, E2⟩ := P0.re (EP1.1.tx f2 (by decide)) (P1.tx f2 (by decide)) F2 (fun o z => by omega) (c' := c + 16) (s' := s + 2048) (by rw [n2]; show mn M + _ ≤ mn M + _; omega) (by rw [s2]; show ms M + _ ≤ ms M + _; omega)
    have EP2 : EP e M0 σ0 M2 σ2 := EP1.wr E2 (Mz.ft f2 (by decide)) (by rw [hσ2]; exact Eo.sB) ⟨(f2 58 rfl).1, fun f hf j => (f2 f (by rcases hf with rfl | rfl | rfl | rfl | rfl <;> rfl)).2.2.1 j⟩ (by omega) (by rw [hM2]; rfl) ⟨by rw [hM2]; rfl, by rw [hM2]; rfl⟩
    obtain ⟨EF2, hva2, h542⟩ := EF1.ty (M' := M2) (σ' := σ2) ⟨by omega, by omega⟩ (by omega) hk1 hM2 f2 (by decide) (Or.inl ⟨rfl, by rw [hσ2, tB_tsB, ifT ⟨rfl, rfl⟩]⟩)
    have h02 : mI M2 2002 (mn M0) = 12 := by rw [hM2, mI_msI, ifT ⟨rfl, rfl⟩]
    have hK2 : tI σ2 65 = nI K ∧ 1 ≤ K ∧ K + (ct C - (i + 1)) ≤ cX C := ⟨by rw [(f2 65 rfl).1, (fr1 65 rfl).1]; exact hK.1, hK.2.1, by omega⟩
    rw [u1, ob_some, ifF (show ¬ (1 : Int32) = 0 from by decide), ifT hk1, nm_eq, ← hM2, u2, ob_some, ifF (show ¬ (1 : Int32) = 0 from by decide), u3, ob_some, ifT hin, nm_eq, hix, ← hσ2]
    rcases z_take P2 (x := 60) (by decide) with ⟨σ3, v1, v2, v3, P3, E3, v6⟩ | ⟨v1, v2⟩
    · have fr3 := fS_F_next _ _ _ v3
      have k90 : mk M2 90 ≠ 23 := by rw [P2.en.1]; decide
      have nm3 : mn (msI M2 405 90 (nI (i + 1 + 1))) = mn M2 := rfl
      have EP3 := EP2.st E3 (by omega) fr3 (by decide)
      have EF3 := EF2.st P.nf12 (by omega) (by omega) k90 E3 (fun w => rfl) fr3 (by decide)
      rw [v1, ob_some, ifF (show ¬ (1 : Int32) = 0 from by decide), v2, ob_some, ifF (show ¬ (1 : Int32) = 0 from by decide)]
      unfold F_readUnit
      rw [v3, ob_some]
      have hU3 := EF3.2.2.2.1
      rcases z_unit (kK := fun M181 => KJ_X2_element_234 (mn M0) M181) (v := mn M0) (a := mn M0 + 1) P0 EP3.1 P3 (by omega) (by omega) he481 ⟨⟨Nat.le_refl _, by omega⟩, EP3.2.2.2.2.2.1⟩ ⟨⟨by omega, by omega⟩, EP3.2.2.2.2.2.2.1, hU3.1, hU3.2.1⟩ (by omega) (by rw [(fr3 54 rfl).2.2.1]; exact h542) with ⟨M4, σ4, i4, q1, q2, P4, q4, E4, U4, F4, S4⟩ | ⟨w', M4, y, σ4, q1, q2, fb⟩
      · rw [q1, q2, ob_some]
        have s34 : So (msI M2 405 90 (nI (i + 1 + 1))) M4 (mn M0) := F4.so (by omega) (by omega)
        have n34 := F4.1
        have sx3 : So M2 (msI M2 405 90 (nI (i + 1 + 1))) (mn M0) := E3.1.so (by omega) (by omega)
        have eo4 : Eo e σ3 σ4 := by
          refine ⟨fun f hf j hj => ?_, fun f hf j _ => (S4.1 f (by rcases hf with rfl | rfl <;> rfl)).2.2.2 j⟩
          by_cases z : f = 54
          · subst z
            exact S4.2 j hj
          · exact (S4.1 f (by rcases hf with rfl | rfl | rfl | rfl | rfl | rfl <;> first | rfl | exact absurd rfl z)).2.2.1 j
        have EP4 : EP e M0 σ0 M4 σ4 := EP3.wr E4 (Mz.ft S4.1 (by decide)) eo4 ⟨(S4.1 58 rfl).1, fun f hf j => (S4.1 f (by rcases hf with rfl | rfl | rfl | rfl | rfl <;> rfl)).2.2.1 j⟩ (by omega) s34.k ⟨s34.r _, s34.r _⟩
        have hc3 := P3.2.2.2.1
        have EF4 : EF C M0 M4 σ4 e fl 0 [] K := EF3.un ⟨by omega, by omega⟩ (by omega) F4 hU3.1 (fun w => by rw [H0.wcs E4, H0.wcs EP3.1]) U4 (by rw [(fr3 51 rfl).2.2.2, hσ2, tB_tsB, ifT ⟨rfl, rfl⟩]) S4.1 (by decide)
        exact el_s3 (x3 := 1) H0 EP4 EF4 ⟨by rw [s34.r, sx3.r]; exact hva2.1, by rw [(S4.1 56 rfl).2.2.1, (fr3 56 rfl).2.2.1]; exact hva2.2⟩ (P4.wk (c' := c) (s' := s) (n' := n) (by omega) (by omega) (by omega)) hc hs hn (by omega) (Or.inl ⟨by rw [s34.i, sx3.i]; exact h02, by decide⟩) ⟨by rw [(S4.1 65 rfl).1, (fr3 65 rfl).1]; exact hK2.1, hK2.2.1, by have := hK2.2.2; omega⟩
      · rw [q1, q2, ob_some]
        have fb := fb.tr E
        exact ElG.ko fb (bw_110 fb.bd he481 _ _) _
    · rw [v1, ob_some, ifT (rfl : (0 : Int32) = 0), v2, ob_some, ifT (rfl : (0 : Int32) = 0)]
      exact el_s3 (x3 := 1) H0 EP2 EF2 hva2 (P2.wk (c' := c) (s' := s) (n' := n) (by omega) (by omega) (by omega)) hc hs hn (by omega) (Or.inl ⟨h02, by decide⟩) hK2
  · rw [u1, ob_some, ifT (rfl : (0 : Int32) = 0), u2, ob_some, ifT (rfl : (0 : Int32) = 0)]
    rcases z_name P (by omega) (by omega) with ⟨x, y, σ1, a1, a2, P1, E1, hi1, ⟨w, hx, hw1, hw2, hy⟩, n1⟩ | ⟨w', M1, y, σ1, a1, a2, fb⟩
    · have fr1 := fS_F_next _ _ _ n1
      have EP1 := hEP.st E1 (by omega) fr1 (by decide)
      have EF1 := hEF.st hm0 (by omega) E1 fr1 (by decide)
      obtain ⟨M2, hM2⟩ : ∃ M2, M2 = msI (msI M 405 90 (nI (i + 1))) 2002 (mn M0) x := ⟨_, rfl⟩
      obtain ⟨σ2, hσ2⟩ : ∃ σ2, σ2 = tsB σ1 51 e y := ⟨_, rfl⟩
      have f2 : Ft [51] σ1 σ2 := by rw [hσ2]; exact (Ft.rf _ _).p_tsB rfl
      have F2 : Fz (fun o => o = mn M0) (msI M 405 90 (nI (i + 1))) M2 := by rw [hM2]; exact Fz.rf.msI (fun _ => rfl)
      have n2 : mn M2 = mn M := by rw [hM2]; rfl
      have s2 : ms M2 = ms M := by rw [hM2]; rfl
      have nm1 : mn (msI M 405 90 (nI (i + 1))) = mn M := rfl
      have hk1 : mk (msI M 405 90 (nI (i + 1))) (mn M0) = 11 := EP1.2.2.2.2.2.1
      obtain ⟨P2, E2⟩ := P0.re (EP1.1.tx f2 (by decide)) (P1.tx f2 (by decide)) F2 (fun o z => by omega) (c' := c + 16) (s' := s + 2048) (by rw [n2]; show mn M + _ ≤ mn M + _; omega) (by rw [s2]; show ms M + _ ≤ ms M + _; omega)
      have wcs2 : ∀ w, wc M2 w = wc M w := fun w => by rw [H0.wcs E2, H0.wcs hEP.1]
      have EP2 : EP e M0 σ0 M2 σ2 := EP1.wr E2 (Mz.ft f2 (by decide)) (by rw [hσ2]; exact Eo.sB) ⟨(f2 58 rfl).1, fun f hf j => (f2 f (by rcases hf with rfl | rfl | rfl | rfl | rfl <;> rfl)).2.2.1 j⟩ (by omega) (by rw [hM2]; rfl) ⟨by rw [hM2]; rfl, by rw [hM2]; rfl⟩
      obtain ⟨EF2, hva2, h542⟩ := EF1.ty (M' := M2) (σ' := σ2) ⟨by omega, by omega⟩ (by omega) hk1 hM2 f2 (by decide) (Or.inr ⟨w, hx, hw1, hw2, by rw [hσ2, tB_tsB, ifT ⟨rfl, rfl⟩, hy, wcs2]⟩)
      have h02 : ¬ mI M2 2002 (mn M0) = 12 := by
        obtain ⟨L, W, h1280⟩ := P.wb
        rw [hM2, mI_msI, ifT ⟨rfl, rfl⟩, hx, show (12 : Int32) = nI 12 from rfl, bI_eq (by omega) (by decide)]; omega
      have hK2 : tI σ2 65 = nI K ∧ 1 ≤ K ∧ K + (ct C - (i + 1)) ≤ cX C := ⟨by rw [(f2 65 rfl).1, (fr1 65 rfl).1]; exact hK.1, hK.2.1, by omega⟩
      rw [a1, obS_inl, ifT hk1, nm_eq, ← hM2, a2, ob_some, ifT hin, nm_eq, hix, ← hσ2]
      exact el_s3 (x3 := 0) H0 EP2 EF2 hva2 (P2.wk (c' := c) (s' := s) (n' := n) (by omega) (by omega) (by omega)) hc hs hn (by omega) (Or.inr ⟨h02, rfl⟩) hK2
    · rw [a1, obS_inr, a2, ob_some]
      have fb := (fb.tr hEP.1).tr E
      exact ElG.ko fb (BW.itT hin (BW.nmB fb.bd rfl fun s hb => bw_110 hb he481 _ _)) _
end EL1
