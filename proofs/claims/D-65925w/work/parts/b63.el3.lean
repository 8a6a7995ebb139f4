/-! Layer B: elements: name and size -/
set_option maxRecDepth 100000
section EL3
variable {C : PC} {M M' M0 Mb : CM} {σ σ' σ0 σb s1 : TS} {i dep c s n so ib depb cb' sb' nb' i0 v l p w m Q Q' N k k0 el le e K fl sz cc E0 cur ce : Nat} {bs qs bs' os es : List Nat}
/-- a size: one at least -/
theorem z_size (P : Pe C M σ i dep c s n) (h2 : 8 ≤ s) : (tI σ 11 = 2 ∧ ¬ 65536 ≤ tI σ 15 ∧ ∃ r p, (r = 1 ∨ r = 2) ∧ K_X2_number 1 9 M = some (.inr (mn M), wM M r p) ∧ F_cantStand σ = some ((), tsI (tsI σ 0 r) 1 p)) ∨ ((tI σ 11 = 2 → 65536 ≤ tI σ 15) ∧ K_X2_number 1 9 M = K_X2_number 0 9 M ∧ (tI σ 11 = 2 → ∃ x, tI σ 15 = nI x ∧ 65536 ≤ x)) := by
  obtain ⟨g1, g2⟩ := P.px.in1
  obtain ⟨r, p, hr, s1, s2⟩ := y_stop P.px (P.cap h2)
  rcases z_num P with ⟨n1, n2, n3, n4, x, n5, n6⟩ | ⟨n1, n2⟩
  · have e65 : (65536 : Int32) = nI 65536 := rfl
    by_cases hx : 65536 ≤ x
    · right
      refine ⟨fun _ => by rw [n5, e65, bI_le (by decide) (by omega)]; exact hx, ?_, fun _ => ⟨x, n5, hx⟩⟩
      unfold K_X2_number
      rw [g2, n4, n5, e65, nI_div (by omega) (by decide), ifF (show ¬ nI (x / 65536) < 1 from by rw [show (1 : Int32) = nI 1 from rfl, bI_lt (by omega) (by decide)]; omega), ifF (show ¬ nI (x / 65536) < 0 from by rw [show (0 : Int32) = nI 0 from rfl, bI_lt (by omega) (by decide)]; omega)]
    · left
      refine ⟨n2, by rw [n5, e65, bI_le (by decide) (by omega)]; exact hx, r, p, hr, ?_, s2⟩
      unfold K_X2_number
      rw [ifT g1, g2, ifT n1, ifT g1]
      by_cases z : mA M 93 i = 0
      · rw [ifT z, s1, ob_some, ifT (wM_k M r p)]
      · rw [ifF z, ifT g1, n4, n5, e65, nI_div (by omega) (by decide), ifT (show nI (x / 65536) < 1 from by rw [show (1 : Int32) = nI 1 from rfl, bI_lt (by omega) (by decide)]; omega), s1, ob_some, ifT (wM_k M r p)]
  · right
    refine ⟨fun z => absurd z n2, ?_, fun z => absurd z n2⟩
    unfold K_X2_number
    simp only [ifT g1, g2, ifF n1]
theorem el_s3 {x3 : Int32} (H : ElC C Mb σb M0 σ0 ib depb cb' sb' nb' e cur ce cc E0 i0 es) (hEP : EP e M0 σ0 M σ) (hEF : EF C M0 M σ e fl 0 [] K) (hVa : mR M 2007 (mn M0) = 0 ∧ tA σ 56 e = 0) (P : Pe C M σ i dep c s n) (hc : 80 ≤ c) (hs : 8000 ≤ s) (hn : 20 ≤ n) (hi0 : i0 ≤ i) (hre : (mI M 2002 (mn M0) = 12 ∧ ¬ x3 = 0) ∨ (¬ mI M 2002 (mn M0) = 12 ∧ x3 = 0)) (hK : tI σ 65 = nI K ∧ 1 ≤ K ∧ K + (ct C - i) ≤ cX C) : ElG C Mb σb M0 i0 dep c s n cur ce cc E0 es (KJ_X2_element_234 (mn M0) M) (ob (J_component_110 (nI cc) (nI e) x3 σ) fun _ s => J_element_162 (nI cc) s) := by
  have H0 := H
  obtain ⟨Pb, hcl, E, X0, he, h20, h67, d0, c0, s0, n0, P0⟩ := H
  obtain ⟨he481, hcc⟩ := H0.e481
  have hin : inb (nI e) 481 := inb_nI' he481 (by decide)
  have hix : ix (nI e) = e := ix_nI (by omega)
  have hm0 := hEP.2.2.2.2.1
  have k90 : mk M 90 ≠ 23 := by rw [P.en.1]; decide
  obtain ⟨g1, g2⟩ := P.px.in1
  unfold KJ_X2_element_234 J_component_110
  rw [ifT g1, nm_eq, g2, nm_eq, P.at12]
  rcases z_name P (by omega) (by omega) with ⟨x, y, σ1, a1, a2, P1, E1, hi1, ⟨w, hx, hw1, hw2, hy⟩, n1⟩ | ⟨w', M1, y, σ1, a1, a2, fb⟩
  · have fr1 := fS_F_next _ _ _ n1
    have EP1 := hEP.st E1 (by omega) fr1 (by decide)
    have EF1 := hEF.st P.nf12 hm0 (by omega) k90 E1 (fun w => rfl) fr1 (by decide)
    have sv : So M (msI M 405 90 (nI (i + 1))) (mn M0) := E1.1.so (by omega) (by omega)
    obtain ⟨M2, hM2⟩ : ∃ M2, M2 = msI (msI M 405 90 (nI (i + 1))) 2003 (mn M0) x := ⟨_, rfl⟩
    obtain ⟨σ2, hσ2⟩ : ∃ σ2, σ2 = tsB σ1 50 e y := ⟨_, rfl⟩
    have f2 : Ft [50] σ1 σ2 := by rw [hσ2]; exact (Ft.rf _ _).p_tsB rfl
    have F2 : Fz (fun o => o = mn M0) (msI M 405 90 (nI (i + 1))) M2 := by rw [hM2]; exact Fz.rf.msI (fun _ => rfl)
    have nm1 : mn (msI M 405 90 (nI (i + 1))) = mn M := rfl
    have n2 : mn M2 = mn M := by rw [hM2]; rfl
    have s2 : ms M2 = ms M := by rw [hM2]; rfl
    have hk1 : mk (msI M 405 90 (nI (i + 1))) (mn M0) = 11 := EP1.2.2.2.2.2.1
    obtain ⟨P2, E2⟩ := P0.re (EP1.1.tx f2 (by decide)) (P1.tx f2 (by decide)) F2 (fun o z => by omega) (c' := c + 16) (s' := s + 2048) (by rw [n2]; show mn M + _ ≤ mn M + _; omega) (by rw [s2]; show ms M + _ ≤ ms M + _; omega)
    rw [a1, obS_inl, ifT hk1, nm_eq, ← hM2, a2, ob_some, ifT hin, nm_eq, hix, ← hσ2]
    have hcap := P.2.2.2.1
    have wcs2 : ∀ w, wc M2 w = wc (msI M 405 90 (nI (i + 1))) w := fun w => by rw [H0.wcs E2, H0.wcs EP1.1]
    have EP2 : EP e M0 σ0 M2 σ2 := EP1.wr E2 (Mz.ft f2 (by decide)) (by rw [hσ2]; exact Eo.sB) ⟨(f2 58 rfl).1, fun f hf j => (f2 f (by rcases hf with rfl | rfl | rfl | rfl | rfl <;> rfl)).2.2.1 j⟩ (by omega) (by rw [hM2]; rfl) ⟨by rw [hM2]; rfl, by rw [hM2]; rfl⟩
    have iv2 : ∀ g, g ≠ 2003 → mI M2 g (mn M0) = mI M g (mn M0) := fun g hg => by rw [hM2, mI_msI, ifF (fun z => hg z.1), sv.i]
    have EF2 : EF C M0 M2 σ2 e fl 0 [] K := EF1.wr P.nf12 ⟨by omega, by omega⟩ (by omega) hk1 (F2.mono (fun o _ z => Or.inr z)) k90 (fun g hg => by rw [hM2, mI_msI, ifF (by omega)]) ⟨by rw [iv2 2004 (by decide)]; exact hEF.2.2.2.2.1.1, by rw [(f2 53 rfl).2.2.1]; exact EF1.2.2.2.2.1.2.1, by decide⟩ wcs2 (Tz.tx f2 (by decide)) (Mz.ft f2 (by decide)) (fun j => (f2 42 rfl).2.2.1 j) (fun f hf => (f2 f (by rcases hf with rfl | rfl | rfl | rfl <;> rfl)).2.2.1 _) (by rw [(f2 51 rfl).2.2.2])
    have hva2 : mR M2 2007 (mn M0) = 0 ∧ tA σ2 56 e = 0 := ⟨by rw [hM2]; exact hVa.1, by rw [(f2 56 rfl).2.2.1, (fr1 56 rfl).2.2.1]; exact hVa.2⟩
    have hre2 : (mI M2 2002 (mn M0) = 12 ∧ ¬ x3 = 0) ∨ (¬ mI M2 2002 (mn M0) = 12 ∧ x3 = 0) := by rw [iv2 2002 (by decide)]; exact hre
    have hw2' : mI M2 2003 (mn M0) = nI w ∧ 38 ≤ w ∧ w < 38 + cm C ∧ tB σ2 50 e = wc M2 w := ⟨by rw [hM2, mI_msI, ifT ⟨rfl, rfl⟩]; exact hx, hw1, hw2, by rw [hσ2, tB_tsB, ifT ⟨rfl, rfl⟩, hy, wcs2]; rfl⟩
    have hK2 : tI σ2 65 = nI K ∧ 1 ≤ K ∧ K + (ct C - (i + 1)) ≤ cX C := ⟨by rw [(f2 65 rfl).1, (fr1 65 rfl).1]; exact hK.1, hK.2.1, by omega⟩
    rw [t_isBad0 P2.g0, ob_some, ifT (rfl : (0 : Int32) = 0)]
    rcases z_take P2 (x := 91) (by decide) with ⟨σ3, u1, u2, u3, P3, E3, u6⟩ | ⟨u1, u2⟩
    · have fr3 := fS_F_next _ _ _ u3
      have k90' : mk M2 90 ≠ 23 := by rw [P2.en.1]; decide
      have EP3 := EP2.st E3 (by omega) fr3 (by decide)
      have EF3 := EF2.st P.nf12 (by omega) (by omega) k90' E3 (fun w => rfl) fr3 (by decide)
      rw [u1, ob_some, ifF (show ¬ (1 : Int32) = 0 from by decide), u2, ob_some, ifF (show ¬ (1 : Int32) = 0 from by decide), u3, ob_some]
      rcases z_size P3 (by omega) with ⟨q1, q2, r, p, hr, q3, q4⟩ | ⟨q1, q2, q3⟩
      · rw [q3, obS_inr, ifT q1, ifF q2, q4, ob_some]
        have fb := ((P3.fb (by omega) (by omega) (r := r) (q := p) (by rcases hr with rfl | rfl <;> decide)).tr EP3.1).tr E
        exact ElG.ko fb (bw_169 fb.bd he481 _ _ _) _
      · have hT : (if tI σ3 11 = 2 then if 65536 ≤ tI σ3 15 then J_component_169 (nI cc) (nI e) x3 (mA M 94 i) σ3 else ob (F_cantStand σ3) fun _ s164 => J_component_169 (nI cc) (nI e) x3 (mA M 94 i) s164 else J_component_169 (nI cc) (nI e) x3 (mA M 94 i) σ3) = J_component_169 (nI cc) (nI e) x3 (mA M 94 i) σ3 := by
          by_cases z : tI σ3 11 = 2
          · rw [ifT z, ifT (q1 z)]
          · rw [ifF z]
        rw [hT, q2]
        unfold J_component_169
        rcases z_number P3 (by omega) (by omega) (x2 := 9) (hi := 9) rfl (by decide) with ⟨x', y', σ4, b1, b2, P4, E4, hi4, ⟨z, hz, hz', hz9⟩, n4⟩ | ⟨w', M4, y', σ4, b1, b2, fb⟩
        · have fr4 := fS_F_next _ _ _ n4
          have k90'' : mk (msI M2 405 90 (nI (i + 1 + 1))) 90 ≠ 23 := k90'
          have nm3 : mn (msI M2 405 90 (nI (i + 1 + 1))) = mn M2 := rfl
          have EP4 := EP3.st E4 (by omega) fr4 (by decide)
          have EF4 := EF3.st P.nf12 (by omega) (by omega) k90'' E4 (fun w => rfl) fr4 (by decide)
          obtain ⟨M5, hM5⟩ : ∃ M5, M5 = msI (msI (msI M2 405 90 (nI (i + 1 + 1))) 405 90 (nI (i + 1 + 1 + 1))) 2004 (mn M0) x' := ⟨_, rfl⟩
          obtain ⟨σ5, hσ5⟩ : ∃ σ5, σ5 = tsA σ4 53 e y' := ⟨_, rfl⟩
          have f5 : Ft [53] σ4 σ5 := by rw [hσ5]; exact (Ft.rf _ _).p_tsA rfl
          have F5 : Fz (fun o => o = mn M0) (msI (msI M2 405 90 (nI (i + 1 + 1))) 405 90 (nI (i + 1 + 1 + 1))) M5 := by rw [hM5]; exact Fz.rf.msI (fun _ => rfl)
          have nm4 : mn (msI (msI M2 405 90 (nI (i + 1 + 1))) 405 90 (nI (i + 1 + 1 + 1))) = mn M2 := rfl
          have n5 : mn M5 = mn M2 := by rw [hM5]; rfl
          have s5 : ms M5 = ms M2 := by rw [hM5]; rfl
          have hk4 : mk (msI (msI M2 405 90 (nI (i + 1 + 1))) 405 90 (nI (i + 1 + 1 + 1))) (mn M0) = 11 := EP4.2.2.2.2.2.1
          obtain ⟨P5, E5⟩ := P0.re (EP4.1.tx f5 (by decide)) (P4.tx f5 (by decide)) F5 (fun o z => by omega) (c' := c + 16) (s' := s + 2048) (by rw [n5]; show mn M2 + _ ≤ mn M2 + _; omega) (by rw [s5]; show ms M2 + _ ≤ ms M2 + _; omega)
          rw [b1, obS_inl, ifT hk4, nm_eq, ← hM5, b2, ob_some, ifT hin, nm_eq, hix, ← hσ5]
          have sv5 : So M2 (msI (msI M2 405 90 (nI (i + 1 + 1))) 405 90 (nI (i + 1 + 1 + 1))) (mn M0) := (E3.tr E4).1.so (by omega) (by omega)
          have wcs5 : ∀ w, wc M5 w = wc (msI (msI M2 405 90 (nI (i + 1 + 1))) 405 90 (nI (i + 1 + 1 + 1))) w := fun w => by rw [H0.wcs E5, H0.wcs EP4.1]
          have EP5 : EP e M0 σ0 M5 σ5 := EP4.wr E5 (Mz.ft f5 (by decide)) (by rw [hσ5]; exact Eo.sA) ⟨(f5 58 rfl).1, fun f hf j => (f5 f (by rcases hf with rfl | rfl | rfl | rfl | rfl <;> rfl)).2.2.1 j⟩ (by omega) (by rw [hM5]; rfl) ⟨by rw [hM5]; rfl, by rw [hM5]; rfl⟩
          have EF5 : EF C M0 M5 σ5 e fl z [] K := EF4.wr P.nf12 ⟨by omega, by omega⟩ (by omega) hk4 (F5.mono (fun o _ z => Or.inr z)) k90'' (fun g hg => by rw [hM5, mI_msI, ifF (by omega)]) ⟨by rw [hM5, mI_msI, ifT ⟨rfl, rfl⟩]; exact hz, by rw [hσ5, tA_tsA, ifT ⟨rfl, rfl⟩]; exact hz', hz9⟩ wcs5 (Tz.tx f5 (by decide)) (Mz.ft f5 (by decide)) (fun j => (f5 42 rfl).2.2.1 j) (fun f hf => (f5 f (by rcases hf with rfl | rfl | rfl | rfl <;> rfl)).2.2.1 _) (by rw [(f5 51 rfl).2.2.2])
          have iv5 : ∀ g, g ≠ 2004 → mI M5 g (mn M0) = mI M2 g (mn M0) := fun g hg => by rw [hM5, mI_msI, ifF (fun z => hg z.1), sv5.i]
          rcases z_pass P5 (by omega) (by omega) (x := 93) (by decide) with ⟨_, _, σ6, d1, d2, P6, E6, hi6, _, n6⟩ | ⟨w', M6, y', σ6, d1, d2, fb⟩
          · have fr6 := fS_F_next _ _ _ n6
            have k905 : mk M5 90 ≠ 23 := by rw [P5.en.1]; decide
            have EP6 := EP5.st E6 (by omega) fr6 (by decide)
            have EF6 := EF5.st P.nf12 (by omega) (by omega) k905 E6 (fun w => rfl) fr6 (by decide)
            rw [d1, obS_inl, d2, ob_some]
            have sv6 : So M5 (msI M5 405 90 (nI (i + 1 + 1 + 1 + 1))) (mn M0) := E6.1.so (by omega) (by omega)
            have t26 : ∀ f, f = 56 → tA σ6 f e = tA σ2 f e := fun f hf => by subst hf; rw [(fr6 56 rfl).2.2.1, (f5 56 rfl).2.2.1, (fr4 56 rfl).2.2.1, (fr3 56 rfl).2.2.1]
            have r := el_s4 (x := mA M 94 i) (x3 := x3) (w := w) H0 EP6 EF6 ⟨by rw [sv6.r, hM5]; exact ((E3.tr E4).1.so (by omega) (by omega) : So M2 (msI (msI M2 405 90 (nI (i + 1 + 1))) 405 90 (nI (i + 1 + 1 + 1))) (mn M0)).r 2007 |>.trans hva2.1, by rw [t26 56 rfl]; exact hva2.2⟩ (P6.wk (c' := c) (s' := s) (n' := n) (by omega) (by omega) (by omega)) hc hs hn (by omega) (by rw [sv6.i, iv5 2002 (by decide)]; exact hre2) ⟨by rw [sv6.i, iv5 2003 (by decide)]; exact hw2'.1, hw1, hw2, by rw [(fr6 50 rfl).2.2.2, (f5 50 rfl).2.2.2, (fr4 50 rfl).2.2.2, (fr3 50 rfl).2.2.2, hw2'.2.2.2, H0.wcs EP6.1, H0.wcs E2]⟩ ⟨by rw [(fr6 65 rfl).1, (f5 65 rfl).1, (fr4 65 rfl).1, (fr3 65 rfl).1]; exact hK2.1, hK2.2.1, by have := hK2.2.2; omega⟩
            exact r
          · rw [d1, obS_inr, d2, ob_some]
            have fb := (fb.tr E5).tr E
            exact ElG.ko fb (bw_187 fb.bd he481 _ _ _) _
        · rw [b1, obS_inr, b2, ob_some]
          have fb := (fb.tr EP3.1).tr E
          exact ElG.ko fb (BW.itT hin (BW.nmA fb.bd rfl fun s hb => BW.bo (bw_pass hb _) fun _ s hb => bw_187 hb he481 _ _ _)) _
    · rw [u1, ob_some, ifT (rfl : (0 : Int32) = 0), u2, ob_some, ifT (rfl : (0 : Int32) = 0)]
      exact el_s4 (x := mA M 94 i) (x3 := x3) (w := w) H0 EP2 EF2 hva2 (P2.wk (c' := c) (s' := s) (n' := n) (by omega) (by omega) (by omega)) hc hs hn (by omega) hre2 hw2' hK2
  · rw [a1, obS_inr, a2, ob_some]
    have fb := (fb.tr hEP.1).tr E
    exact ElG.ko fb (BW.itT hin (BW.nmB fb.bd rfl fun s hb => BW.isBad hb (BW.sm hb))) _
end EL3
