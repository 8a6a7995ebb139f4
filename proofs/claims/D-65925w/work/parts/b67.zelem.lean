/-! Layer B: z_element -/
set_option maxRecDepth 100000
section ZELEM
variable {C : PC} {M M' M0 Mb : CM} {σ σ' σ0 σb s1 : TS} {i dep c s n so ib depb cb' sb' nb' i0 v l p w m Q Q' N k k0 el le e K fl sz cc E0 cur ce a : Nat} {bs qs bs' os es : List Nat}
theorem z_element (Pb : Pe C Mb σb ib depb cb' sb' nb') (hcl : cl C ≤ 1280) (E : Es Mb σb M σ) (X0 : ClX C Mb M σ cur ce cc E0 es) (h20 : es.length < 20) (P : Pe C M σ i dep c s n) (hc : 96 ≤ c) (hs : 9000 ≤ s) (hn : 20 ≤ n) (hK : tI σ 65 = nI K ∧ 1 ≤ K ∧ K + (ct C - i) ≤ cX C) : ElG C Mb σb M i dep (c - 8) (s - 100) n cur ce cc E0 es (K_X2_element M) (F_element (nI cc) σ) := by
  obtain ⟨e, he⟩ : ∃ e, E0 + es.length = e := ⟨_, rfl⟩
  have h67 := P.n167
  have H0 : ElC C Mb σb M σ ib depb cb' sb' nb' e cur ce cc E0 i es := ⟨Pb, hcl, E, X0, he, h20, h67, dep, c, s, n, P⟩
  obtain ⟨he481, hcc⟩ := H0.e481
  have hin : inb (nI e) 481 := inb_nI' he481 (by decide)
  have hix : ix (nI e) = e := ix_nI (by omega)
  have hinc : inb (nI cc) 24 := inb_nI' hcc (by decide)
  have hixc : ix (nI cc) = cc := ix_nI (by omega)
  have hcap := P.2.2.2.1
  have t1280 := P.t1280
  have hcx := cX_le C
  obtain ⟨⟨x1, ⟨x2, x2'⟩, x3, x4, x5⟩, x6, x7, ⟨x8, x9, x10, x11, x12, x13⟩, x14⟩ := X0
  obtain ⟨σ1, hσ1⟩ : ∃ σ1, σ1 = tsA (tsA (tsA (tsA (tsA σ 52 e 0) 53 e 0) 54 e 0) 55 e 0) 56 e 0 := ⟨_, rfl⟩
  have f1 : Ft [52, 53, 54, 55, 56] σ σ1 := by rw [hσ1]; exact (((((Ft.rf _ _).p_tsA rfl).p_tsA rfl).p_tsA rfl).p_tsA rfl).p_tsA rfl
  have eo1 : Eo e σ σ1 := by rw [hσ1]; exact (((Eo.sA.tr Eo.sA).tr Eo.sA).tr Eo.sA).tr Eo.sA
  have z1 : ∀ f, f = 52 ∨ f = 53 ∨ f = 54 ∨ f = 55 ∨ f = 56 → tA σ1 f e = 0 := fun f hf => by
    rw [hσ1]
    rcases hf with rfl | rfl | rfl | rfl | rfl <;> simp [tA_tsA]
  obtain ⟨j1, j2, j3, j4, ⟨j5, j6, j7⟩, ⟨j8, j9, j10⟩, j11, j12, j13, j14⟩ := elM_ok M (by omega)
  have hT : F_element (nI cc) σ = ob (F_isWord 28561413961049203 σ1) fun r14 s13 => nm (tsA s13 57 e (nZ r14)) fun s18 => if tA s18 57 e = 0 then ob (F_component (nI cc) (nI e) s18) fun _ s21 => J_element_162 (nI cc) s21 else ob (F_next s18) fun _ s34 => ob (F_passName s34) fun r39 s38 => nm (tsB s38 51 e r39) fun s43 => nm (tsB s43 50 e 0) fun s45 => ob (F_modsOf s45) fun r47 s46 => nm (tsA s46 55 e r47) fun s51 => ob (F_pass 59 s51) fun _ s52 => J_element_162 (nI cc) s52 := by
    unfold F_element
    rw [ifT hinc, hixc, x10, ifF (show ¬ nI es.length = 20 from by rw [show (20 : Int32) = nI 20 from rfl, bI_eq (by omega) (by decide)]; omega), nm_eq, x11, he]
    simp only [ifT hin, hix, nm_eq]
    rw [hσ1]
  rw [hT]
  unfold K_X2_element
  rw [el_al M (fun v2 M5 => ob (K_X2_takeKey 4 M5) fun r10 M9 => if r10 = 0 then obS (KL_X2_element_53 FU v2 M9) (fun r191 M39 => some (r191, M39)) fun _ M39 => KJ_X2_element_136 v2 M39 else if mk M9 v2 = 11 then nm (msI M9 2000 v2 1) fun M193 => obS (K_X2_name M193) (fun w198 M194 => some (.inr w198, M194)) fun r195 M194 => if mk M194 v2 = 11 then nm (msI M194 2002 v2 r195) fun M200 => obS (K_X2_mods v2 M200) (fun w205 M201 => some (.inr w205, M201)) fun _ M201 => obS (K_X2_sign 59 M201) (fun w210 M206 => some (.inr w210, M206)) fun _ M206 => if mk M206 (mR M206 411 90) = 10 then if mk M206 (mR M206 1802 (mR M206 411 90)) = 22 then ob (K_J2_add (mR M206 1802 (mR M206 411 90)) v2 M206) fun _ M213 => some (.inl (), M213) else none else none else none else none) ⟨by omega, by omega⟩ h67]
  have P1 := (P.al j1 (c' := c - 3) (s' := s - 14) (by omega) (by omega)).tx f1 (by decide)
  have E1 : Es M σ (elM M) σ1 := (Es.al (σ := σ) j1 h67).tx f1 (by decide)
  have EP1 : EP e M σ (elM M) σ1 := ⟨E1, Mz.ft f1 (by decide), eo1, ⟨(f1 58 rfl).1, fun f hf j => (f1 f (by rcases hf with rfl | rfl | rfl | rfl | rfl <;> rfl)).2.2.1 j⟩, by omega, j4, j8, j9⟩
  have UN1 : UnR (elM M) σ1 (mn M + 1) e := ⟨j5, j6, fun _ => 8, fun k hk => ⟨by rw [j7]; exact (show (0 : Int32) = nI 8 - 8 from by decide), (show 1 ≤ 8 from by decide), (show 8 ≤ 15 from by decide)⟩, by rw [z1 54 (by decide), ifT ⟨rfl, rfl, rfl⟩]⟩
  have tM1 : tM σ1 = K := by unfold tM; rw [(f1 65 rfl).1, hK.1, ix_nI (by omega)]
  rcases y_key P1.px (j := 4) (x := 4) (c := 28561413961049203) rfl (by decide) (by decide) with ⟨q1, q2, hi, q4, q5⟩ | ⟨q1, q2, q3⟩
  · -- extends
    have htk : K_X2_takeKey 4 (elM M) = some (1, msI (elM M) 405 90 (nI (i + 1))) := by
      unfold K_X2_takeKey
      rw [q1, ob_some, ifF (show ¬ (1 : Int32) = 0 from by decide), nm_eq, P1.i5, nI_addL]
    obtain ⟨σ2, hσ2⟩ : ∃ σ2, σ2 = tsA σ1 57 e (nZ 1) := ⟨_, rfl⟩
    have f2 : Ft [57] σ1 σ2 := by rw [hσ2]; exact (Ft.rf _ _).p_tsA rfl
    have h57 : tA σ2 57 e = 1 := by rw [hσ2, tA_tsA, ifT ⟨rfl, rfl⟩]; rfl
    have EP2 : EP e M σ (elM M) σ2 := EP1.wr (E1.tx f2 (by decide)) (Mz.ft f2 (by decide)) (by rw [hσ2]; exact Eo.sA) ⟨(f2 58 rfl).1, fun f hf j => (f2 f (by rcases hf with rfl | rfl | rfl | rfl | rfl <;> rfl)).2.2.1 j⟩ (Nat.le_refl _) rfl ⟨rfl, rfl⟩
    obtain ⟨σ3, n3, P3, E3⟩ := z_step (P1.tx f2 (by decide)) hi
    have fr3 := fS_F_next _ _ _ n3
    have EP3 := EP2.st E3 (by omega) fr3 (by decide)
    rw [htk, ob_some, ifF (show ¬ (1 : Int32) = 0 from by decide), ifT (show mk (msI (elM M) 405 90 (nI (i + 1))) (mn M) = 11 from j4), nm_eq, q2, ob_some, nm_eq, ← hσ2, h57, ifF (show ¬ (1 : Int32) = 0 from by decide), n3, ob_some]
    obtain ⟨M4, hM4⟩ : ∃ M4, M4 = msI (msI (elM M) 405 90 (nI (i + 1))) 2000 (mn M) 1 := ⟨_, rfl⟩
    have F4 : Fz (fun o => o = mn M) (msI (elM M) 405 90 (nI (i + 1))) M4 := by rw [hM4]; exact Fz.rf.msI (fun _ => rfl)
    have n4 : mn M4 = mn M + 3 := by rw [hM4]; exact j2
    have s4 : ms M4 = ms M + 14 := by rw [hM4]; exact j3
    obtain ⟨P4, E4⟩ := P.re EP3.1 P3 F4 (fun o z => by omega) (c' := c - 3 + 16) (s' := s - 14 + 2048) (by rw [n4]; show mn M + 3 + _ ≤ mn (elM M) + _; omega) (by rw [s4]; show ms M + 14 + _ ≤ ms (elM M) + _; omega)
    have EP4 : EP e M σ M4 σ3 := EP3.wr E4 (Mz.rf _) Eo.rf ⟨rfl, fun _ _ _ => rfl⟩ (by rw [n4]; show mn (elM M) ≤ _; omega) (by rw [hM4]; rfl) ⟨by rw [hM4]; rfl, by rw [hM4]; rfl⟩
    rw [← hM4]
    have i4 : ∀ g, g ≠ 2000 → mI M4 g (mn M) = mI (elM M) g (mn M) := fun g hg => by rw [hM4, mI_msI, ifF (fun z => hg z.1), mI_msI, ifF (by omega)]
    rcases z_name P4 (by omega) (by omega) with ⟨x, y, σ5, a1, a2, P5, E5, hi5, ⟨w, hx, hw1, hw2, hy⟩, n5⟩ | ⟨w', M5, y, σ5, a1, a2, fb⟩
    · have fr5 := fS_F_next _ _ _ n5
      have EP5 := EP4.st E5 (by omega) fr5 (by decide)
      obtain ⟨M6, hM6⟩ : ∃ M6, M6 = msI (msI M4 405 90 (nI (i + 1 + 1))) 2002 (mn M) x := ⟨_, rfl⟩
      obtain ⟨σ6, hσ6⟩ : ∃ σ6, σ6 = tsB (tsB σ5 51 e y) 50 e 0 := ⟨_, rfl⟩
      have f6 : Ft [51, 50] σ5 σ6 := by rw [hσ6]; exact ((Ft.rf _ _).p_tsB rfl).p_tsB rfl
      have F6 : Fz (fun o => o = mn M) (msI M4 405 90 (nI (i + 1 + 1))) M6 := by rw [hM6]; exact Fz.rf.msI (fun _ => rfl)
      have n6 : mn M6 = mn M + 3 := by rw [hM6]; exact n4
      have s6 : ms M6 = ms M + 14 := by rw [hM6]; exact s4
      have hk5 : mk (msI M4 405 90 (nI (i + 1 + 1))) (mn M) = 11 := EP5.2.2.2.2.2.1
      obtain ⟨P6, E6⟩ := P.re (EP5.1.tx f6 (by decide)) (P5.tx f6 (by decide)) F6 (fun o z => by omega) (c' := c) (s' := s) (by rw [n6]; show mn M + 3 + _ ≤ mn M4 + _; omega) (by rw [s6]; show ms M + 14 + _ ≤ ms M4 + _; omega)
      have EP6 : EP e M σ M6 σ6 := EP5.wr E6 (Mz.ft f6 (by decide)) (by rw [hσ6]; exact Eo.sB.tr Eo.sB) ⟨(f6 58 rfl).1, fun f hf j => (f6 f (by rcases hf with rfl | rfl | rfl | rfl | rfl <;> rfl)).2.2.1 j⟩ (by rw [n6]; show mn M4 ≤ _; omega) (by rw [hM6]; rfl) ⟨by rw [hM6]; rfl, by rw [hM6]; rfl⟩
      rw [a1, obS_inl, ifT hk5, nm_eq, ← hM6, a2, ob_some, nm_eq, nm_eq, ← hσ6]
      have sv5 : So M4 (msI M4 405 90 (nI (i + 1 + 1))) (mn M) := E5.1.so (by omega) (by omega)
      have F46 : Fz (fun o => o = 90 ∨ o = mn M) (elM M) M6 := by
        rw [hM6, hM4]
        exact (((Fz.rf.msI (fun _ => Or.inl rfl)).msI (fun _ => Or.inr rfl)).msI (fun _ => Or.inl rfl)).msI (fun _ => Or.inr rfl)
      have hL6 : LsB M M6 (mn M + 2) [] := j13.kp F46 (by omega) (by rw [j14]; omega)
      have hK6 : tI σ6 65 = nI K ∧ 1 ≤ K ∧ K + (ct C - (i + 1 + 1)) ≤ cX C := ⟨by rw [(f6 65 rfl).1, (fr5 65 rfl).1, (fr3 65 rfl).1, (f2 65 rfl).1, (f1 65 rfl).1]; exact hK.1, hK.2.1, by omega⟩
      rcases z_mods P hcl E6 (P6.wk (n' := n) (Nat.le_refl _) (Nat.le_refl _) (by omega)) (by omega) (by omega) hn ⟨Nat.le_refl _, by omega⟩ EP6.2.2.2.2.2.1 EP6.2.2.2.2.2.2.2 (by omega) hL6 hK6 with ⟨M7, σ7, i7, os, r1, r2, P7, r4, E7, L7, r7, r8, F7, m7, r11, r12⟩ | ⟨w', M7, y', σ7, r1, r2, fb⟩
      · have fm := fS_F_modsOf _ _ _ r2
        obtain ⟨σ8, hσ8⟩ : ∃ σ8, σ8 = tsA σ7 55 e (if os.length = 0 then 0 else nI K) := ⟨_, rfl⟩
        have f8 : Ft [55] σ7 σ8 := by rw [hσ8]; exact (Ft.rf _ _).p_tsA rfl
        rw [r1, obS_inl, r2, ob_some, nm_eq, ← hσ8]
        have hav : mR M6 4201 (mn M + 2) = 4398046511104 := by rw [(F46.so (by omega) (by omega)).r]; exact j14
        have hc7 := P7.2.2.2.1
        have sv7 : So M6 M7 (mn M) := F7.so (by omega) (by rw [hav]; omega)
        have su7 : So M6 M7 (mn M + 1) := F7.so (by omega) (by rw [hav]; omega)
        have n67 := F7.1
        have P8 := P7.tx f8 (by decide)
        have EP8 : EP e M σ M7 σ8 := EP6.wr (E7.tx f8 (by decide)) (m7.tr (Mz.ft f8 (by decide))) ((Eo.ft fm (by decide)).tr (by rw [hσ8]; exact Eo.sA)) ⟨by rw [(f8 58 rfl).1, (fm 58 rfl).1], fun f hf j => by rw [(f8 f (by rcases hf with rfl | rfl | rfl | rfl | rfl <;> rfl)).2.2.1, (fm f (by rcases hf with rfl | rfl | rfl | rfl | rfl <;> rfl)).2.2.1]⟩ n67 sv7.k ⟨sv7.r _, sv7.r _⟩
        rcases z_pass P8 (by omega) (by omega) (x := 59) (by decide) with ⟨_, _, σ9, b1, b2, P9, E9, hi9, _, n9⟩ | ⟨w', M9, y', σ9, b1, b2, fb⟩
        · have fr9 := fS_F_next _ _ _ n9
          have EP9 := EP8.st E9 (by omega) fr9 (by decide)
          rw [b1, obS_inl, b2, ob_some]
          have sv9 : So M7 (msI M7 405 90 (nI (i7 + 1))) (mn M) := E9.1.so (by omega) (by omega)
          have nm9 : mn (msI M7 405 90 (nI (i7 + 1))) = mn M7 := rfl
          have hL7 := L7.2.1
          have hal7 : mR M7 4201 (mn M + 2) ≠ 90 := fun z => by
            have := L7.2.2.2 (by rw [z]; decide)
            omega
          have L9 := L7.kp E9.1 (by omega) hal7
          have sl9 : So M7 (msI M7 405 90 (nI (i7 + 1))) (mn M + 2) := E9.1.so hL7.2 (by omega)
          have wcs9 : ∀ w, wc (msI M7 405 90 (nI (i7 + 1))) w = wc M w := fun w => H0.wcs EP9.1 w
          have tb : ∀ f, f = 50 ∨ f = 51 → tB σ9 f e = tB σ6 f e := fun f hf => by
            rw [(fr9 f (by rcases hf with rfl | rfl <;> rfl)).2.2.2, (f8 f (by rcases hf with rfl | rfl <;> rfl)).2.2.2, (fm f (by rcases hf with rfl | rfl <;> rfl)).2.2.2]
          have hE : ElR C (fun o => mn M ≤ o ∧ o < mn (msI M7 405 90 (nI (i7 + 1)))) (msI M7 405 90 (nI (i7 + 1))) σ9 (mn M) e := by
            refine ⟨⟨⟨Nat.le_refl _, by omega⟩, EP9.2.2.2.2.2.1, by rw [EP9.2.2.2.2.2.2.1]; exact ⟨by omega, by omega⟩⟩, ?_, Or.inl ⟨?_, ?_, ⟨w, ?_, hw1, hw2, ?_⟩, ?_⟩⟩
            · rw [EP9.2.2.2.2.2.2.2]
              refine ⟨os, K, ⟨L9.1, ⟨by omega, L9.2.1.2⟩, fun z => ⟨L9.2.2.2 z, ?_⟩⟩, ⟨hK.2.1, ?_, by have := P7.it; have := P7.t1280; omega⟩, ?_, fun j hj => ?_⟩
              · rcases L9.1.2.2.2.2 with ⟨q, _⟩ | ⟨q, _⟩
                · exact absurd q z
                · exact q.1
              · rw [(fr9 65 rfl).1, (f8 65 rfl).1, r11, ix_nI (by omega)]; exact Nat.le_refl _
              · rw [(fr9 55 rfl).2.2.1, hσ8, tA_tsA, ifT ⟨rfl, rfl⟩]
              · obtain ⟨⟨P2, b1, b2⟩, b3⟩ := r8 j hj
                refine ⟨b2.mv P.nf12 E9.1 (fun o z => ⟨fun hp => ?_, ?_⟩) (fun o ho => (b1 o ho).1.2) (fun o ho => ⟨(b1 o ho).1.1, by have := (b1 o ho).1.2; omega⟩) (fun _ => rfl) ((Tz.tx f8 (by decide)).tr E9.2.2.2.1) (fun j => by rw [(fr9 42 rfl).2.2.1, (f8 42 rfl).2.2.1]) (fun f hf => ?_) (fun f hf => ?_), ?_⟩
                · have := (b1 o hp).1.1; omega
                · rw [z, P8.en.1]; decide
                · rw [(fr9 f (by rcases hf with rfl | rfl | rfl <;> rfl)).2.2.1, (f8 f (by rcases hf with rfl | rfl | rfl <;> rfl)).2.2.1]
                · rw [(fr9 f (by rcases hf with rfl | rfl <;> rfl)).2.2.2, (f8 f (by rcases hf with rfl | rfl <;> rfl)).2.2.2]
                · rw [(fr9 61 rfl).2.2.1, (f8 61 rfl).2.2.1]; exact b3
            · rw [sv9.i, sv7.i, hM6, mI_msI, ifF (by omega), sv5.i, hM4, mI_msI, ifT ⟨rfl, rfl⟩]
            · rw [(fr9 57 rfl).2.2.1, (f8 57 rfl).2.2.1, (fm 57 rfl).2.2.1, (f6 57 rfl).2.2.1, (fr5 57 rfl).2.2.1, (fr3 57 rfl).2.2.1]; exact h57
            · rw [sv9.i, sv7.i, hM6, mI_msI, ifT ⟨rfl, rfl⟩]; exact hx
            · rw [tb 51 (by decide), hσ6, tB_tsB, ifF (by omega), tB_tsB, ifT ⟨rfl, rfl⟩, hy, wcs9, H0.wcs EP4.1]
            · rw [sv9.i, sv7.i, hM6, mI_msI, ifF (by omega), sv5.i, i4 2003 (by decide)]; exact j12
          obtain ⟨M', σ', g1, g2, g3, g4, g5, g6, g7⟩ := el_fin (e := e) Pb E ⟨⟨x1, ⟨x2, x2'⟩, x3, x4, x5⟩, x6, x7, ⟨x8, x9, x10, x11, x12, x13⟩, x14⟩ he h20 h67 P9 (by omega) (by omega) EP9 (fun o ho => ho) hE
          rw [g1, g2]
          have fJ : Ft [46, 58] σ9 σ' := (fS_J_element_162 _ _ _ _ g2).mono (by decide)
          exact Or.inl ⟨M', σ', i7 + 1, mn M, rfl, rfl, g3.wk (by omega) (by omega) (by omega), by omega, g4, g5, g6, g7, K + os.length, by rw [(fJ 65 rfl).1, (fr9 65 rfl).1, (f8 65 rfl).1]; exact r11, by omega, by omega⟩
        · rw [b1, obS_inr, b2, ob_some]
          have fb := (fb.tr EP8.1).tr E
          exact Or.inr (FB.ko fb (bw_162 fb.bd _))
      · rw [r1, obS_inr, r2, ob_some]
        have fb := fb.tr E
        exact Or.inr (FB.ko fb (BW.nmA fb.bd rfl fun s hb => BW.bo (bw_pass hb _) fun _ s hb => bw_162 hb _))
    · rw [a1, obS_inr, a2, ob_some]
      have fb := (fb.tr EP4.1).tr E
      exact Or.inr (FB.ko fb (BW.nmB fb.bd rfl fun s hb => BW.nmB hb rfl fun s hb => BW.bo (bw_modsOf hb) fun r s hb => BW.nmA hb rfl fun s hb => BW.bo (bw_pass hb _) fun _ s hb => bw_162 hb _))
  · -- a component
    have htk : K_X2_takeKey 4 (elM M) = some (0, elM M) := by
      unfold K_X2_takeKey
      rw [q1, ob_some, ifT (rfl : (0 : Int32) = 0)]
    obtain ⟨σ2, hσ2⟩ : ∃ σ2, σ2 = tsA σ1 57 e (nZ 0) := ⟨_, rfl⟩
    have f2 : Ft [57] σ1 σ2 := by rw [hσ2]; exact (Ft.rf _ _).p_tsA rfl
    have h57 : tA σ2 57 e = 0 := by rw [hσ2, tA_tsA, ifT ⟨rfl, rfl⟩]; rfl
    have EP2 : EP e M σ (elM M) σ2 := EP1.wr (E1.tx f2 (by decide)) (Mz.ft f2 (by decide)) (by rw [hσ2]; exact Eo.sA) ⟨(f2 58 rfl).1, fun f hf j => (f2 f (by rcases hf with rfl | rfl | rfl | rfl | rfl <;> rfl)).2.2.1 j⟩ (Nat.le_refl _) rfl ⟨rfl, rfl⟩
    have P2 := P1.tx f2 (by decide)
    rw [htk, ob_some, ifT (rfl : (0 : Int32) = 0), q2, ob_some, nm_eq, ← hσ2, h57, ifT (rfl : (0 : Int32) = 0)]
    unfold F_component
    have z2 : ∀ f, f = 52 ∨ f = 53 ∨ f = 54 ∨ f = 55 ∨ f = 56 → tA σ2 f e = 0 := fun f hf => by
      rw [(f2 f (by rcases hf with rfl | rfl | rfl | rfl | rfl <;> rfl)).2.2.1]; exact z1 f hf
    rcases prefixes (v := mn M) (x1 := nI cc) P he481 2001 (elM M) σ2 i FU FU 0 (by have := P.it; omega) (by have := FUb; omega) (by have := FUb; omega) EP2.1 P2 (by omega) (by omega) ⟨Nat.le_refl _, by omega⟩ j4 (by decide) (by rw [j11 2001 (by decide)]; rfl) (by rw [z2 52 (by decide)]; rfl) with ⟨M3, σ3, i3, fl, r1, r2, P3, r4, E3, r6, r7, r8, F3, r10, r11, S3⟩ | ⟨w', M3, y, σ3, r1, r2, fb⟩
    · have r2 : L_component_0 FU (nI cc) (nI e) σ2 = some (.inl (), σ3) := r2
      rw [r1, obS_inl, r2, obS_inl]
      have n3 := F3.1
      have k3 := F3.2.1 (mn M) (by omega)
      have su3 : So (elM M) M3 (mn M + 1) := F3.so (by omega) (by omega)
      have eo3 : Eo e σ2 σ3 := by
        refine ⟨fun f hf j hj => ?_, fun f hf j _ => (S3.1 f (by rcases hf with rfl | rfl <;> rfl)).2.2.2 j⟩
        by_cases z : f = 52
        · subst z
          exact S3.2 j hj
        · exact (S3.1 f (by rcases hf with rfl | rfl | rfl | rfl | rfl | rfl <;> first | rfl | exact absurd rfl z)).2.2.1 j
      have EP3 : EP e M σ M3 σ3 := EP2.wr E3 (Mz.ft S3.1 (by decide)) eo3 ⟨(S3.1 58 rfl).1, fun f hf j => (S3.1 f (by rcases hf with rfl | rfl | rfl | rfl | rfl <;> rfl)).2.2.1 j⟩ n3 k3.1 ⟨r10 _, r10 _⟩
      have EF3 : EF0 C M M3 σ3 e fl K := by
        refine ⟨⟨by rw [r11 2000 (by decide)]; exact j11 2000 (by decide), by rw [(S3.1 57 rfl).2.2.1]; exact h57⟩, ⟨r6, r7, r8⟩, ⟨⟨by rw [su3.k]; exact j5, by rw [su3.l]; exact j6, fun _ => 8, fun k hk => ⟨by rw [su3.a, j7]; exact (show (0 : Int32) = nI 8 - 8 from by decide), (show 1 ≤ 8 from by decide), (show 8 ≤ 15 from by decide)⟩, by rw [(S3.1 54 rfl).2.2.1, z2 54 (by decide), ifT ⟨rfl, rfl, rfl⟩]⟩, by rw [(S3.1 54 rfl).2.2.1]; exact z2 54 (by decide)⟩, ⟨by rw [r11 2004 (by decide)]; exact j11 2004 (by decide), by rw [(S3.1 53 rfl).2.2.1]; exact z2 53 (by decide)⟩, ⟨j13.kp F3 (by omega) (by rw [j14]; omega), by rw [(S3.1 55 rfl).2.2.1]; exact z2 55 (by decide), hK.2.1, ?_⟩, by rw [r10]; exact j10, by rw [(S3.1 56 rfl).2.2.1]; exact z2 56 (by decide)⟩
        have : tM σ3 = K := by unfold tM; rw [(S3.1 65 rfl).1, (f2 65 rfl).1, (f1 65 rfl).1, hK.1, ix_nI (by omega)]
        omega
      have hK3 : tI σ3 65 = nI K ∧ 1 ≤ K ∧ K + (ct C - i3) ≤ cX C := ⟨by rw [(S3.1 65 rfl).1, (f2 65 rfl).1, (f1 65 rfl).1]; exact hK.1, hK.2.1, by omega⟩
      exact el_s2 H0 EP3 EF3 (P3.wk (c' := c - 8) (s' := s - 100) (n' := n) (by omega) (by omega) (by omega)) (by omega) (by omega) (by omega) r4 hK3
    · have r2 : L_component_0 FU (nI cc) (nI e) σ2 = some (y, σ3) := r2
      rw [r1, obS_inr, r2]
      have fb := fb.tr E
      rcases y with y | y
      · rw [obS_inl]
        exact Or.inr (FB.ko fb (BW.bo (bw_52 fb.bd _ _) fun _ s hb => bw_162 hb _))
      · rw [obS_inr]
        exact Or.inr (FB.ko fb (BW.bo (BW.sm fb.bd) fun _ s hb => bw_162 hb _))
end ZELEM
