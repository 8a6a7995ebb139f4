/-! Layer B: elements, step by step -/
set_option maxRecDepth 100000
/-- what reading an element owes -/
def ElG (C : PC) (Mb : CM) (σb : TS) (M0 : CM) (i dep c s n cur ce cc E0 : Nat) (es : List Nat) (o : Option ((Unit ⊕ Nat) × CM)) (p : Option (Unit × TS)) : Prop := (∃ M' σ' i' x, o = some (.inl (), M') ∧ p = some ((), σ') ∧ Pe C M' σ' i' dep (c + 8) (s + 100) n ∧ i < i' ∧ Es Mb σb M' σ' ∧ ClX C Mb M' σ' cur ce cc E0 (es ++ [x]) ∧ Fz (fun o => o = 90 ∨ o = ce ∨ o = mR M0 4201 ce) M0 M' ∧ (mR M' 4201 ce = mR M0 4201 ce ∨ mn M0 ≤ mR M' 4201 ce) ∧ ∃ K, tI σ' 65 = nI K ∧ 1 ≤ K ∧ K + (ct C - i') ≤ cX C) ∨ Ko C Mb σb o p
section ELS
variable {C : PC} {M M' M0 Mb : CM} {σ σ' σ0 σb s1 : TS} {i dep c s n so ib depb cb' sb' nb' i0 v l p w m Q Q' N k k0 el le e K fl sz cc E0 cur ce dep0 c0 s0 n0 : Nat} {bs qs bs' os es : List Nat} {P P' X : Nat → Prop} {α β : Type}
theorem bw_162 {s' : TS} (h : Br C σ s') (x : Int32) : BW C σ (J_element_162 x s') := BW.isBad h (BW.sm h)
theorem bw_239 {s' : TS} (h : Br C σ s') (a b c' d x : Int32) : BW C σ (J_component_239 a b c' d x s') := by
  unfold J_component_239
  exact BW.bo (bw_pass h _) fun _ s hb => BW.isBad hb (BW.sm hb)
theorem bw_217 {s' : TS} (h : Br C σ s') (a b c' d : Int32) : BW C σ (J_component_217 a b c' d s') := by
  unfold J_component_217 J_component_218
  rw [ifT rfl]; exact bw_239 h _ _ _ _ _
theorem bw_187 {s' : TS} (h : Br C σ s') (he : e < 481) (a c' d : Int32) : BW C σ (J_component_187 a (nI e) c' d s') := by
  have hin : inb (nI e) 481 := inb_nI' he (by decide)
  unfold J_component_187
  exact BW.bo (bw_modsOf h) fun r s hb => BW.itT hin (BW.nmA hb rfl fun s hb => BW.isBad hb (bw_217 hb _ _ _ _))
theorem bw_169 {s' : TS} (h : Br C σ s') (he : e < 481) (a c' d : Int32) : BW C σ (J_component_169 a (nI e) c' d s') := by
  have hin : inb (nI e) 481 := inb_nI' he (by decide)
  unfold J_component_169
  exact BW.bo (bw_passWhole h _) fun r s hb => BW.itT hin (BW.nmA hb rfl fun s hb => BW.bo (bw_pass hb _) fun _ s hb => bw_187 hb he _ _ _)
theorem bw_110 {s' : TS} (h : Br C σ s') (he : e < 481) (a c' : Int32) : BW C σ (J_component_110 a (nI e) c' s') := by
  have hin : inb (nI e) 481 := inb_nI' he (by decide)
  unfold J_component_110
  exact BW.nmV fun v => BW.bo (bw_passName h) fun r s hb => BW.itT hin (BW.nmB hb rfl fun s hb => BW.isBad hb (BW.sm hb))
theorem bw_52 {s' : TS} (h : Br C σ s') (a b : Int32) : BW C σ (J_component_52 a b s') := BW.isBad h (BW.sm h)
/-- K end, the fault: the twin goes on and ends the element -/
theorem ElG.ko {w : Nat} {o : Option (Unit × TS)} (fb : FB C Mb σb M' w σ') (h : BW C σ' o) (x : Int32) : ElG C Mb σb M0 i dep c s n cur ce cc E0 es (some (.inr w, M')) (ob o fun _ s => J_element_162 x s) := Or.inr (FB.ko fb (BW.bo h fun _ s hb => bw_162 hb x))
/-- what is carried along from the element's start -/
def ElC (C : PC) (Mb : CM) (σb : TS) (M0 : CM) (σ0 : TS) (ib depb cb' sb' nb' e cur ce cc E0 i0 : Nat) (es : List Nat) : Prop := Pe C Mb σb ib depb cb' sb' nb' ∧ cl C ≤ 1280 ∧ Es Mb σb M0 σ0 ∧ ClX C Mb M0 σ0 cur ce cc E0 es ∧ E0 + es.length = e ∧ es.length < 20 ∧ 167 ≤ mn M0 ∧ ∃ d0 c0 s0 n0, Pe C M0 σ0 i0 d0 c0 s0 n0
theorem ElC.e481 (h : ElC C Mb σb M0 σ0 ib depb cb' sb' nb' e cur ce cc E0 i0 es) : e < 481 ∧ cc < 24 := by
  obtain ⟨_, _, _, ⟨_, _, _, ⟨x8, _, _, _, _, x13⟩, _⟩, h5, h6, _⟩ := h
  omega
theorem ElC.wcs (h : ElC C Mb σb M0 σ0 ib depb cb' sb' nb' e cur ce cc E0 i0 es) {M5 : CM} {σ5 : TS} (E : Es M0 σ0 M5 σ5) (w : Nat) : wc M5 w = wc M0 w := by
  obtain ⟨_, _, _, _, _, _, _, _, _, _, _, P0⟩ := h
  exact P0.wcs E.1 (fun o z => by rw [z]; exact P0.en.1) w
theorem el_s5 {hm x3 x5 x : Int32} (H : ElC C Mb σb M0 σ0 ib depb cb' sb' nb' e cur ce cc E0 i0 es) (hEP : EP e M0 σ0 M σ) (hEF : EF C M0 M σ e fl sz os k0) (hVa : VaR C M0 M σ e x5) (P : Pe C M σ i dep c s n) (hc : 8 ≤ c) (hs : 16 ≤ s) (hi0 : i0 ≤ i) (hre : (mI M 2002 (mn M0) = 12 ∧ ¬ x3 = 0) ∨ (¬ mI M 2002 (mn M0) = 12 ∧ x3 = 0)) (hhm : (hm = 0 ∧ os.length = 0) ∨ (¬ hm = 0 ∧ ¬ os.length = 0)) (hw : mI M 2003 (mn M0) = nI w ∧ 38 ≤ w ∧ w < 38 + cm C ∧ tB σ 50 e = wc M w) (hK : tI σ 65 = nI K ∧ 1 ≤ K ∧ K + (ct C - i) ≤ cX C) : ElG C Mb σb M0 i0 dep c s n cur ce cc E0 es (KJ_X2_element_307 (mn M0) x hm M) (ob (J_component_239 (nI cc) (nI e) x3 x x5 σ) fun _ s => J_element_162 (nI cc) s) := by
  have H0 := H
  obtain ⟨Pb, hcl, E, X0, he, h20, h67, d0, c0, s0, n0, P0⟩ := H
  obtain ⟨he481, hcc⟩ := H0.e481
  have hb67 := Pb.n167
  unfold KJ_X2_element_307 J_component_239
  have hin : inb (nI e) 481 := inb_nI' he481 (by decide)
  have hix : ix (nI e) = e := ix_nI (by omega)
  have hinc : inb (nI cc) 24 := inb_nI' hcc (by decide)
  have hixc : ix (nI cc) = cc := ix_nI (by omega)
  rcases z_pass P (by omega) (by omega) (x := 59) (by decide) with ⟨_, _, σ1, a1, a2, P1, E1, hi1, _, n1⟩ | ⟨w', M1, y, σ1, a1, a2, fb⟩
  · have fr1 := fS_F_next _ _ _ n1
    have hm0 := hEP.2.2.2.2.1
    have k90 : mk M 90 ≠ 23 := by rw [P.en.1]; decide
    have EP1 := hEP.st E1 (by omega) fr1 (by decide)
    have EF1 := hEF.st P.nf12 hm0 (by omega) k90 E1 (fun w => rfl) fr1 (by decide)
    have VA1 := hVa.st P hm0 (by omega) E1 fr1 (by decide)
    have sv : So M (msI M 405 90 (nI (i + 1))) (mn M0) := E1.1.so (by omega) (by omega)
    obtain ⟨⟨x1, ⟨x2, x2'⟩, x3', x4, x5'⟩, x6, x7, ⟨x8, x9, x10, x11, x12, x13⟩, x14⟩ := X0
    obtain ⟨p1, p2, p3, ⟨p4, p5⟩, p6, p7, p8, p9⟩ := EP1
    obtain ⟨⟨a1', a2', ax⟩, ⟨a3, a4, a5⟩, a6, ⟨a7, a8, vv, a9, a10⟩, ⟨a11, a12, a13⟩, a14, a15, a16, a17, a18⟩ := EF1
    have hcurM : mR (msI M 405 90 (nI (i + 1))) 411 90 = cur := by rw [p1.2.1 411]; exact x1
    have sc : So M0 (msI M 405 90 (nI (i + 1))) cur := p1.1.so x2' (by omega)
    have slc : So M0 (msI M 405 90 (nI (i + 1))) ce := p1.1.so x7.2.1.2 (by have := x7.2.1.1; omega)
    have hal : mR M0 4201 ce ≠ 90 := fun z => by
      have := x7.2.2.2 (by rw [z]; decide)
      omega
    have hLc : LsB Mb (msI M 405 90 (nI (i + 1))) ce es := x7.kp p1.1 (by have := x7.2.1.1; omega) hal
    have hx2003 : mI (msI M 405 90 (nI (i + 1))) 2003 (mn M0) = nI w := by rw [sv.i]; exact hw.1
    have hx50 : tB σ1 50 e = wc (msI M 405 90 (nI (i + 1))) w := by rw [(fr1 50 rfl).2.2.2]; exact hw.2.2.2
    have t1280 := P.t1280
    have hcx := cX_le C
    have rt : RtX (msI M 405 90 (nI (i + 1))) σ1 (mn M0) cc e fl x3 x5 hm := by
      refine ⟨p7, by rw [hcurM, sc.k]; exact x3', ?_, ?_, ?_, ?_, ?_, ⟨a4, a5, a3⟩, hcc, he481⟩
      · rw [hcurM, sc.i, p5 44 (by decide)]; exact x6
      · rw [sv.i]; exact hre
      · rcases VA1 with ⟨q1, _, q2⟩ | ⟨q1, q2, _⟩
        · exact Or.inl ⟨q1, q2⟩
        · exact Or.inr ⟨q2, by rw [q1]; decide⟩
      · rw [a16]
        rcases hhm with ⟨q1, q2⟩ | ⟨q1, q2⟩
        · exact Or.inl ⟨q1, by rw [ifT q2]⟩
        · refine Or.inr ⟨q1, ?_⟩
          rw [ifF q2, show (0 : Int32) = nI 0 from rfl, bI_eq (by unfold tM at a18; rw [(fr1 65 rfl).1, hK.1, ix_nI (by omega)] at a18; omega) (by decide)]; omega
      · rw [a11, a12]
        by_cases z : sz = 0
        · subst z; exact Or.inl ⟨by decide, by decide⟩
        · refine Or.inr ⟨?_, ?_⟩
          · rw [show (0 : Int32) = nI 0 from rfl, bI_le (by omega) (by decide)]; omega
          · rw [show (0 : Int32) = nI 0 from rfl, bI_lt (by decide) (by omega)]; omega
    obtain ⟨r, hr, r1, r2, rx⟩ := rt_all (x4 := x) rt
    rw [a1, obS_inl, r1, ob_some, a2, ob_some, t_isBad0 P1.g0, ob_some, ifT (rfl : (0 : Int32) = 0), ifT hin, nm_eq, hix, a5, r2]
    rcases hr with rfl | rfl
    · -- it isn't right
      have cap := P1.cap (k := 8) (by omega)
      unfold J_component_406
      rw [ifT (rfl : (0 : Int32) = 0), k_wrong cap (by omega), ob_some, ifT (wM_k _ _ _), ifF (show ¬ (0 : Int32) = 1 from by decide), ifF (show ¬ (1 : Int32) = 0 from by decide), t_bad P1.g0, ob_some]
      have fb := ((P1.fb (by omega) (by omega) (r := 4) (q := x) (by decide)).tr p1).tr E
      exact Or.inr (FB.ko fb (BW.bo (BW.sm fb.bd) fun _ s hb => bw_162 hb _))
    · -- it is
      unfold J_component_406
      rw [ifF (show ¬ (1 : Int32) = 0 from by decide), ifT (rfl : (1 : Int32) = 1), ifT (rfl : (0 : Int32) = 0), ifT hinc, nm_eq, hixc, p5 45 (by decide), x9]
      have hN : ∀ j, j < es.length → mk (msI M 405 90 (nI (i + 1))) (es.getD j 0) = 11 ∧ ((∃ w', mI (msI M 405 90 (nI (i + 1))) 2003 (es.getD j 0) = nI w' ∧ 38 ≤ w' ∧ w' < 38 + cm C ∧ tB σ1 50 (E0 + j) = wc (msI M 405 90 (nI (i + 1))) w' ∧ tA σ1 57 (E0 + j) = 0) ∨ (mI (msI M 405 90 (nI (i + 1))) 2003 (es.getD j 0) = -1 ∧ tA σ1 57 (E0 + j) = 1)) := by
        intro j hj
        obtain ⟨P2, b1, ⟨b2, b3, _⟩, _, b4⟩ := x14 j hj
        have q := b1 _ b2
        have so : So M0 (msI M 405 90 (nI (i + 1))) (es.getD j 0) := p1.1.so q.1.2 (by omega)
        refine ⟨by rw [so.k]; exact b3, ?_⟩
        rw [so.i, p3.2 50 (by decide) _ (by omega), p3.1 57 (by decide) _ (by omega)]
        rcases b4 with ⟨_, d2, _, d3⟩ | ⟨_, d2, ⟨w', d3, d4, d5, d6⟩, _⟩
        · exact Or.inr ⟨d3, d2⟩
        · exact Or.inl ⟨w', d3, d4, d5, by rw [H0.wcs p1]; exact d6, d2⟩
      rcases el_dup (e := e) (E0 := E0) (ce := ce) (cur := cur) (w := w) (x := x) P1 (by omega) (by omega) ⟨hcurM, by rw [sc.k]; exact x3', by rw [sc.r]; exact x4⟩ hLc.1 p7 (by omega) ⟨he, he481⟩ ⟨hx2003, hw.2.1, hw.2.2.1, hx50⟩ P1.g0 hN es.length 0 FU FU (by omega) (by have := FUb; omega) (by have := FUb; omega) with ⟨d1, d2⟩ | ⟨w', M2, d1, σ2, d2, fb⟩
      · have d1 : KL_X2_element_331 FU (mn M0) x 0 (msI M 405 90 (nI (i + 1))) = some (.inl (), msI M 405 90 (nI (i + 1))) := d1
        have d2 : L_component_429 FU (nI e) x (nI E0) σ1 = some ((), σ1) := d2
        have kn : mn M0 + 3 ≤ mn (msI M 405 90 (nI (i + 1))) := p6
        rw [d1, obS_inl, d2, ob_some, ob_some]
        obtain ⟨M', σ', f1, f2, f3, f4, f5, f6, f7⟩ := el_fin (P := fun o => mn M0 ≤ o ∧ o < mn (msI M 405 90 (nI (i + 1)))) Pb E ⟨⟨x1, ⟨x2, x2'⟩, x3', x4, x5'⟩, x6, x7, ⟨x8, x9, x10, x11, x12, x13⟩, x14⟩ he h20 h67 P1 (by omega) (by omega) ⟨p1, p2, p3, ⟨p4, p5⟩, p6, p7, p8, p9⟩ (fun o ho => ho) ⟨⟨⟨Nat.le_refl _, by omega⟩, p7, by rw [p8]; exact ⟨by omega, by omega⟩⟩, by
          rw [p9]
          refine ⟨os, k0, ⟨a14.1, ⟨by omega, a14.2.1.2⟩, fun z => ⟨a14.2.2.2 z, ?_⟩⟩, ⟨a17, a18⟩, a16, fun j hj => ?_⟩
          · rcases a14.1.2.2.2.2 with ⟨q, _⟩ | ⟨q, _⟩
            · exact absurd q z
            · exact q.1
          · obtain ⟨⟨P2, b1, b2⟩, b3⟩ := a15 j hj
            exact ⟨b2.mv P1.nf12 (X := none_) Fz.rf (fun o z => absurd z (fun q => q)) (fun o ho => (b1 o ho).1.2) (fun o ho => (b1 o ho).1) (fun _ => rfl) (Tz.rf _) (fun _ => rfl) (fun _ _ => rfl) (fun _ _ => rfl), b3⟩, Or.inr ⟨a1', a2', ⟨w, hx2003, hw.2.1, hw.2.2.1, hx50⟩, ⟨sz, a11, a12, a13⟩, ⟨fl, a3, a4, a5⟩, a6, by rw [p8]; exact ⟨a7, a8, vv, a9, a10⟩, by
            rcases VA1 with ⟨q1, q2, _⟩ | ⟨_, q2, x', d, q3, q4, q5, q6⟩
            · exact Or.inl ⟨q1, q2⟩
            · exact Or.inr ⟨x', d, q3, q4, q5, q6⟩, ⟨ax, by rw [a5]; exact rx rfl⟩⟩⟩
        rw [f1, f2]
        have fJ : Ft [46, 58] σ1 σ' := fS_J_element_162 _ _ _ _ f2 |>.mono (by decide)
        exact Or.inl ⟨M', σ', i + 1, mn M0, rfl, rfl, f3.wk (by omega) (by omega) (by omega), by omega, f4, f5, f6, f7, K, by rw [(fJ 65 rfl).1, (fr1 65 rfl).1]; exact hK.1, hK.2.1, by omega⟩
      · have d1 : KL_X2_element_331 FU (mn M0) x 0 (msI M 405 90 (nI (i + 1))) = some (.inr (.inr w'), M2) := d1
        have d2 : L_component_429 FU (nI e) x (nI E0) σ1 = some ((), σ2) := d2
        rw [d1, obS_inr, d2, ob_some, ob_some]
        have fb := (fb.tr p1).tr E
        exact Or.inr (FB.ko fb (bw_162 fb.bd _))
  · have fb := (fb.tr hEP.1).tr E
    rw [a1, obS_inr, a2, ob_some, t_isBad1 fb.bd.b, ob_some, ifF (show ¬ (1 : Int32) = 0 from by decide), ob_some]
    exact Or.inr (FB.ko fb (bw_162 fb.bd _))
theorem el_s4 {x3 x : Int32} (H : ElC C Mb σb M0 σ0 ib depb cb' sb' nb' e cur ce cc E0 i0 es) (hEP : EP e M0 σ0 M σ) (hEF : EF C M0 M σ e fl sz [] K) (hVa : mR M 2007 (mn M0) = 0 ∧ tA σ 56 e = 0) (P : Pe C M σ i dep c s n) (hc : 80 ≤ c) (hs : 8000 ≤ s) (hn : 20 ≤ n) (hi0 : i0 ≤ i) (hre : (mI M 2002 (mn M0) = 12 ∧ ¬ x3 = 0) ∨ (¬ mI M 2002 (mn M0) = 12 ∧ x3 = 0)) (hw : mI M 2003 (mn M0) = nI w ∧ 38 ≤ w ∧ w < 38 + cm C ∧ tB σ 50 e = wc M w) (hK : tI σ 65 = nI K ∧ 1 ≤ K ∧ K + (ct C - i) ≤ cX C) : ElG C Mb σb M0 i0 dep c s n cur ce cc E0 es (KJ_X2_element_278 (mn M0) x M) (ob (J_component_187 (nI cc) (nI e) x3 x σ) fun _ s => J_element_162 (nI cc) s) := by
  have H0 := H
  obtain ⟨Pb, hcl, E, X0, he, h20, h67, d0, c0, s0, n0, P0⟩ := H
  obtain ⟨he481, hcc⟩ := H0.e481
  have hin : inb (nI e) 481 := inb_nI' he481 (by decide)
  have hix : ix (nI e) = e := ix_nI (by omega)
  have EP0 := hEP
  have EF0 := hEF
  obtain ⟨p1, p2, p3, ⟨p4, p5⟩, p6, p7, p8, p9⟩ := hEP
  obtain ⟨⟨a1', a2', ax⟩, ⟨a3, a4, a5⟩, a6, ⟨a7, a8, vv, a9, a10⟩, ⟨a11, a12, a13⟩, a14, a15, a16, a17, a18⟩ := hEF
  have hcap := P.2.2.2.1
  have hmn := P.n167
  have t1280 := P.t1280
  have hcx := cX_le C
  unfold KJ_X2_element_278 J_component_187
  obtain ⟨hmv, kh, hh⟩ : ∃ hmv : Int32, K_X2_isSign 40 M = some (hmv, M) ∧ ((hmv = 0 ∧ ¬ mA M 91 i = 40) ∨ (¬ hmv = 0 ∧ mA M 91 i = 40)) := by
    obtain ⟨g1, g2⟩ := P.px.in1
    unfold K_X2_isSign
    rw [ifT g1, g2]
    by_cases z : mA M 91 i = 40
    · exact ⟨1, by rw [ifT z], Or.inr ⟨by decide, z⟩⟩
    · exact ⟨0, by rw [ifF z], Or.inl ⟨rfl, z⟩⟩
  rw [kh, ob_some]
  rcases z_mods P0 hcl p1 P hc hs hn ⟨Nat.le_refl _, by omega⟩ p7 p9 (by omega) a14 hK with ⟨M1, σ1, i1, os, r1, r2, P1, r4, E1, L1, r7, r8, F1, m1, r11, r12⟩ | ⟨w', M1, y, σ1, r1, r2, fb⟩
  · have fm := fS_F_modsOf _ _ _ r2
    rw [r1, obS_inl, r2, ob_some, ifT hin, nm_eq, hix]
    obtain ⟨σ2, hσ2⟩ : ∃ σ2, σ2 = tsA σ1 55 e (if os.length = 0 then 0 else nI K) := ⟨_, rfl⟩
    have f2 : Ft [55] σ1 σ2 := by rw [hσ2]; exact (Ft.rf _ _).p_tsA rfl
    rw [← hσ2]
    have P2 := P1.tx f2 (by decide)
    have E2 := E1.tx f2 (by decide)
    have hav : mR M 4201 (mn M0 + 2) ≠ mn M0 ∧ mR M 4201 (mn M0 + 2) ≠ mn M0 + 1 := by
      rcases a14.1.2.2.2.2 with ⟨q, _⟩ | ⟨_, q, _⟩
      · rw [q]; omega
      · refine ⟨fun z => ?_, fun z => ?_⟩
        · rw [z, p7] at q; exact absurd q (by decide)
        · rw [z, a7] at q; exact absurd q (by decide)
    have sv : So M M1 (mn M0) := F1.so (by omega) (by omega)
    have su : So M M1 (mn M0 + 1) := F1.so (by omega) (by omega)
    have n01 := F1.1
    have fs : ∀ f, f = 42 ∨ f = 44 ∨ f = 45 ∨ f = 46 ∨ f = 47 ∨ f = 52 ∨ f = 53 ∨ f = 54 ∨ f = 56 ∨ f = 57 → ∀ j, tA σ2 f j = tA σ f j := fun f hf j => by
      rw [(f2 f (by rcases hf with rfl | rfl | rfl | rfl | rfl | rfl | rfl | rfl | rfl | rfl <;> rfl)).2.2.1, (fm f (by rcases hf with rfl | rfl | rfl | rfl | rfl | rfl | rfl | rfl | rfl | rfl <;> rfl)).2.2.1]
    have fsb : ∀ f, f = 50 ∨ f = 51 → ∀ j, tB σ2 f j = tB σ f j := fun f hf j => by
      rw [(f2 f (by rcases hf with rfl | rfl <;> rfl)).2.2.2, (fm f (by rcases hf with rfl | rfl <;> rfl)).2.2.2]
    have tm2 : tM σ2 = tM σ1 := by unfold tM; rw [(f2 65 rfl).1]
    have tm1 : tM σ1 = K + os.length := by unfold tM; rw [r11, ix_nI (by have := P1.it; omega)]
    have wcs2 : ∀ w, wc M1 w = wc M w := fun w => by rw [H0.wcs E1, H0.wcs p1]
    have mz2 : Mz σ σ2 := m1.tr (Mz.ft f2 (by decide))
    have EP2 : EP e M0 σ0 M1 σ2 := EP0.wr E2 mz2 ((Eo.ft fm (by decide)).tr (by rw [hσ2]; exact Eo.sA)) ⟨by rw [(f2 58 rfl).1, (fm 58 rfl).1], fun f hf j => fs f (by rcases hf with h | h | h | h | h <;> simp [h]) j⟩ n01 sv.k ⟨sv.r _, sv.r _⟩
    have EF2 : EF C M0 M1 σ2 e fl sz os K := by
      refine ⟨⟨by rw [sv.i]; exact a1', by rw [fs 57 (by decide)]; exact a2', by rw [fsb 51 (by decide), fs 54 (by decide)]; exact ax⟩, ⟨a3, by rw [sv.i]; exact a4, by rw [fs 52 (by decide)]; exact a5⟩, ?_, ⟨by rw [su.k]; exact a7, by rw [su.l]; exact a8, vv, fun k hk => by rw [su.a]; exact a9 k hk, by rw [fs 54 (by decide)]; exact a10⟩, ⟨by rw [sv.i]; exact a11, by rw [fs 53 (by decide)]; exact a12, a13⟩, L1, fun j hj => ?_, by rw [hσ2, tA_tsA, ifT ⟨rfl, rfl⟩], a17, by omega, by have := P1.it; have := P1.t1280; omega⟩
      · rw [fsb 51 (by decide), sv.i]
        rcases a6 with q | ⟨w, q1, q2, q3, q4⟩
        · exact Or.inl q
        · exact Or.inr ⟨w, q1, q2, q3, by rw [wcs2]; exact q4⟩
      · obtain ⟨⟨P', b1, b2⟩, b3⟩ := r8 j hj
        exact ⟨⟨P', b1, b2.mv P.nf12 (X := none_) Fz.rf (fun o z => absurd z (fun q => q)) (fun o ho => (b1 o ho).1.2) (fun _ z => z) (fun _ => rfl) (Tz.tx f2 (by decide)) (fun j => (f2 42 rfl).2.2.1 j) (fun f hf => (f2 f (by rcases hf with rfl | rfl | rfl <;> rfl)).2.2.1 _) (fun f hf => (f2 f (by rcases hf with rfl | rfl <;> rfl)).2.2.2 _)⟩, by rw [(f2 61 rfl).2.2.1]; exact b3⟩
    have hva2 : mR M1 2007 (mn M0) = 0 ∧ tA σ2 56 e = 0 := ⟨by rw [sv.r]; exact hVa.1, by rw [fs 56 (by decide)]; exact hVa.2⟩
    have hre2 : (mI M1 2002 (mn M0) = 12 ∧ ¬ x3 = 0) ∨ (¬ mI M1 2002 (mn M0) = 12 ∧ x3 = 0) := by rw [sv.i]; exact hre
    have hw2 : mI M1 2003 (mn M0) = nI w ∧ 38 ≤ w ∧ w < 38 + cm C ∧ tB σ2 50 e = wc M1 w := ⟨by rw [sv.i]; exact hw.1, hw.2.1, hw.2.2.1, by rw [fsb 50 (by decide), wcs2]; exact hw.2.2.2⟩
    have hhm : (hmv = 0 ∧ os.length = 0) ∨ (¬ hmv = 0 ∧ ¬ os.length = 0) := by
      rcases hh with ⟨q1, q2⟩ | ⟨q1, q2⟩
      · exact Or.inl ⟨q1, r7.mpr q2⟩
      · exact Or.inr ⟨q1, fun z => (r7.mp z) q2⟩
    have hK2 : tI σ2 65 = nI (K + os.length) ∧ 1 ≤ K + os.length ∧ K + os.length + (ct C - i1) ≤ cX C := ⟨by rw [(f2 65 rfl).1]; exact r11, by omega, by have := P1.it; omega⟩
    rw [t_isBad0 P2.g0, ob_some, ifT (rfl : (0 : Int32) = 0)]
    rcases z_take P2 (x := 61) (by decide) with ⟨σ3, u1, u2, u3, P3, E3, u6⟩ | ⟨u1, u2⟩
    · have fr3 := fS_F_next _ _ _ u3
      rw [u1, ob_some, ifF (show ¬ (1 : Int32) = 0 from by decide), u2, ob_some, ifF (show ¬ (1 : Int32) = 0 from by decide)]
      unfold J_component_218
      rw [ifF (show ¬ (1 : Int32) = 0 from by decide), u3, ob_some]
      rcases z_expr P3 hcl (by omega) (by omega) (by omega) with ⟨a, M4, x', σ4, i4, w1, w2, P4, w4, E4, R4⟩ | ⟨w', M4, y, σ4, w1, w2, fb⟩
      · have fr4 := fS_F_expression _ _ _ w2
        have k90 : mk M1 90 ≠ 23 := by rw [P2.en.1]; decide
        have k90' : mk (msI M1 405 90 (nI (i1 + 1))) 90 ≠ 23 := k90
        have EP4 := (EP2.st E3 (by omega) fr3 (by decide)).st E4 (by omega) fr4 (by decide)
        have n14 := E4.1.1
        have nm3 : mn (msI M1 405 90 (nI (i1 + 1))) = mn M1 := rfl
        have EF4 := (EF2.st P.nf12 (by omega) (by omega) k90 E3 (fun w => rfl) fr3 (by decide)).st P.nf12 (by omega) (by omega) k90' E4 (fun w => by rw [H0.wcs EP4.1]; exact (H0.wcs (E2.tr E3) w).symm) fr4 (by decide)
        have s14 : So M1 M4 (mn M0) := (E3.tr E4).1.so (by omega) (by omega)
        obtain ⟨M5, hM5⟩ : ∃ M5, M5 = msR M4 2007 (mn M0) a := ⟨_, rfl⟩
        obtain ⟨σ5, hσ5⟩ : ∃ σ5, σ5 = tsA σ4 56 e (nI x') := ⟨_, rfl⟩
        have f5 : Ft [56] σ4 σ5 := by rw [hσ5]; exact (Ft.rf _ _).p_tsA rfl
        have F5 : Fz (fun o => o = mn M0) M4 M5 := by rw [hM5]; exact Fz.rf.msR (fun _ => rfl)
        have n5 : mn M5 = mn M4 := by rw [hM5]; rfl
        have s5 : ms M5 = ms M4 := by rw [hM5]; rfl
        have hk4 : mk M4 (mn M0) = 11 := by rw [s14.k]; exact EP2.2.2.2.2.2.1
        obtain ⟨P5, E5⟩ := P0.re (EP4.1.tx f5 (by decide)) (P4.tx f5 (by decide)) F5 (fun o z => by omega) (c' := c + 16) (s' := s + 2048) (by rw [n5]; omega) (by rw [s5]; omega)
        rw [w1, obS_inl, ifT hk4, nm_eq, ← hM5, w2, ob_some, ifT hin, nm_eq, hix, ← hσ5]
        have wcs5 : ∀ w, wc M5 w = wc M4 w := fun w => by rw [H0.wcs E5, H0.wcs EP4.1]
        have bR := R4.b
        have EP5 : EP e M0 σ0 M5 σ5 := EP4.wr E5 (Mz.ft f5 (by decide)) (by rw [hσ5]; exact Eo.sA) ⟨(f5 58 rfl).1, fun f hf j => (f5 f (by rcases hf with rfl | rfl | rfl | rfl | rfl <;> rfl)).2.2.1 j⟩ (by omega) (by rw [hM5]; rfl) ⟨by rw [hM5, mR_msR, ifF (by omega)], by rw [hM5, mR_msR, ifF (by omega)]⟩
        have hc4 := P4.2.2.2.1
        have EF5 : EF C M0 M5 σ5 e fl sz os K := EF4.wr P.nf12 ⟨by omega, by omega⟩ (by omega) hk4 (F5.mono (fun o _ z => Or.inr z)) (by rw [P4.en.1]; decide) (fun g _ => by rw [hM5]; rfl) ⟨by rw [hM5]; exact EF4.2.2.2.2.1.1, by rw [(f5 53 rfl).2.2.1]; exact EF4.2.2.2.2.1.2.1, EF4.2.2.2.2.1.2.2⟩ wcs5 (Tz.tx f5 (by decide)) (Mz.ft f5 (by decide)) (fun j => (f5 42 rfl).2.2.1 j) (fun f hf => (f5 f (by rcases hf with rfl | rfl | rfl | rfl <;> rfl)).2.2.1 _) ((f5 51 rfl).2.2.2 _)
        have hR5 := (R4.pv P4 (by omega) F5 (by omega) wcs5 (Tz.tx f5 (by decide)) (f5.mono (by decide))).dn (M0 := M0) P5 (by omega)
        obtain ⟨d, hR5⟩ := hR5
        have VA5 : VaR C M0 M5 σ5 e 1 := Or.inr ⟨rfl, by rw [hM5, mR_msR, ifT ⟨rfl, rfl⟩]; have := bR.1.1; omega, x', d, by rw [hσ5, tA_tsA, ifT ⟨rfl, rfl⟩], bR.2.2.1, by have := P4.tN9; omega, by rw [show mR M5 2007 (mn M0) = a from by rw [hM5, mR_msR, ifT ⟨rfl, rfl⟩]]; exact hR5⟩
        have s15 : ∀ g, mI M5 g (mn M0) = mI M1 g (mn M0) := fun g => by rw [hM5, mI_msR, s14.i]
        have hf65 : tI σ5 65 = tI σ2 65 := by rw [(f5 65 rfl).1, (fr4 65 rfl).1, (fr3 65 rfl).1]
        have hg := el_s5 (x := x) (hm := hmv) (x3 := x3) H0 EP5 EF5 VA5 (P5.wk (c' := c) (s' := s) (n' := n) (by omega) (by omega) (by omega)) (by omega) (by omega) (by omega) (by rw [s15]; exact hre2) hhm ⟨by rw [s15]; exact hw2.1, hw2.2.1, hw2.2.2.1, by rw [(f5 50 rfl).2.2.2, (fr4 50 rfl).2.2.2, (fr3 50 rfl).2.2.2, hw2.2.2.2, H0.wcs E5, H0.wcs E2]⟩ ⟨by rw [hf65]; exact hK2.1, hK2.2.1, by have := hK2.2.2; omega⟩
        exact hg
      · rw [w1, obS_inr, w2, ob_some]
        have fb := ((fb.tr E3).tr E2).tr E
        exact Or.inr (FB.ko fb (BW.bo (BW.itT hin (BW.nmA fb.bd rfl fun s hb => bw_239 hb _ _ _ _ _)) fun _ s hb => bw_162 hb _))
    · rw [u1, ob_some, ifT (rfl : (0 : Int32) = 0), u2, ob_some, ifT (rfl : (0 : Int32) = 0)]
      unfold J_component_217 J_component_218
      rw [ifT (rfl : (0 : Int32) = 0)]
      exact el_s5 (x := x) (hm := hmv) (x3 := x3) H0 EP2 EF2 (Or.inl ⟨hva2.1, hva2.2, rfl⟩) P2 (by omega) (by omega) (by omega) hre2 hhm hw2 hK2
  · rw [r1, obS_inr, r2, ob_some]
    have fb := fb.tr E
    exact Or.inr (FB.ko fb (BW.bo (BW.itT hin (BW.nmA fb.bd rfl fun s hb => BW.isBad hb (bw_217 hb _ _ _ _))) fun _ s hb => bw_162 hb _))
end ELS
