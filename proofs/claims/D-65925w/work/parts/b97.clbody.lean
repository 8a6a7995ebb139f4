/-! Layer B: a class is read: elements, equations, end -/
set_option maxRecDepth 100000
section CLBODY
variable {C C' : PC} {T P P' X : Nat → Prop} {Mt Mb M N M' M1 M2 M7 : CM} {σt σ σ' σ1 σ2 σ3 σ7 σb : TS} {i i3 i' dep c s n w l cc v E0 ib depb cb' sb' nb' K0 : Nat} {mss ns cs xs : List Nat} {x1 : Int32}
def ClO (C : PC) (T : Nat → Prop) (Mt : CM) (σt : TS) (i c s n : Nat) (mss ns : List Nat) (o : Option ((Unit ⊕ Nat) × CM)) (p : Option (Unit × TS)) : Prop := (∃ M' σ' i' v, o = some (.inl (), M') ∧ p = some ((), σ') ∧ TI C T Mt σt M' σ' i' c s n mss (ns ++ [v]) ∧ i < i') ∨ ∃ w M' σ', o = some (.inr w, M') ∧ p = some ((), σ') ∧ FL C Mt σt M' w σ'
set_option maxHeartbeats 4000000 in
theorem cl_body (I : TI C T Mt σt M σ i c s n mss ns) (hcc : (mss ++ ns).length = cc) (h24 : cc < 24) (hv : v = mn M) (hx : x1 = 0 ∨ x1 = 1) (hc : 120 ≤ c) (hs : 12000 ≤ s) (hn : 20 ≤ n)
    (Pb : Pe C Mb σb ib depb cb' sb' nb') (FMb : Fz (fun o => o = 90) M Mb) (hMb : mn Mb = mn M) (P4 : Pe C N σ3 i3 0 c s n) (hi : i < i3) (E4 : Es Mb σb N σ3) (hX0 : ClX C Mb N σ3 v (v + 1) cc E0 []) (hw : mI N 1800 v = nI w ∧ 38 ≤ w ∧ w < 38 + cm C ∧ tB σ3 41 cc = wc N w) (h1801 : mI N 1801 v = x1) (h1803 : mR N 1803 v = v + 2) (h1804 : mI N 1804 v = 0) (L2 : LsB Mb N (v + 2) []) (L2' : mR N 4201 (v + 2) = 4398046511104) (arr0 : mR N 4201 (v + 1) = 4398046511104) (h73 : tI σ3 73 = 0) (h47 : tA σ3 47 cc = 0)
    (hTc : Tc cc σ σ3) (hTz : Tz σ σ3) (hTb : Tz σ σb) (hQz : Qz σ σ3) (t49 : tI σ3 49 = nI (cc + 1)) (t48 : tI σ3 48 = tI σ 48) (t65 : tI σ3 65 = tI σ 65) (t72 : tI σ3 72 = tI σ 72) (t42 : ∀ k, tA σ3 42 k = tA σ 42 k ∧ tA σ3 43 k = tA σ 43 k) :
    ClO C T Mt σt i c s n mss ns (obS (KL_X2_newModel_58 FU x1 N) (fun r105 M56 => some (r105, M56)) fun _ M56 => KJ_X2_newModel_102 x1 M56) (ob (L_readClass_125 FU x1 (nI cc) σ3) fun _ s60 => J_readClass_165 (nI cc) s60) := by
  have I0 := I
  obtain ⟨⟨P0, hcn, hcr, hcl, hf1⟩, ⟨⟨L88, L97⟩, HC⟩, hS, ⟨Pq, hT⟩, ⟨⟨E00, e58, hE0⟩, ⟨K1, k65, k1, k2⟩, ⟨Q1, q72, q1, q2⟩⟩, ⟨F0, ha0, h167t⟩, htw, hqz, h49t, h48t⟩ := I
  have hnf := P0.nf12
  have h167 := P0.n167
  have hc6 := P0.c6
  have h49σ : ix (tI σ 49) = cc := by rw [HC.1, ix_nI (by omega), hcc]
  have hit4 := P4.it
  have t1280 := P4.t1280
  have hcx := cX_le C
  have k90 := P0.en.1
  have kb90 : mk Mb 90 = 3 := Pb.en.1
  have hrow : ∀ l, l ∈ arL → l < mn M ∧ l ≠ 90 := fun l hl => by
    have := arL_lt hl
    exact ⟨by omega, fun z => by rw [z] at hl; exact absurd hl (by decide)⟩
  have hK3 : tI σ3 65 = nI K1 ∧ 1 ≤ K1 ∧ K1 + (ct C - i3) ≤ cX C := ⟨by rw [t65]; exact k65, k1, by omega⟩
  -- frames out of steps since the base
  have FM : ∀ {M' : CM} {σ' : TS}, Es Mb σb M' σ' → Fz (fun o => o = 90) M M' := fun E => FMb.tr E.1
  have flO : ∀ {w : Nat} {M' : CM} {σ' : TS}, FB C Mb σb M' w σ' → Frm cc σ3 σ' → (∃ r, L_readClass_125 FU x1 (nI cc) σ3 = some (r, σ')) → FL C Mt σt M' w σ' := fun fb fr ⟨r, er⟩ => by
    obtain ⟨f1, f2, f3, f4⟩ := fb
    have G := FM f2
    obtain ⟨bs, l95⟩ := P0.l95
    have fe := fS_L_readClass_125 _ _ _ _ _ _ er
    have s95 : So M _ 95 := G.so (by omega) (by decide)
    exact FL.of P0 hS L97 F0 ha0 htw h49t h48t G (fun o _ z => Or.inl z) (Or.inl (s95.r _)) ⟨bs, l95.fz G (by omega) (fun o z => by rw [z, k90]; exact ⟨by decide, by decide⟩)⟩ f1 f3 ((hTc.tr (Tc.el fr fe (by decide))).tw (hTb.tr f2.2.2.2.1) (by omega))
  rcases el_loop Pb hcl (by omega) (by omega) hn hx 2001 N σ3 i3 FU FU [] K1 (by omega) (by have := FUb; omega) (by have := FUb; omega) E4 hX0 h1801 P4 hK3 with ⟨M5, σ5, i5, es, K5, b1, b2, P5, hi5, E5, X5, hK5, fr5, F5, harr5, hend⟩ | ⟨M', σ', p', b1, b2, b3, b4, b5, fb, fr⟩ | ⟨w', M', σ', b1, b2, fb, fr⟩
  rotate_left
  · -- a connector has no equations
    right
    rw [b1, obS_inl, b2, ob_some, t_class165b fb.2.2.2.1]
    unfold KJ_X2_newModel_102
    rw [b4, ob_some, ifF (show ¬ (1 : Int32) = 0 from by decide), ifF (show ¬ x1 = 0 from by rw [b3]; decide), b5, ob_some, ifT (wM_k _ _ _)]
    exact ⟨_, _, σ', rfl, rfl, flO fb fr ⟨_, b2⟩⟩
  · right
    rw [b1, obS_inr, b2, ob_some, t_class165b fb.2.2.2.1]
    exact ⟨w', M', σ', rfl, rfl, flO fb fr ⟨_, b2⟩⟩
  rw [b1, obS_inl, b2, ob_some]
  have fe5 := fS_L_readClass_125 _ _ _ _ _ _ b2
  have G5 := FM E5
  have n5 := E5.1.1
  have hc65 := P5.c6
  obtain ⟨⟨x1', ⟨x2, x2'⟩, x3, x4, x5⟩, x6, x7, ⟨x8, x9, x10, x11, x12, x13, x13'⟩, x14⟩ := X5
  have hn45 := F5.1
  -- the class's own cells
  have sv5 : So N M5 v := F5.so (by have := hX0.1.2.1.2; omega) (fun z => by
    rcases z with z | z | z
    · omega
    · omega
    · rw [arr0] at z; omega)
  have s25 : So N M5 (v + 2) := F5.so L2.2.1.2 (fun z => by
    rcases z with z | z | z
    · omega
    · omega
    · rw [arr0] at z; have := P4.c6; have := L2.2.1.2; omega)
  have wcs5 : ∀ w, wc M5 w = wc N w := fun w => by rw [Pb.wcs E5.1 (fun o z => by rw [z]; exact kb90) w, Pb.wcs E4.1 (fun o z => by rw [z]; exact kb90) w]
  have wcM5 : ∀ w, wc M5 w = wc M w := fun w => P0.wcs G5 (fun o z => by rw [z]; exact k90) w
  have rows5 : ∀ l, l ∈ arL → mR M5 4201 l = mR M 4201 l := fun l hl => (G5.so (hrow l hl).1 (hrow l hl).2).r 4201
  have S5 : Sx M5 := hS.mv hc6 h167 G5 (fun l hl => Or.inl (rows5 l hl)) (fun l l' hl hl' hne hm hlt => by
    rw [rows5 l hl] at hm hlt
    rcases (hS l hl).2 with g | g <;> omega)
  have TP5 : TP C T Mt M5 σ5 (mss ++ ns) Pq := hT.mv hnf G5 (fun o _ z => ⟨fun hp => by have := (hT.nx hp).1; omega, by rw [z, k90]; decide⟩) (fun w _ => wcM5 w) (fun l hl => Or.inl (rows5 l hl)) ((G5.so (by omega) (by decide)).r 201) ⟨hTb.tr E5.2.2.2.1, hQz.tr (Qz.ft fe5 (by decide)), hTc.1.2.1.tr fr5.2.1, hTc.1.2.2.tr fr5.2.2.1⟩ (fun k hk => by
      have := ((hTc.tr (Tc.el fr5 fe5 (by decide))).2.1 k (by omega))
      exact this) (fun k _ => ⟨by rw [(fe5 42 rfl).2.2.1]; exact (t42 k).1, by rw [(fe5 43 rfl).2.2.1]; exact (t42 k).2⟩)
  have L885 : Ls M5 88 mss := L88.fz G5 (by omega) (fun o z => by rw [z, k90]; exact ⟨by decide, by decide⟩)
  have L975 : Ls M5 97 ns := L97.fz G5 (by omega) (fun o z => by rw [z, k90]; exact ⟨by decide, by decide⟩)
  have arO : ∀ o, mn M ≤ o → o < mn M5 → ¬ Ar M5 o := fun o h1 h2 ⟨l, hl, z⟩ => by
    rw [rows5 l hl] at z
    rcases (hS l hl).2 with g | g <;> omega
  -- its elements
  have lc : LsB Mb M5 (v + 1) es := x7
  have P5o : Nat → Prop := fun o => (mn M ≤ o ∧ o < mn M5) ∧ o ≠ v ∧ o ≠ v + 2
  have hEl : ∀ j, j < es.length → ElR C (fun o => (mn M ≤ o ∧ o < mn M5) ∧ o ≠ v ∧ o ≠ v + 2) M5 σ5 (es.getD j 0) (E0 + j) := fun j hj => by
    obtain ⟨P2, a1, a2⟩ := x14 j hj
    exact a2.wz (Wz.rf hnf) (fun o ho => by have := a1 o ho; omega) (by rw [x11, ix_nI (by omega)]; omega)
  have hLs : LsP (fun o => (mn M ≤ o ∧ o < mn M5) ∧ o ≠ v ∧ o ≠ v + 2) M5 (v + 1) es := ⟨lc.1, ⟨⟨by omega, lc.2.1.2⟩, by omega, by omega⟩, fun z => by
    have h1 := lc.2.2.2 z
    rcases lc.1.lt with q | q
    · exact absurd q z
    · have k55 := lc.1.k55 hc65 q
      refine ⟨⟨by omega, q⟩, fun e => ?_, fun e => ?_⟩
      · rw [e, x3] at k55; exact absurd k55 (by decide)
      · rw [e, s25.k, L2.1.1] at k55; exact absurd k55 (by decide)⟩
  have h1803' : mR M5 1803 v = v + 2 := by rw [sv5.r]; exact h1803
  have L25 : LsB Mb M5 (v + 2) [] ∧ mR M5 4201 (v + 2) = 4398046511104 := by
    have e : mR M5 4201 (v + 2) = 4398046511104 := by rw [s25.r]; exact L2'
    exact ⟨⟨L2.1.so2 F5 s25 (fun z => by rw [L2'] at z; have := P4.c6; omega), ⟨L2.2.1.1, by have := L2.2.1.2; omega⟩, by rw [e]; omega, fun z => absurd e z⟩, e⟩
  have hwv : mI M5 1800 v = nI w ∧ 38 ≤ w ∧ w < 38 + cm C ∧ tB σ5 41 cc = wc M5 w := ⟨by rw [sv5.i]; exact hw.1, hw.2.1, hw.2.2.1, by rw [(fe5 41 rfl).2.2.2, wcs5]; exact hw.2.2.2⟩
  have hTc5 := hTc.tr (Tc.el fr5 fe5 (by decide))
  have hTz5 := hTb.tr E5.2.2.2.1
  have hQz5 := hQz.tr (Qz.ft fe5 (by decide))
  rcases hend with ⟨r1, r2⟩ | ⟨r0, r1, r2, r3⟩
  · -- no equations
    unfold KJ_X2_newModel_102 J_readClass_165
    rw [r1, ob_some, ifT (rfl : (0 : Int32) = 0), t_isBad0 P5.g0, ob_some, ifT (rfl : (0 : Int32) = 0), r2, ob_some, ifT (rfl : (0 : Int32) = 0)]
    have e47 : tA σ5 47 cc = 0 := by rw [(fe5 47 rfl).2.2.1]; exact h47
    have hCc : CcR C (fun o => (mn M ≤ o ∧ o < mn M5) ∧ ¬ Ar M5 o) M5 σ5 cc v := by
      have up : ∀ o, ((mn M ≤ o ∧ o < mn M5) ∧ o ≠ v ∧ o ≠ v + 2) → ((mn M ≤ o ∧ o < mn M5) ∧ ¬ Ar M5 o) := fun o ho => ⟨ho.1, arO o ho.1.1 ho.1.2⟩
      refine ⟨⟨⟨⟨⟨by omega, by omega⟩, arO v (by omega) (by omega)⟩, x3⟩, w, hwv⟩, x6, ⟨E0, es, ?_, x9, x10, x12, x13, by rw [x11, ix_nI (by omega)]; omega, fun j hj => (hEl j hj).wz (Wz.rf hnf) up (by rw [x11, ix_nI (by omega)]; omega)⟩, ?_⟩
      · rw [x4]; exact hLs.mv ⟨Nat.le_refl _, fun _ _ => rfl⟩ (fun o _ => So.rf _ _) up
      · rw [h1803', e47]
        exact ⟨[], 0, 0, ⟨L25.1.1, ⟨⟨by omega, by have := L25.1.2.1.2; omega⟩, arO _ (by omega) (by have := L25.1.2.1.2; omega)⟩, fun z => absurd L25.2 z⟩, rfl, by decide, rfl⟩
    rcases cl_ti I0 (by omega) hcc G5 (fun o _ z => Or.inl z) (fun l hl => Or.inl (rows5 l hl)) S5 P5 (by omega) TP5 hCc x1' (by omega) (by omega) wcM5 L885 L975 hTc5 hTz5 hQz5 (by rw [(fe5 49 rfl).1]; exact t49) (by rw [(fe5 48 rfl).1]; exact t48) ⟨⟨E0 + es.length, x11, by omega⟩, ⟨K5, hK5⟩, Q1, by rw [(fe5 72 rfl).1, t72]; exact q72, q1, by omega⟩ with ⟨M', σ', e1, e2, e3⟩ | ⟨w', M', σ', e1, e2, e3⟩
    · rw [e1, e2]
      exact Or.inl ⟨M', σ', i5 + 2, v, rfl, rfl, e3, by omega⟩
    · rw [e1, e2]
      exact Or.inr ⟨w', M', σ', rfl, rfl, e3⟩
  · -- equations
    obtain ⟨σ6, n6, P6', E56⟩ := z_step P5 r3
    have fn6 := fS_F_next _ _ _ n6
    have i5' := P5.i5
    unfold KJ_X2_newModel_102 J_readClass_165
    rw [r1, ob_some, ifF (show ¬ (1 : Int32) = 0 from by decide), ifT r0, nm_eq, i5', nI_addL, t_isBad0 P5.g0, ob_some, ifT (rfl : (0 : Int32) = 0), r2, ob_some, ifF (show ¬ (1 : Int32) = 0 from by decide), n6, ob_some]
    obtain ⟨M6, hM6⟩ : ∃ M6, M6 = msI M5 405 90 (nI (i5 + 1)) := ⟨_, rfl⟩
    have nm6 : mn M6 = mn M5 := by rw [hM6]; rfl
    have r6 : ∀ g o, mR M6 g o = mR M5 g o := fun g o => by rw [hM6]; rfl
    have k6 : ∀ o, mk M6 o = mk M5 o := fun o => by rw [hM6]; rfl
    have sv6 : So M5 M6 v := by rw [hM6]; exact (Fz.rf (X := fun o => o = 90)).msI (fun _ => rfl) |>.so x2' (by omega)
    rw [← hM6] at P6' E56 ⊢
    have t72' : tI σ5 72 = nI Q1 := by rw [(fe5 72 rfl).1, t72]; exact q72
    have PE5 : PE C M5 σ5 i5 0 c s n := ⟨P5, ⟨⟨by rw [x1']; exact x3, by rw [x1']; omega⟩, by rw [x1']; exact x2'⟩, ⟨0, by rw [x1', sv5.i]; exact h1804, by rw [(fe5 73 rfl).1]; exact h73, by decide⟩, ⟨Q1, t72', q1, by omega⟩, ⟨by omega, hcr, hcl⟩, S5.se TP5 hc65⟩
    have PE6 : PE C M6 σ6 (i5 + 1) 0 c s n := (PE5.es E56 P6' (Nat.le_succ _)).wk (by omega) (by omega) (by omega)
    have E36 := E5.tr E56
    have h4116 : mR M6 411 90 = v := by rw [r6]; exact x1'
    have PL := mlo_pe Pb E36 PE6 (k := v + 1) ⟨by omega, by omega⟩ (by omega)
    obtain ⟨L6, L6'⟩ := lsq_e (Mb := mlo M6 (v + 1)) L25.1 L25.2 E56.1 (by omega) (show v + 1 ≤ v + 2 by omega) hc65
    have e1803 : mR M6 1803 (mR M6 411 90) = v + 2 := by rw [h4116, r6]; exact h1803'
    have G6 : Fz (fun o => o = 90) M (mlo M6 (v + 1)) := mlo_fz (FM E36) (by omega) (by omega)
    have hin : inb (nI cc) 24 := inb_nI' h24 (by decide)
    have hix : ix (nI cc) = cc := ix_nI (by omega)
    have Tc6 : Tc cc σ σ6 := hTc5.tr (Tc.ft fn6 (by decide))
    have Tz6 : Tz σ σ6 := hTz5.tr E56.2.2.2.1
    have wcL : ∀ w, wc (mlo M6 (v + 1)) w = wc M w := fun w => P0.wcs G6 (fun o z => by rw [z]; exact k90) w
    -- what the equations write of what was there
    have KX : ∀ M7, Ek (mlo M6 (v + 1)) M7 → Fz (fun o => o = 90 ∨ o = 95 ∨ o = mR M 4201 95) M M7 := fun M7 K => (G6.mono (fun o _ z => Or.inl z)).tr2 K.1 (fun o ho z => by
      rcases z with z | z | z | z
      · exact Or.inl z
      · exact Or.inr (Or.inl z)
      · have z : o = mR M6 4201 95 := z
        rw [r6, rows5 95 (by decide)] at z
        exact Or.inr (Or.inr z)
      · have z : o = mR M6 411 90 := z
        omega)
    have K95 : ∀ M7, Ek (mlo M6 (v + 1)) M7 → mR M7 4201 95 = mR M 4201 95 ∨ mn M ≤ mR M7 4201 95 := fun M7 K => by
      rcases K.2.1 with q | q
      · have q : mR M7 4201 95 = mR M6 4201 95 := q
        rw [q, r6, rows5 95 (by decide)]; exact Or.inl rfl
      · have q : v + 1 ≤ mR M7 4201 95 := q
        right; omega
    rw [ifT (show mk M6 (mR M6 411 90) = 10 from by rw [h4116, k6]; exact x3), e1803]
    rcases z_eqs PL (by omega) (by omega) hn (Nat.le_refl _) (Nat.le_refl _) (mlo_ek (by omega)) PE6 L6 with ⟨a, M7, y, σ7, b1, b2, hg⟩ | ⟨w', M7, y, σ7, b1, b2, fb⟩
    · rw [b1, obS_inl, b2, ob_some, ifT hin, nm_eq, hix]
      have fe7 := fS_F_equations _ _ _ _ b2
      have hE7 : tE σ7 ≤ 3000 := by
        obtain ⟨i', os, ns', g1, g2, _⟩ := hg
        have := g2.e1
        have := g2.cx
        omega
      have RW := (hg.row hnf (show v + 1 ≤ mn M6 by omega) hE7).lo hnf PE6.e1.2.1
      obtain ⟨i7, os, ns', g1, P7, hi7, E67, g5, g6, F7, K7⟩ := hg
      have G7 := KX M7 E67.1
      have nm7 := F7.1
      have hc67 := P7.1.c6
      obtain ⟨σ8, hσ8⟩ : ∃ σ8, σ8 = tsA σ7 47 cc y := ⟨_, rfl⟩
      have f8 : Ft [47] σ7 σ8 := by rw [hσ8]; exact (Ft.rf _ σ7).p_tsA rfl
      have v47 : tA σ8 47 cc = y := by rw [hσ8, tA_tsA, ifT ⟨rfl, rfl⟩]
      have Tc7 : Tc cc σ6 σ7 := Tc.eq E67.fe.2.2 fe7 (by decide)
      have Tc8 : Tc cc σ7 σ8 := by rw [hσ8]; exact Tc.w47
      have z78 : Tz σ7 σ8 := Tz.ft f8 (by decide)
      have q78 : Qz σ7 σ8 := Qz.ft f8 (by decide)
      rw [← hσ8]
      have P8 : Pe C M7 σ8 i7 0 c s n := P7.1.clt (f8.mono (by decide))
      have TC8 : Tc cc σ σ8 := (Tc6.tr Tc7).tr Tc8
      have TZ8 : Tz σ σ8 := (Tz6.tr E67.2.1.1).tr z78
      have QZ8 : Qz σ σ8 := ((hQz5.tr (Qz.ft fn6 (by decide))).tr E67.2.1.2).tr q78
      have wc7 : ∀ w, wc M7 w = wc M w := fun w => by rw [E67.1.wc PL, wcL]
      have h4117 : mR M7 411 90 = v := by rw [E67.1.2.2.1]; exact h4116
      -- rows
      have sl : ∀ l, l ∈ arL → l ≠ 95 → So M M7 l := fun l hl hne => G7.so (hrow l hl).1 (fun z => by
        have := arL_lt hl
        rcases z with z | z | z
        · exact (hrow l hl).2 z
        · exact hne z
        · rcases (hS 95 (by decide)).2 with g | g
          · omega
          · omega)
      have sa : ∀ l, l ∈ arL → l ≠ 95 → mR M 4201 l < mn M → So M M7 (mR M 4201 l) := fun l hl hne hlt => by
        have := (hS.k hc6 hl hlt).2
        refine G7.so hlt (fun z => ?_)
        rcases z with z | z | z
        · omega
        · omega
        · rcases (hS 95 (by decide)).2 with q | q
          · omega
          · exact q.2 l hl hne z
      have rows7 : ∀ l, l ∈ arL → mR M7 4201 l = mR M 4201 l ∨ mn M ≤ mR M7 4201 l := fun l hl => by
        by_cases q : l = 95
        · rw [q]; exact K95 M7 E67.1
        · exact Or.inl ((sl l hl q).r 4201)
      obtain ⟨bs, l95⟩ := P7.1.l95
      have S7 : Sx M7 := hS.mv hc6 h167 G7 (fun l hl => by
        by_cases q : l = 95
        · subst q
          rcases K95 M7 E67.1 with g | g
          · exact Or.inl g
          · rcases l95.lt with z | z
            · exact Or.inr (Or.inl z)
            · exact Or.inr (Or.inr ⟨g, z, l95.k55 hc67 z⟩)
        · exact Or.inl ((sl l hl q).r 4201)) (fun l l' hl hl' hne hm hlt => by
        by_cases q : l = 95
        · subst q
          rw [(sl l' hl' hne).r]
          intro z
          rcases (hS l' hl').2 with g | g <;> omega
        · rw [(sl l hl q).r] at hm hlt
          rcases (hS l hl).2 with g | g <;> omega)
      have nm4 : mR M7 201 4 = mR M 201 4 := (G7.so (by omega) (fun z => by
        rcases z with z | z | z
        · omega
        · omega
        · rcases (hS 95 (by decide)).2 with g | g
          · omega
          · omega)).r 201
      have HZ : Tz σ σ8 ∧ Qz σ σ8 ∧ Mz σ σ8 ∧ Ez σ σ8 := ⟨TZ8, QZ8, TC8.1.2.1, TC8.1.2.2⟩
      have TP7 : TP C T Mt M7 σ8 (mss ++ ns) Pq := hT.mv hnf G7 (fun o ho z => by
        rcases z with z | z | z
        · exact ⟨fun hp => by have := (hT.nx hp).1; omega, by rw [z, k90]; decide⟩
        · exact ⟨fun hp => by have := (hT.nx hp).1; omega, by rw [z, (hS 95 (by decide)).1]; decide⟩
        · exact ⟨fun hp => (hT.nx hp).2 95 (by decide) z, by rw [z, (hS.k hc6 (l := 95) (by decide) (by omega)).1]; decide⟩) (fun w _ => wc7 w) rows7 nm4 HZ (fun k hk => TC8.2.1 k (by omega)) (fun k _ => ⟨(TC8.2.2 k).1 42 (Or.inl rfl), (TC8.2.2 k).1 43 (Or.inr rfl)⟩)
      -- the class
      have a95 : mR M6 4201 95 = mR M 4201 95 := by rw [r6]; exact rows5 95 (by decide)
      have F57 : Fz (fun o => o = 90 ∨ o = 95 ∨ o = mR M 4201 95 ∨ o = v ∨ o = v + 2) M5 M7 := (E56.1.mono (fun o _ z => Or.inl z)).tr2 F7 (fun o ho z => by
        rcases z with (z | z | z | z) | z | z
        · exact Or.inl z
        · exact Or.inr (Or.inl z)
        · rw [a95] at z; exact Or.inr (Or.inr (Or.inl z))
        · rw [h4116] at z; exact Or.inr (Or.inr (Or.inr (Or.inl z)))
        · exact Or.inr (Or.inr (Or.inr (Or.inr z)))
        · rw [L6'] at z; omega)
      have b95 : mR M 4201 95 = 4398046511104 ∨ (167 ≤ mR M 4201 95 ∧ mR M 4201 95 < mn M) := by
        rcases (hS 95 (by decide)).2 with g | g
        · exact Or.inl g
        · exact Or.inr ⟨g.1.1, g.1.2.1⟩
      have W57 : Wz C C (fun o => (mn M ≤ o ∧ o < mn M5) ∧ o ≠ v ∧ o ≠ v + 2) M5 M7 σ5 σ8 := Wz.of hnf F57 (fun o ho z => by
        refine ⟨fun hp => ?_, ?_⟩
        · rcases z with z | z | z | z | z <;> omega
        · rcases z with z | z | z | z | z
          · rw [z, P5.en.1]; decide
          · rw [z, (S5 95 (by decide)).1]; decide
          · rw [← rows5 95 (by decide)] at z
            rw [z, (S5.k hc65 (l := 95) (by decide) (by omega)).1]; decide
          · rw [z, x3]; decide
          · rw [z, s25.k, L2.1.1]; decide) (fun o ho => ho.1.2) (fun w _ => by rw [wc7, wcM5]) ⟨(E56.2.2.2.1.tr E67.2.1.1).tr z78, ((Qz.ft fn6 (by decide)).tr E67.2.1.2).tr q78, ((Mz.ft fn6 (by decide)).tr Tc7.1.2.1).tr Tc8.1.2.1, ((Ez.ft fn6 (by decide)).tr Tc7.1.2.2).tr Tc8.1.2.2⟩ (fun k _ => by rw [(f8 42 rfl).2.2.1, (fe7 42 rfl).2.2.1, (fn6 42 rfl).2.2.1])
      have arO7 : ∀ o, mn M ≤ o → o < mn M7 → o ≠ mR M7 4201 95 → ¬ Ar M7 o := fun o h1 h2 h3 ⟨l, hl, z⟩ => by
        by_cases q : l = 95
        · rw [q] at z; exact h3 z
        · rw [(sl l hl q).r] at z
          rcases (hS l hl).2 with g | g <;> omega
      have old95 : ∀ o, mn M ≤ o → o < mn M5 → o ≠ mR M7 4201 95 := fun o h1 h2 z => by
        rcases K7 with q | q
        · rw [q, a95] at z; omega
        · omega
      have up : ∀ o, ((mn M ≤ o ∧ o < mn M5) ∧ o ≠ v ∧ o ≠ v + 2) → ((mn M ≤ o ∧ o < mn M7) ∧ ¬ Ar M7 o) := fun o ho => ⟨⟨ho.1.1, by have := ho.1.2; omega⟩, arO7 o ho.1.1 (by have := ho.1.2; omega) (old95 o ho.1.1 ho.1.2)⟩
      obtain ⟨kv1, kv2⟩ := E67.1.2.2.2 (show mR M6 411 90 < v + 1 by omega) (show mR M6 411 90 ≠ 90 by omega)
      have kvr : ∀ g, mR M7 g v = mR M5 g v := fun g => by
        have := kv1 g
        have this : mR M7 g (mR M6 411 90) = mR M6 g (mR M6 411 90) := this
        rw [h4116, r6] at this; exact this
      have kvi : ∀ g, g ≠ 1804 → mI M7 g v = mI M5 g v := fun g hg => by
        have := kv2 g hg
        have this : mI M7 g (mR M6 411 90) = mI M6 g (mR M6 411 90) := this
        rw [h4116, sv6.i] at this; exact this
      have fA : ∀ f, f = 44 ∨ f = 45 ∨ f = 46 → tA σ8 f cc = tA σ5 f cc := fun f hf => by rcases hf with rfl | rfl | rfl <;> rw [(f8 _ rfl).2.2.1, (fe7 _ rfl).2.2.1, (fn6 _ rfl).2.2.1]
      have h58 : tI σ8 58 = nI (E0 + es.length) := by rw [(f8 58 rfl).1, (fe7 58 rfl).1, (fn6 58 rfl).1]; exact x11
      have hCc : CcR C (fun o => (mn M ≤ o ∧ o < mn M7) ∧ ¬ Ar M7 o) M7 σ8 cc v := by
        refine ⟨⟨⟨⟨⟨by omega, by omega⟩, arO7 v (by omega) (by omega) (old95 v (by omega) (by omega))⟩, by rw [F7.k (by omega), k6]; exact x3⟩, w, by rw [kvi 1800 (by decide)]; exact hwv.1, hwv.2.1, hwv.2.2.1, by rw [(f8 41 rfl).2.2.2, (fe7 41 rfl).2.2.2, (fn6 41 rfl).2.2.2, wc7, ← wcM5]; exact hwv.2.2.2⟩, by rw [kvi 1801 (by decide), fA 44 (by decide)]; exact x6, ⟨E0, es, ?_, by rw [fA 45 (by decide)]; exact x9, by rw [fA 46 (by decide)]; exact x10, x12, x13, by rw [h58, ix_nI (by omega)]; omega, fun j hj => (hEl j hj).wz W57 up (by rw [x11, ix_nI (by omega)]; omega)⟩, ?_⟩
        · rw [kvr, x4]; exact hLs.wz W57 up
        · rw [kvr, h1803', v47]
          have te : tE σ8 = tE σ7 := by unfold tE; rw [(f8 72 rfl).1]
          rw [te]
          refine RW.wz (Wz.of (X := none_) hnf Fz.rf (fun o _ z => absurd z (fun q => q)) (fun o ho => ho.1.1.2) (fun w _ => rfl) ⟨z78, q78, Tc8.1.2.1, Tc8.1.2.2⟩ (fun k _ => by rw [(f8 42 rfl).2.2.1])) (fun o ho => ?_) (Nat.le_refl _)
          have h1 : v + 1 ≤ o := ho.1.1.1
          exact ⟨⟨by omega, ho.1.1.2⟩, arO7 o (by omega) ho.1.1.2 ho.1.2⟩
      have L887 : Ls M7 88 mss := L88.so2 G7 (sl 88 (by decide) (by decide)) (sa 88 (by decide) (by decide))
      have L977 : Ls M7 97 ns := L97.so2 G7 (sl 97 (by decide) (by decide)) (sa 97 (by decide) (by decide))
      have e72 := P7.e1
      rcases cl_ti I0 (by omega) hcc G7 (fun o _ z => z) rows7 S7 P8 (by omega) TP7 hCc h4117 (by omega) (by omega) wc7 L887 L977 TC8 TZ8 QZ8 (by rw [(f8 49 rfl).1, (fe7 49 rfl).1, (fn6 49 rfl).1, (fe5 49 rfl).1]; exact t49) (by rw [(f8 48 rfl).1, (fe7 48 rfl).1, (fn6 48 rfl).1, (fe5 48 rfl).1]; exact t48) ⟨⟨E0 + es.length, h58, by omega⟩, ⟨K5, by rw [(f8 65 rfl).1, (fe7 65 rfl).1, (fn6 65 rfl).1]; exact hK5.1, hK5.2.1, by omega⟩, tE σ7, by rw [(f8 72 rfl).1]; exact e72.1, e72.2.1, e72.2.2⟩ with ⟨M', σ', e1, e2, e3⟩ | ⟨w', M', σ', e1, e2, e3⟩
      · rw [e1, e2]
        exact Or.inl ⟨M', σ', i7 + 2, v, rfl, rfl, e3, by omega⟩
      · rw [e1, e2]
        exact Or.inr ⟨w', M', σ', rfl, rfl, e3⟩
    · rw [b1, obS_inr, b2, ob_some, ifT hin, nm_eq, hix]
      obtain ⟨f1, ⟨f2, f3⟩, f4, f5, f6⟩ := fb
      have fe7 := fS_F_equations _ _ _ _ b2
      rw [t_endb (show tI (tsA σ7 47 cc y) 0 ≠ 0 from f1.2.2.2.2)]
      have f8 : Ft [47] σ7 (tsA σ7 47 cc y) := (Ft.rf _ σ7).p_tsA rfl
      have TC8 : Tc cc σ (tsA σ7 47 cc y) := (Tc6.tr (Tc.eq f4.2.2 fe7 (by decide))).tr Tc.w47
      exact Or.inr ⟨w', M7, _, rfl, rfl, FL.of P0 hS L97 F0 ha0 htw h49t h48t (KX M7 f2) (fun o _ z => z) (K95 M7 f2) f3 ⟨f1.1, f1.2.1, f1.2.2.1, f1.2.2.2.1, f1.2.2.2.2⟩ f5 (TC8.tw ((Tz6.tr f4.2.1).tr (Tz.ft f8 (by decide))) (by omega))⟩
end CLBODY
