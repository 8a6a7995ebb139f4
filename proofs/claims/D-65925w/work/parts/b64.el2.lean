/-! Layer B: elements: their types and units -/
set_option maxRecDepth 100000
abbrev unS : List Nat := [10, 11, 12, 13, 14, 15, 16, 17, 18, 21, 54]
section EL2
variable {C : PC} {M M' M0 Mb : CM} {σ σ' σ0 σb s1 : TS} {i dep c s n so ib depb cb' sb' nb' i0 v l p w m Q Q' N k k0 el le e K fl sz cc E0 cur ce a : Nat} {bs qs bs' os es : List Nat}
theorem un_step {f f' acc : Nat} (Pb : Pe C Mb σb ib depb cb' sb' nb') (E : Es Mb σb M σ) (P : Pe C M σ i dep c s n) (hc : 1 ≤ c) (hs : 8 ≤ s) (he : e < 481) (hk : k < 3) (hf : 3 - k ≤ f') (hv : (mn Mb ≤ v ∧ v < mn M) ∧ mk M v = 11) (ha : (mn Mb ≤ a ∧ a < mn M) ∧ mR M 2005 v = a ∧ mk M a = 50 ∧ ml M a = 3) (hva : v ≠ a) (h54 : tA σ 54 e = nI acc) (hacc : ∀ u, u < 16 → nI acc ||| (nI u <<< ((5 * nI k) &&& 31)) = nI (acc + 32 ^ k * u)) :
    (∃ M' σ' i' u, KL_X2_element_162 (f + 1) v (nI k) M = KL_X2_element_162 f v (nI (k + 1)) M' ∧ L_readUnit_6 (f' + 1) (nI e) (nI k) σ = L_readUnit_6 f' (nI e) (nI (k + 1)) σ' ∧ Pe C M' σ' i' dep c s n ∧ i < i' ∧ Es Mb σb M' σ' ∧ 1 ≤ u ∧ u ≤ 15 ∧ mA M' a k = nI u - 8 ∧ (∀ j, j ≠ k → mA M' a j = mA M a j) ∧ tA σ' 54 e = nI (acc + 32 ^ k * u) ∧ Fz (fun o => o = 90 ∨ o = a) M M' ∧ Ft unS σ σ' ∧ ∀ j, j ≠ e → tA σ' 54 j = tA σ 54 j) ∨
    (∃ w M' y σ', KL_X2_element_162 (f + 1) v (nI k) M = some (.inr (.inr w), M') ∧ L_readUnit_6 (f' + 1) (nI e) (nI k) σ = some (y, σ') ∧ FB C Mb σb M' w σ') := by
  have h167 := Pb.n167
  have hr : ∀ σ' s', Br C σ' s' → BW C σ' (L_readUnit_6 f' (nI e) (nI k + 1) s') := fun σ' s' hb => by
    rw [nI_addL]
    have := bw_L6 he (3 - (k + 1)) (f' - (3 - k)) (k + 1) s' (by omega) hb
    rw [show f' - (3 - k) + (3 - (k + 1)) + 1 = f' by omega] at this
    exact this
  have k3 : ¬ (3 : Int32) ≤ nI k := by rw [show (3 : Int32) = nI 3 from rfl, bI_le (by decide) (by omega)]; omega
  rw [KL_X2_element_162, L_readUnit_6, ifF k3, ifF k3]
  by_cases hk0 : k = 0
  · subst hk0
    rw [ifT (show nI 0 ≤ (0 : Int32) from by decide), ifT (show nI 0 ≤ (0 : Int32) from by decide)]
    rcases un_round (recK := KL_X2_element_162 f) (recT := L_readUnit_6 f') Pb E P hc hs he hk hv ha hva h54 hacc hr with ⟨M', σ', i', u, q1, q2, q3, q4, q5, q6, q7, q8, q9, q10, q11, q12, q13⟩ | q
    · exact Or.inl ⟨M', σ', i', u, q1, q2, q3, q4, q5, q6, q7, q8, q9, q10, q11, q13⟩
    · exact Or.inr q
  · have kn : ¬ nI k ≤ (0 : Int32) := by rw [show (0 : Int32) = nI 0 from rfl, bI_le (by omega) (by decide)]; omega
    rw [ifF kn, ifF kn]
    rcases z_pass P hc hs (x := 44) (by decide) with ⟨_, _, σ1, a1, a2, P1, E1, hi1, _, n1⟩ | ⟨w', M1, y, σ1, a1, a2, fb⟩
    · have fr1 := fS_F_next _ _ _ n1
      have sv : So M (msI M 405 90 (nI (i + 1))) v := E1.1.so hv.1.2 (by omega)
      have sa : So M (msI M 405 90 (nI (i + 1))) a := E1.1.so ha.1.2 (by omega)
      rw [a1, obS_inl, a2, ob_some]
      rcases un_round (recK := KL_X2_element_162 f) (recT := L_readUnit_6 f') Pb (E.tr E1) P1 (by omega) (by omega) he hk ⟨hv.1, hv.2⟩ ⟨ha.1, ha.2⟩ hva (by rw [(fr1 54 rfl).2.2.1]; exact h54) hacc hr with ⟨M', σ', i', u, q1, q2, q3, q4, q5, q6, q7, q8, q9, q10, q11, q12, q13⟩ | q
      · exact Or.inl ⟨M', σ', i', u, q1, q2, q3.wk (by omega) (by omega) (by omega), by omega, q5, q6, q7, q8, fun j hj => (q9 j hj).trans (sa.a j), q10, (E1.1.mono (fun o _ z => Or.inl z)).tr q11, (fr1.mono (by decide)).tr q13.1, fun j hj => by rw [q13.2 j hj, (fr1 54 rfl).2.2.1]⟩
      · exact Or.inr q
    · rw [a1, obS_inr, a2, ob_some]
      have fb := fb.tr E
      obtain ⟨y2, s2, e2, g2⟩ := bw_J21 he (nI k) (fun s' hb => hr σ1 s' hb) fb.bd
      exact Or.inr ⟨w', M1, y2, s2, rfl, e2, fb.br g2⟩
/-- the three exponents -/
theorem z_unit {kK : CM → Option ((Unit ⊕ Nat) × CM)} (Pb : Pe C Mb σb ib depb cb' sb' nb') (E : Es Mb σb M σ) (P : Pe C M σ i dep c s n) (hc : 1 ≤ c) (hs : 8 ≤ s) (he : e < 481) (hv : (mn Mb ≤ v ∧ v < mn M) ∧ mk M v = 11) (ha : (mn Mb ≤ a ∧ a < mn M) ∧ mR M 2005 v = a ∧ mk M a = 50 ∧ ml M a = 3) (hva : v ≠ a) (h54 : tA σ 54 e = 0) :
    (∃ M' σ' i', (obS (KL_X2_element_162 FU v 0 M) (fun r187 M179 => some (r187, M179)) fun _ M179 => obS (K_X2_sign 62 M179) (fun w185 M181 => some (.inr w185, M181)) fun _ M181 => kK M181) = kK M' ∧ (ob (L_readUnit_6 FU (nI e) 0 σ) fun _ s39 => ob (L_readUnit_97 FU (nI e) 1 0 s39) fun q48 s49 => if q48 = 0 then if inb (nI e) 481 then if inb (nI e) 481 then nm (tsA s49 54 (ix (nI e)) ((tA s49 54 (ix (nI e))) ||| 1048576)) fun s54 => ob (F_pass 62 s54) fun _ s55 => some ((), s55) else none else none else if inb (nI e) 481 then nm (tsA s49 54 (ix (nI e)) 0) fun s60 => ob (F_pass 62 s60) fun _ s61 => some ((), s61) else none) = some ((), σ') ∧ Pe C M' σ' i' dep c s n ∧ i < i' ∧ Es Mb σb M' σ' ∧ UnR M' σ' a e ∧ Fz (fun o => o = 90 ∨ o = a) M M' ∧ Ft unS σ σ' ∧ ∀ j, j ≠ e → tA σ' 54 j = tA σ 54 j) ∨
    (∃ w M' y σ', (obS (KL_X2_element_162 FU v 0 M) (fun r187 M179 => some (r187, M179)) fun _ M179 => obS (K_X2_sign 62 M179) (fun w185 M181 => some (.inr w185, M181)) fun _ M181 => kK M181) = some (.inr w, M') ∧ (ob (L_readUnit_6 FU (nI e) 0 σ) fun _ s39 => ob (L_readUnit_97 FU (nI e) 1 0 s39) fun q48 s49 => if q48 = 0 then if inb (nI e) 481 then if inb (nI e) 481 then nm (tsA s49 54 (ix (nI e)) ((tA s49 54 (ix (nI e))) ||| 1048576)) fun s54 => ob (F_pass 62 s54) fun _ s55 => some ((), s55) else none else none else if inb (nI e) 481 then nm (tsA s49 54 (ix (nI e)) 0) fun s60 => ob (F_pass 62 s60) fun _ s61 => some ((), s61) else none) = some (y, σ') ∧ FB C Mb σb M' w σ') := by
  have h167 := Pb.n167
  have hin : inb (nI e) 481 := inb_nI' he (by decide)
  have hix : ix (nI e) = e := ix_nI (by omega)
  have hF : FU = (FU - 4) + 1 + 1 + 1 + 1 := rfl
  have hF3 : 3 ≤ FU - 4 := by have := FUb; omega
  have badend : ∀ {σ' s' : TS}, Br C σ' s' → BW C σ' (ob (L_readUnit_97 FU (nI e) 1 0 s') fun q48 s49 => if q48 = 0 then if inb (nI e) 481 then if inb (nI e) 481 then nm (tsA s49 54 (ix (nI e)) ((tA s49 54 (ix (nI e))) ||| 1048576)) fun s54 => ob (F_pass 62 s54) fun _ s55 => some ((), s55) else none else none else if inb (nI e) 481 then nm (tsA s49 54 (ix (nI e)) 0) fun s60 => ob (F_pass 62 s60) fun _ s61 => some ((), s61) else none) := fun {σ' s'} hb => by
    obtain ⟨x, hx⟩ := l97 he s' 1
    rw [hx, ob_some]
    exact BW.ite (BW.itT hin (BW.itT hin (BW.nmA hb rfl fun s hb => BW.bo (bw_pass hb _) fun _ s hb => BW.sm hb))) (BW.itT hin (BW.nmA hb rfl fun s hb => BW.bo (bw_pass hb _) fun _ s hb => BW.sm hb))
  have fbend : ∀ {w' : Nat} {M1 : CM} {σ1 : TS} {y : Unit}, FB C Mb σb M1 w' σ1 → ∃ w M' y2 σ', (some ((.inr w' : Unit ⊕ Nat), M1)) = some (.inr w, M') ∧ (ob (some (y, σ1)) fun _ s39 => ob (L_readUnit_97 FU (nI e) 1 0 s39) fun q48 s49 => if q48 = 0 then if inb (nI e) 481 then if inb (nI e) 481 then nm (tsA s49 54 (ix (nI e)) ((tA s49 54 (ix (nI e))) ||| 1048576)) fun s54 => ob (F_pass 62 s54) fun _ s55 => some ((), s55) else none else none else if inb (nI e) 481 then nm (tsA s49 54 (ix (nI e)) 0) fun s60 => ob (F_pass 62 s60) fun _ s61 => some ((), s61) else none) = some (y2, σ') ∧ FB C Mb σb M' w σ' := fun {w' M1 σ1 y} fb => by
    rw [ob_some]
    obtain ⟨y2, s2, e2, g2⟩ := badend fb.bd
    exact ⟨w', M1, y2, s2, rfl, e2, fb.br g2⟩
  have c0 : ∀ u, u < 16 → nI 0 ||| (nI u <<< ((5 * nI 0) &&& 31)) = nI (0 + 32 ^ 0 * u) := fun u hu => by
    rw [show 0 + 32 ^ 0 * u = u by omega]; exact (un_or u hu).1
  rw [hF]
  rcases un_step (f := FU - 4 + 1 + 1 + 1) (f' := FU - 4 + 1 + 1 + 1) Pb E P hc hs he (k := 0) (by decide) (by omega) hv ha hva (acc := 0) (by rw [h54]; rfl) c0 with ⟨M1, σ1, i1, u0, a1, a2, P1, a3, E1, a4, a5, a6, a7, a8, F1, S1⟩ | ⟨w', M1, y, σ1, a1, a2, fb⟩
  rotate_left
  · right
    have a1 : KL_X2_element_162 (FU - 4 + 1 + 1 + 1 + 1) v 0 M = _ := a1
    have a2 : L_readUnit_6 (FU - 4 + 1 + 1 + 1 + 1) (nI e) 0 σ = _ := a2
    rw [a1, obS_inr, a2]; exact fbend fb
  have a1 : KL_X2_element_162 (FU - 4 + 1 + 1 + 1 + 1) v 0 M = _ := a1
  have a2 : L_readUnit_6 (FU - 4 + 1 + 1 + 1 + 1) (nI e) 0 σ = _ := a2
  rw [a1, a2]
  have n1 := F1.1
  have sv1 : So M M1 v := F1.so hv.1.2 (by omega)
  have hv1 : (mn Mb ≤ v ∧ v < mn M1) ∧ mk M1 v = 11 := ⟨⟨hv.1.1, by omega⟩, by rw [sv1.k]; exact hv.2⟩
  have ka1 := F1.2.1 a ha.1.2
  have ha1 : (mn Mb ≤ a ∧ a < mn M1) ∧ mR M1 2005 v = a ∧ mk M1 a = 50 ∧ ml M1 a = 3 := ⟨⟨ha.1.1, by omega⟩, by rw [sv1.r]; exact ha.2.1, by rw [ka1.1]; exact ha.2.2.1, by rw [ka1.2]; exact ha.2.2.2⟩
  have c1 : ∀ u, u < 16 → nI (0 + 32 ^ 0 * u0) ||| (nI u <<< ((5 * nI (0 + 1)) &&& 31)) = nI (0 + 32 ^ 0 * u0 + 32 ^ (0 + 1) * u) := fun u hu => by
    rw [show 0 + 32 ^ 0 * u0 = u0 by omega, show u0 + 32 ^ (0 + 1) * u = u0 + 32 * u by omega]; exact ((un_or u hu).2 u0 (by omega)).1
  rcases un_step (f := FU - 4 + 1 + 1) (f' := FU - 4 + 1 + 1) Pb E1 P1 hc hs he (k := 0 + 1) (by decide) (by omega) hv1 ha1 hva a8 c1 with ⟨M2, σ2, i2, u1, b1, b2, P2, b3, E2, b4, b5, b6, b7, b8, F2, S2⟩ | ⟨w', M2, y, σ2, b1, b2, fb⟩
  rotate_left
  · right; rw [b1, obS_inr, b2]; exact fbend fb
  rw [b1, b2]
  have n2 := F2.1
  have sv2 : So M1 M2 v := F2.so hv1.1.2 (by omega)
  have hv2 : (mn Mb ≤ v ∧ v < mn M2) ∧ mk M2 v = 11 := ⟨⟨hv.1.1, by omega⟩, by rw [sv2.k]; exact hv1.2⟩
  have ka2 := F2.2.1 a ha1.1.2
  have ha2 : (mn Mb ≤ a ∧ a < mn M2) ∧ mR M2 2005 v = a ∧ mk M2 a = 50 ∧ ml M2 a = 3 := ⟨⟨ha.1.1, by omega⟩, by rw [sv2.r]; exact ha1.2.1, by rw [ka2.1]; exact ha1.2.2.1, by rw [ka2.2]; exact ha1.2.2.2⟩
  have c2 : ∀ u, u < 16 → nI (0 + 32 ^ 0 * u0 + 32 ^ (0 + 1) * u1) ||| (nI u <<< ((5 * nI (0 + 1 + 1)) &&& 31)) = nI (0 + 32 ^ 0 * u0 + 32 ^ (0 + 1) * u1 + 32 ^ (0 + 1 + 1) * u) := fun u hu => by
    rw [show 0 + 32 ^ 0 * u0 + 32 ^ (0 + 1) * u1 = u0 + 32 * u1 by omega, show u0 + 32 * u1 + 32 ^ (0 + 1 + 1) * u = u0 + 32 * u1 + 1024 * u by omega]; exact ((un_or u hu).2 u0 (by omega)).2 u1 (by omega)
  rcases un_step (f := FU - 4 + 1) (f' := FU - 4 + 1) Pb E2 P2 hc hs he (k := 0 + 1 + 1) (by decide) (by omega) hv2 ha2 hva b8 c2 with ⟨M3, σ3, i3, u2, d1, d2, P3, d3, E3, d4, d5, d6, d7, d8, F3, S3⟩ | ⟨w', M3, y, σ3, d1, d2, fb⟩
  rotate_left
  · right; rw [d1, obS_inr, d2]; exact fbend fb
  have ka3 := F3.2.1 a ha2.1.2
  have h54' : tA σ3 54 e = nI (u0 + 32 * u1 + 1024 * u2) := by
    rw [d8]; congr 1; omega
  have l97' := l97v he (a := u0) (b := u1) (v := u2) (by omega) (by omega) (by omega) h54'
  rw [d1, d2, KL_X2_element_162, ifT (show (3 : Int32) ≤ nI (0 + 1 + 1 + 1) from by decide), obS_inl, L_readUnit_6, ifT (show (3 : Int32) ≤ nI (0 + 1 + 1 + 1) from by decide), ob_some, show FU - 4 + 1 + 1 + 1 + 1 = FU from rfl, l97', ob_some, hix, ifT hin, ifT hin, ifT hin]
  obtain ⟨σ4, hT, f4, h4, h4'⟩ : ∃ σ4, (if (if u0 = 8 ∧ u1 = 8 ∧ u2 = 8 then (1 : Int32) else 0) = 0 then nm (tsA σ3 54 e ((tA σ3 54 e) ||| 1048576)) fun s54 => ob (F_pass 62 s54) fun _ s55 => some ((), s55) else nm (tsA σ3 54 e 0) fun s60 => ob (F_pass 62 s60) fun _ s61 => some ((), s61)) = (ob (F_pass 62 σ4) fun _ s55 => some ((), s55)) ∧ Ft [54] σ3 σ4 ∧ tA σ4 54 e = (if u0 = 8 ∧ u1 = 8 ∧ u2 = 8 then 0 else nI (u0 + 32 * u1 + 1024 * u2 + 1048576)) ∧ ∀ j, j ≠ e → tA σ4 54 j = tA σ3 54 j := by
    by_cases z : u0 = 8 ∧ u1 = 8 ∧ u2 = 8
    · refine ⟨tsA σ3 54 e 0, ?_, (Ft.rf _ _).p_tsA rfl, by rw [tA_tsA, ifT ⟨rfl, rfl⟩, ifT z], fun j hj => by rw [tA_tsA, ifF (by omega)]⟩
      rw [ifT z, ifF (show ¬ (1 : Int32) = 0 from by decide), nm_eq]
    · refine ⟨tsA σ3 54 e ((tA σ3 54 e) ||| 1048576), ?_, (Ft.rf _ _).p_tsA rfl, by rw [tA_tsA, ifT ⟨rfl, rfl⟩, ifF z, h54']; exact (un_at u0 (by omega) u1 (by omega) u2 (by omega)).2.2.2, fun j hj => by rw [tA_tsA, ifF (by omega)]⟩
      rw [ifF z, ifT rfl, nm_eq]
  rw [hT]
  have P4 := P3.tx f4 (by decide)
  have E4 := E3.tx f4 (by decide)
  have F03 := (F1.tr F2).tr F3
  rcases z_pass P4 hc hs (x := 62) (by decide) with ⟨_, _, σ5, g1, g2, P5, E5, hi5, _, n5⟩ | ⟨w', M5, y, σ5, g1, g2, fb⟩
  · have fr5 := fS_F_next _ _ _ n5
    left
    rw [g1, obS_inl, g2, ob_some]
    have s5 : So M3 (msI M3 405 90 (nI (i3 + 1))) a := E5.1.so (by have := F3.1; omega) (by omega)
    refine ⟨_, σ5, i3 + 1, rfl, rfl, P5.wk (by omega) (by omega) (by omega), by omega, E4.tr E5, ⟨by rw [s5.k, ka3.1]; exact ha2.2.2.1, by rw [s5.l, ka3.2]; exact ha2.2.2.2, fun k => if k = 0 then u0 else if k = 1 then u1 else u2, fun k hk => ?_, ?_⟩, F03.tr (E5.1.mono (fun o _ z => Or.inl z)), ((((S1.1.tr S2.1).tr S3.1).tr (f4.mono (by decide))).tr (fr5.mono (by decide))), fun j hj => ?_⟩
    · rw [s5.a]
      rcases (by omega : k = 0 ∨ k = 1 ∨ k = 2) with rfl | rfl | rfl
      · exact ⟨by rw [d7 0 (by decide), b7 0 (by decide)]; exact a6, a4, a5⟩
      · exact ⟨by rw [d7 1 (by decide)]; exact b6, b4, b5⟩
      · exact ⟨d6, d4, d5⟩
    · rw [(fr5 54 rfl).2.2.1, h4]; rfl
    · rw [(fr5 54 rfl).2.2.1, h4' j hj, S3.2 j hj, S2.2 j hj, S1.2 j hj]
  · right
    rw [g1, obS_inr, g2, ob_some]
    exact ⟨w', M5, _, σ5, rfl, rfl, fb.tr E4⟩
end EL2
