/-! Layer B: the flat model: one variable more -/
set_option maxRecDepth 100000
/-- how many an element of size z is -/
def many (z : Nat) : Nat := if z = 0 then 1 else z
/-- whose a new variable's writes are -/
def Tv (V t : Nat) : Prop := t = 1 ∨ t = 98 ∨ t = tg 98 V ∨ t = tg 200 V
section VAR1
variable {C C' : PC} {D D' D2 : FQ} {M M' M1 M2 : CM} {σ σ' σ2 : TS} {mss fss xs bs qs os : List Nat} {B l k n o m u w Q I I' L V V' Bm Bm' b v r R E E' cr i k0 fr e eo fl z env kk : Nat} {P P' X T : Nat → Prop} {S S' : List Nat} {a : Nat × Nat × Nat} {W W1 W2 : List (Nat × Nat × Nat)} {x : Int64} {α : Type}
theorem k_many {mo : Nat} (h : mk M mo = 16) (hz : mI M 3002 mo = nI z) (h9 : z ≤ 9) : K_X16_many mo M = some (nI (many z), M) := by
  unfold K_X16_many many
  rw [ifT h, hz]
  by_cases q : z = 0
  · rw [ifT (show nI z = 0 from by rw [q]; rfl), ifT q]; rfl
  · rw [ifF (show ¬ nI z = 0 from fun y => q ((bI_eq (b := 0) (by omega) (by decide)).mp y)), ifT h, ifF q]
/-- what a variable's element says -/
def ElV (P : Nat → Prop) (M : CM) (σ : TS) (eo e w fl z : Nat) : Prop := P eo ∧ mk M eo = 11 ∧ (mI M 2003 eo = nI w ∧ 38 ≤ w) ∧ (mI M 2004 eo = nI z ∧ tA σ 53 e = nI z ∧ z ≤ 9) ∧ (fl < 64 ∧ mI M 2001 eo = nI (32 * fl) ∧ tA σ 52 e = nI fl) ∧ P (mR M 2005 eo) ∧ UnR M σ (mR M 2005 eo) e
/-- the component's step -/
theorem k_var1 {io mo vo uo : Nat} {y5 y6 y7 y8 f : Nat} (hmo : mk M mo = 16 ∧ mI M 3002 mo = nI z) (hkk : kk < many z) (a1 : K_X0_newVar M = some (.inl vo, M1)) (kv : mk M1 vo = 17) (ku : mR M1 3204 vo = uo ∧ mk M1 uo = 50 ∧ ml M1 uo = 3) (he : ElV P M1 σ eo e w fl z) : KL_X0_variables_171 (f + 1) io mo eo y5 y6 y7 y8 (nI kk) M = KL_X0_variables_171 f io mo eo y5 y6 y7 y8 (nI (kk + 1)) (mkV M1 vo uo io eo (nI w) (nI (if z = 0 then 0 else kk + 1)) (vKind fl) (vFlow fl) y5 y6 y7 y8) := by
  obtain ⟨pe, ke, ⟨hw, hw38⟩, ⟨hz, hz2, hz9⟩, ⟨hfl, hf1, hf2⟩, pu, u1, u2, u3⟩ := he
  obtain ⟨ku1, ku2, ku3⟩ := ku
  have hm10 : many z ≤ 9 := by unfold many; by_cases q : z = 0 <;> simp [q] <;> omega
  obtain ⟨b5, b6, b7, _⟩ := bit_par fl hfl
  obtain ⟨Ma, hMa⟩ : ∃ Ma, Ma = msI (msI (msR M1 3200 vo io) 3201 vo (nI w)) 3202 vo (nI (if z = 0 then 0 else kk + 1)) := ⟨_, rfl⟩
  have ka : mk Ma eo = 11 ∧ mk Ma vo = 17 := by rw [hMa]; exact ⟨ke, kv⟩
  have fa : mI Ma 2001 eo = nI (32 * fl) := by rw [hMa, mI_msI, ifF (by omega), mI_msI, ifF (by omega), mI_msR]; exact hf1
  have k253 : ∀ kd : Int32, KJ_X0_variables_253_171 (KL_X0_variables_171 f) io mo eo y5 y6 y7 y8 (nI kk) vo vo kd Ma = KL_X0_variables_171 f io mo eo y5 y6 y7 y8 (nI (kk + 1)) (mkV M1 vo uo io eo (nI w) (nI (if z = 0 then 0 else kk + 1)) kd (vFlow fl) y5 y6 y7 y8) := fun kd => by
    obtain ⟨Mb, hMb⟩ : ∃ Mb, Mb = msI Ma 3203 vo kd := ⟨_, rfl⟩
    have kb : mk Mb eo = 11 ∧ mk Mb vo = 17 := by rw [hMb]; exact ka
    have rb : mR Mb 2005 eo = mR M1 2005 eo ∧ mR Mb 3204 vo = uo := by
      rw [hMb, hMa]
      refine ⟨?_, ?_⟩
      · rw [mR_msI, mR_msI, mR_msI, mR_msR, ifF (by omega)]
      · rw [mR_msI, mR_msI, mR_msI, mR_msR, ifF (by omega)]; exact ku1
    have kub : mk Mb (mR M1 2005 eo) = 50 ∧ ml Mb (mR M1 2005 eo) = 3 ∧ mk Mb uo = 50 ∧ ml Mb uo = 3 := by rw [hMb, hMa]; exact ⟨u1, u2, ku2, ku3⟩
    obtain ⟨Mc, hMc⟩ : ∃ Mc, Mc = mcA Mb (mR M1 2005 eo) 0 uo 0 3 := ⟨_, rfl⟩
    have kc : mk Mc eo = 11 ∧ mk Mc vo = 17 := by rw [hMc]; exact kb
    have fc : mI Mc 2001 eo = nI (32 * fl) := by rw [hMc, hMb, mI_mcA, mI_msI, ifF (by omega)]; exact fa
    have ff : (if ¬ (nI fl &&& 2 = 0) then (1 : Int32) else 0) = vFlow fl := by
      unfold vFlow
      by_cases q : nI fl &&& 2 = 0
      · rw [ifF (fun z => z q), ifT q]
      · rw [ifT q, ifF q]
    unfold KJ_X0_variables_253_171
    rw [ifT ka.2, nm_eq, ← hMb, ifT kb.1, ifT kb.2, rb.1, rb.2, ifT ⟨kub.1, kub.2.2.1, by decide, by decide, by decide, by rw [kub.2.1]; decide, by rw [kub.2.2.2]; decide⟩, nm_eq]
    rw [show mcA Mb (mR M1 2005 eo) (ix 0) uo (ix 0) (ix 3) = Mc from by rw [hMc]; rfl, ifT kc.1, is_bit (c := ¬ nI fl &&& 2 = 0) kc.1 (by rw [fc]; exact b6), ff, ob_some, ifT kc.2, nm_eq]
    have kx : ∀ N : CM, mk N = mk Mc → mk N vo = 17 := fun N q => by rw [q]; exact kc.2
    obtain ⟨N1, hN1⟩ : ∃ N, N = msI Mc 3205 vo (vFlow fl) := ⟨_, rfl⟩
    rw [← hN1, ifT (kx N1 (by rw [hN1]; rfl)), nm_eq]
    obtain ⟨N2, hN2⟩ : ∃ N, N = msR N1 3206 vo y5 := ⟨_, rfl⟩
    rw [← hN2, ifT (kx N2 (by rw [hN2, hN1]; rfl)), nm_eq]
    obtain ⟨N3, hN3⟩ : ∃ N, N = msR N2 3207 vo y6 := ⟨_, rfl⟩
    rw [← hN3, ifT (kx N3 (by rw [hN3, hN2, hN1]; rfl)), nm_eq]
    obtain ⟨N4, hN4⟩ : ∃ N, N = msR N3 3208 vo y7 := ⟨_, rfl⟩
    rw [← hN4, ifT (kx N4 (by rw [hN4, hN3, hN2, hN1]; rfl)), nm_eq]
    obtain ⟨N5, hN5⟩ : ∃ N, N = msR N4 3209 vo y8 := ⟨_, rfl⟩
    rw [← hN5, ifT (kx N5 (by rw [hN5, hN4, hN3, hN2, hN1]; rfl)), nm_eq]
    obtain ⟨N6, hN6⟩ : ∃ N, N = msR N5 3210 vo 0 := ⟨_, rfl⟩
    rw [← hN6, ifT (kx N6 (by rw [hN6, hN5, hN4, hN3, hN2, hN1]; rfl)), nm_eq]
    obtain ⟨N7, hN7⟩ : ∃ N, N = msR N6 3211 vo 0 := ⟨_, rfl⟩
    rw [← hN7, ifT (kx N7 (by rw [hN7, hN6, hN5, hN4, hN3, hN2, hN1]; rfl)), nm_eq]
    obtain ⟨N8, hN8⟩ : ∃ N, N = msI N7 3212 vo 0 := ⟨_, rfl⟩
    rw [← hN8, ifT (kx N8 (by rw [hN8, hN7, hN6, hN5, hN4, hN3, hN2, hN1]; rfl)), nm_eq]
    obtain ⟨N9, hN9⟩ : ∃ N, N = msI N8 3213 vo 0 := ⟨_, rfl⟩
    rw [← hN9, ifT (kx N9 (by rw [hN9, hN8, hN7, hN6, hN5, hN4, hN3, hN2, hN1]; rfl)), nm_eq, nI_addL, nm_eq]
    rw [hN9, hN8, hN7, hN6, hN5, hN4, hN3, hN2, hN1, hMc, hMb, hMa]
    rfl
  have k220 : KJ_X0_variables_220_171 (KL_X0_variables_171 f) io mo eo y5 y6 y7 y8 (nI kk) vo vo (nI (if z = 0 then 0 else kk + 1)) (msI (msR M1 3200 vo io) 3201 vo (nI w)) = KL_X0_variables_171 f io mo eo y5 y6 y7 y8 (nI (kk + 1)) (mkV M1 vo uo io eo (nI w) (nI (if z = 0 then 0 else kk + 1)) (vKind fl) (vFlow fl) y5 y6 y7 y8) := by
    unfold KJ_X0_variables_220_171
    rw [ifT (show mk (msI (msR M1 3200 vo io) 3201 vo (nI w)) vo = 17 from kv), nm_eq, ← hMa, ifT ka.1, is_bit (c := ¬ nI fl &&& 1 = 0) ka.1 (by rw [fa]; exact b5), ob_some]
    by_cases y1 : nI fl &&& 1 = 0
    · rw [ifF (show ¬ ¬ nI fl &&& 1 = 0 from fun q => q y1), ifT (rfl : (0 : Int32) = 0), ifT ka.1, is_bit (c := ¬ nI fl &&& 4 = 0) ka.1 (by rw [fa]; exact b7), ob_some]
      by_cases y4 : nI fl &&& 4 = 0
      · have ek : vKind fl = 0 := by unfold vKind; rw [ifT y1, ifT y4]
        rw [ifF (show ¬ ¬ nI fl &&& 4 = 0 from fun q => q y4), ifT (rfl : (0 : Int32) = 0), ek]; exact k253 0
      · have ek : vKind fl = 2 := by unfold vKind; rw [ifT y1, ifF y4]
        rw [ifT (show ¬ nI fl &&& 4 = 0 from y4), ifF (show ¬ (1 : Int32) = 0 by decide), ek]; exact k253 2
    · have ek : vKind fl = 1 := by unfold vKind; rw [ifF y1]
      rw [ifT (show ¬ nI fl &&& 1 = 0 from y1), ifF (show ¬ (1 : Int32) = 0 by decide), ek]; exact k253 1
  have e2003 : mI (msR M1 3200 vo io) 2003 eo = nI w := hw
  have e2004 : mI (msI (msR M1 3200 vo io) 3201 vo (nI w)) 2004 eo = nI z := by rw [mI_msI, ifF (by omega), mI_msR]; exact hz
  rw [KL_X0_variables_171, ifT hmo.1, k_many hmo.1 hmo.2 hz9, ob_some, ifF (fun q => by have := (bI_le (by omega) (by omega)).mp q; omega), a1, obS_inl, ifT kv, nm_eq, ifT (show mk (msR M1 3200 vo io) eo = 11 from ke), ifT (show mk (msR M1 3200 vo io) vo = 17 from kv), e2003, nm_eq, ifT (show mk (msI (msR M1 3200 vo io) 3201 vo (nI w)) eo = 11 from ke), e2004]
  by_cases q : z = 0
  · rw [ifT (show nI z = 0 from by rw [q]; rfl)]
    rw [ifT q] at k220 ⊢
    exact k220
  · rw [ifF (show ¬ nI z = 0 from fun y => q ((bI_eq (b := 0) (by omega) (by decide)).mp y)), nI_addL]
    rw [ifF q] at k220 ⊢
    exact k220
end VAR1
