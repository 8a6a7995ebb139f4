/-! Layer B: the flat model: a member is made: what each side does -/
set_option maxRecDepth 100000
/-- what is written at a new member -/
def mbW (M : CM) (mo eo io : Nat) (w z ty rl : Int32) : CM := msR (msR (msI (msI (msR (msI (msI M 3000 mo w) 3002 mo z) 3003 mo eo) 3001 mo ty) 3004 mo rl) 3006 mo io) 3007 mo 0
/-- the rest of an element -/
def elB (cf : Nat → Nat → Int32 → Int32 → Int32 → CM → Option ((Unit ⊕ Nat) × CM)) (io eo mo : Nat) (x3 x4 x5 : Int32) (M : CM) : Option ((Unit ⊕ Nat) × CM) := nm (mI M 18 1) fun v => ob (KL_X0_element_119 cf FU io eo x4 x5 mo v (-1) x3 M) fun y M1 => if mk M1 eo = 11 then ob (K_X0_addRows (mR M1 2006 eo) io M1) fun _ M2 => if mk M2 eo = 11 then ob (K_X11_isReal eo M2) fun r M3 => if r = 0 then obS (cf io mo v y x5 M3) (fun w M4 => some (.inr w, M4)) fun _ M4 => nm (msI M4 18 1 v) fun M5 => some (.inl (), M5) else if y < 0 then obS (K_X0_variables io mo v M3) (fun w M4 => some (.inr w, M4)) fun _ M4 => nm (msI M4 18 1 v) fun M5 => some (.inl (), M5) else ob (K_X0_wrong 22 0 M3) fun r M4 => if mk M4 r = 7 then some (.inr r, M4) else none else none else none
/-- what the twin notes of a new member -/
def mbT (σ : TS) (i e b : Nat) : TS := tsA (tsA (tsA (tsA (tsA (tsA (tsI σ 89 (nI (b + 1))) 83 b (nI i)) 87 b (tA σ 88 i)) 88 i (nI b)) 84 b (nI e)) 85 b (-1)) 86 b (-1)
section NEWMB
variable {M M' M1 M2 M3 : CM} {σ σ' : TS} {w z ty : Int32} {io eo mo lo i e b n : Nat} {x3 x4 x5 y : Int32} {cf : Nat → Nat → Int32 → Int32 → Int32 → CM → Option ((Unit ⊕ Nat) × CM)} {cf' : Int32 → Int32 → Int32 → TS → Option (Unit × TS)}
theorem mbW_f : Fz (fun o => o = mo) M (mbW M mo eo io w z ty x3) := by
  unfold mbW
  exact ((((((Fz.rf (X := fun o => o = mo)).msI (fun _ => rfl)).msI (fun _ => rfl)).msR (fun _ => rfl)).msI (fun _ => rfl)).msI (fun _ => rfl)).msR (fun _ => rfl) |>.msR (fun _ => rfl)
theorem mbW_v : (mI (mbW M mo eo io w z ty x3) 3000 mo = w ∧ mI (mbW M mo eo io w z ty x3) 3002 mo = z ∧ mR (mbW M mo eo io w z ty x3) 3003 mo = eo ∧ mI (mbW M mo eo io w z ty x3) 3001 mo = ty ∧ mI (mbW M mo eo io w z ty x3) 3004 mo = x3 ∧ mR (mbW M mo eo io w z ty x3) 3006 mo = io ∧ mR (mbW M mo eo io w z ty x3) 3007 mo = 0) ∧ (∀ o, mk (mbW M mo eo io w z ty x3) o = mk M o ∧ ml (mbW M mo eo io w z ty x3) o = ml M o ∧ mR (mbW M mo eo io w z ty x3) 2605 o = mR M 2605 o ∧ mR (mbW M mo eo io w z ty x3) 4201 o = mR M 4201 o ∧ mR (mbW M mo eo io w z ty x3) 3204 o = mR M 3204 o) ∧ mn (mbW M mo eo io w z ty x3) = mn M ∧ ms (mbW M mo eo io w z ty x3) = ms M := by
  unfold mbW
  refine ⟨⟨?_, ?_, ?_, ?_, ?_, ?_, ?_⟩, fun o => ⟨rfl, rfl, ?_, ?_, ?_⟩, rfl, rfl⟩
  all_goals simp [mR_msR, mR_msI, mI_msI, mI_msR]
theorem k_newMb (ke : mk M eo = 11) (ki : mk M io = 14) (hw : mI M 2003 eo = w) (hm : K_X14_member io w M = some (0, M)) (hn : K_X0_newMember M = some (mo, M1)) (k1 : mk M1 eo = 11 ∧ mk M1 mo = 16 ∧ mk M1 io = 14) (e1 : mI M1 2003 eo = w ∧ mI M1 2004 eo = z ∧ mI M1 2002 eo = ty) (hl : mR M1 2605 io = lo ∧ mk M1 lo = 22) (ne : eo ≠ mo) (ha : K_J2_add lo mo (mbW M1 mo eo io w z ty (if ty = 12 then 1 else 0)) = some ((1 : Int32), M3)) (k3 : mk M3 eo = 11) :
    KB_X0_element cf io eo x3 x4 x5 M = ob (K_X11_is eo 9 M3) fun r41 M40 => if r41 = 0 then elB cf io eo mo x3 x4 x5 M40 else ob (K_J2_add 102 mo M40) fun _ M111 => some (.inl (), M111) := by
  obtain ⟨k11, k16, k14⟩ := k1
  obtain ⟨Ma, hMa⟩ : ∃ N, N = msI M1 3000 mo w := ⟨_, rfl⟩
  obtain ⟨Mb, hMb⟩ : ∃ N, N = msI Ma 3002 mo z := ⟨_, rfl⟩
  obtain ⟨Mc, hMc⟩ : ∃ N, N = msR Mb 3003 mo eo := ⟨_, rfl⟩
  obtain ⟨Md, hMd⟩ : ∃ N, N = msI Mc 3001 mo ty := ⟨_, rfl⟩
  obtain ⟨Me, hMe⟩ : ∃ N, N = msI Md 3004 mo (if ty = 12 then 1 else 0) := ⟨_, rfl⟩
  obtain ⟨Mf, hMf⟩ : ∃ N, N = msR Me 3006 mo io := ⟨_, rfl⟩
  obtain ⟨Mg, hMg⟩ : ∃ N, N = msR Mf 3007 mo 0 := ⟨_, rfl⟩
  have ka : ∀ o, mk Ma o = mk M1 o := fun o => by rw [hMa]; rfl
  have kb : ∀ o, mk Mb o = mk M1 o := fun o => by rw [hMb]; exact ka o
  have kc : ∀ o, mk Mc o = mk M1 o := fun o => by rw [hMc]; exact kb o
  have kd : ∀ o, mk Md o = mk M1 o := fun o => by rw [hMd]; exact kc o
  have ke' : ∀ o, mk Me o = mk M1 o := fun o => by rw [hMe]; exact kd o
  have kf : ∀ o, mk Mf o = mk M1 o := fun o => by rw [hMf]; exact ke' o
  have kg : ∀ o, mk Mg o = mk M1 o := fun o => by rw [hMg]; exact kf o
  have za : mI Ma 2004 eo = z := by rw [hMa, mI_msI, ifF (by omega)]; exact e1.2.1
  have tc : mI Mc 2002 eo = ty := by rw [hMc, hMb, hMa, mI_msR, mI_msI, ifF (by omega), mI_msI, ifF (by omega)]; exact e1.2.2
  have td : mI Md 2002 eo = ty := by rw [hMd, mI_msI, ifF (by omega)]; exact tc
  have rg : mR Mg 2605 io = lo := by
    rw [hMg, hMf, hMe, hMd, hMc, hMb, hMa]
    simp only [mR_msR, mR_msI]
    rw [ifF (by omega), ifF (by omega), ifF (by omega)]; exact hl.1
  have isr : K_X11_isReal eo Md = some (if ty = 12 then 1 else 0, Md) := by
    unfold K_X11_isReal
    rw [ifT (by rw [kd]; exact k11), td]
    by_cases q : ty = 12
    · rw [ifT q, ifT q]
    · rw [ifF q, ifF q]
  have eg : Mg = mbW M1 mo eo io w z ty (if ty = 12 then 1 else 0) := by rw [hMg, hMf, hMe, hMd, hMc, hMb, hMa]; rfl
  rw [← eg] at ha
  unfold KB_X0_element
  rw [ifT ke, ifT ki, hw, hm, ob_some, ifT (rfl : (0 : Nat) = 0), hn, ob_some, ifT k11, ifT k16, e1.1, nm_eq, ← hMa, ifT (by rw [ka]; exact k11), ifT (by rw [ka]; exact k16), za, nm_eq, ← hMb, ifT (by rw [kb]; exact k16), nm_eq, ← hMc, ifT (by rw [kc]; exact k11), ifT (by rw [kc]; exact k16), tc, nm_eq, ← hMd, ifT (by rw [kd]; exact k11), isr, ob_some, ifT (by rw [kd]; exact k16), nm_eq, ← hMe, ifT (by rw [ke']; exact k16), nm_eq, ← hMf, ifT (by rw [kf]; exact k16), nm_eq, ← hMg, ifT (by rw [kg]; exact k14), rg, ifT (by rw [kg]; exact hl.2), ha, ob_some, ifT k3]
  rfl
theorem mbT_f : Ft [83, 84, 85, 86, 87, 88, 89] σ (mbT σ i e b) := ((((((Ft.rf _ σ).p_tsI rfl).p_tsA rfl).p_tsA rfl).p_tsA rfl).p_tsA rfl).p_tsA rfl |>.p_tsA rfl
theorem mbT_v : (tI (mbT σ i e b) 89 = nI (b + 1) ∧ tA (mbT σ i e b) 83 b = nI i ∧ tA (mbT σ i e b) 84 b = nI e ∧ tA (mbT σ i e b) 85 b = -1 ∧ tA (mbT σ i e b) 86 b = -1 ∧ tA (mbT σ i e b) 87 b = tA σ 88 i ∧ tA (mbT σ i e b) 88 i = nI b) ∧ (∀ f, f ∈ [83, 84, 85, 86, 87] → ∀ j, j ≠ b → tA (mbT σ i e b) f j = tA σ f j) ∧ ∀ j, j ≠ i → tA (mbT σ i e b) 88 j = tA σ 88 j := by
  unfold mbT
  refine ⟨⟨rfl, ?_, ?_, ?_, ?_, ?_, ?_⟩, fun f hf j hj => ?_, fun j hj => ?_⟩
  all_goals simp [tA_tsA, tA_tsI]
  · simp only [List.mem_cons, List.not_mem_nil, or_false] at hf
    rcases hf with rfl | rfl | rfl | rfl | rfl <;> simp [hj]
  · simp [hj]
theorem t_newMb (he : e < 481) (hi : i < 200) (hb : b < 96000) (h : F_memberOf (nI i) (tB σ 50 e) σ = some (-1, σ)) (h89 : tI σ 89 = nI b) : B_makeMember cf' (nI i) (nI e) y σ = J_makeMember_116 cf' (nI i) (nI e) y (nI b) (if tB σ 51 e = 0 then 1 else 0) (mbT σ i e b) := by
  have ie : inb (nI e) 481 := inb_nI' he (by decide)
  have ii : inb (nI i) 200 := inb_nI' hi (by decide)
  have ib : inb (nI b) 96001 := inb_nI' (by omega) (by decide)
  have xe : ix (nI e) = e := ix_nI (by omega)
  have xi : ix (nI i) = i := ix_nI (by omega)
  have xb : ix (nI b) = b := ix_nI (by omega)
  unfold B_makeMember
  rw [ifT ie, xe, h, ob_some, ifT (by decide), h89, nm_eq, ifF (show ¬ (96000 : Int32) ≤ nI b from by rw [show (96000 : Int32) = nI 96000 from rfl, bI_le (by decide) (by omega)]; omega), nI_addL, nm_eq]
  unfold J_makeMember_47
  rw [ifT ib, nm_eq, ifT ii, ifT ib, nm_eq, ifT ii, nm_eq, ifT ib, nm_eq, ifT ib, nm_eq, ifT ib, nm_eq, ifT ie, xe, xi, xb]
  have e88 : tA (tsA (tsI σ 89 (nI (b + 1))) 83 b (nI i)) 88 i = tA σ 88 i := by rw [tA_tsA, ifF (by omega)]; rfl
  rw [e88]
  show (if lg_cmp (tB (mbT σ i e b) 51 e) 0 = 0 then J_makeMember_116 cf' (nI i) (nI e) y (nI b) 1 (mbT σ i e b) else J_makeMember_116 cf' (nI i) (nI e) y (nI b) 0 (mbT σ i e b)) = _
  have e51 : tB (mbT σ i e b) 51 e = tB σ 51 e := (mbT_f 51 rfl).2.2.2 e
  rw [e51]
  by_cases q : tB σ 51 e = 0
  · rw [ifT (lg_eq.mpr q), ifT q]
  · rw [ifF (fun z => q (lg_eq.mp z)), ifF q]
end NEWMB
