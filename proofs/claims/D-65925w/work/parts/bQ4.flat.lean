/-! Layer B: flat, both sides alike -/
set_option maxRecDepth 100000
/-- a context with other room -/
def PC.rm (C : PC) (a b : Nat) : PC := (cb C, cl C, cm C, ct C, cp C, a, b, cnf C, cfn C, cnl C, clw C, car C)
/-- what stays -/
def SgW (M M' : CM) (σ σ' : TS) : Prop := (∀ o, 1 < o → o < 98 → So M M' o) ∧ (∀ f, (fgO0 ++ [4, 5]).contains f = false → mI M' f 1 = mI M f 1) ∧ Ft (fgS0 ++ [2, 3]) σ σ' ∧ (mI M 43 1 = tI σ 156 → mI M' 43 1 = tI σ' 156)
/-- a fault that was told -/
def FlF (C : PC) (B : Nat) (P : Nat → Prop) (mss fss : List Nat) (M : CM) (σ : TS) (M2 : CM) (σ2 : TS) : Prop := (∃ D', FW (C.rm (cN C + 2) (cS C + 16)) B P mss fss D' M2 σ2) ∧ (mI M2 4 1 = tI σ2 2 ∧ mI M2 5 1 = tI σ2 3) ∧ tI σ2 0 = 0 ∧ SgW M M2 σ σ2
/-- what flat leaves, from where the flags are taken back -/
def FlZ (C : PC) (B : Nat) (P : Nat → Prop) (mss fss : List Nat) (M : CM) (σ : TS) (r : Int32) (M' : CM) (σ' : TS) : Prop := (r = -5 ∧ FlF C B P mss fss M σ M' σ' ∧ tI σ' 171 = nI 0) ∨ ∃ D' M1 σ1, FlD C B P mss fss D' M1 σ1 ∧ SgX M M1 σ σ1 ∧ Wz C C P M M1 σ σ1 ∧ M' = msI M1 30 1 1 ∧ σ' = tsI σ1 108 1
section FLAT
variable {C : PC} {D D' : FQ} {M M' M1 M2 : CM} {σ σ' s σ1 σ2 : TS} {mss fss : List Nat} {B w k len : Nat} {P : Nat → Prop} {S : List Nat} {y0 : Nat}
theorem Wz.rm {a b : Nat} (hc : cnf C ≤ 12) : Wz C (C.rm a b) P M M σ σ := by
  have h : Wz C C P M M σ σ := Wz.rf hc
  exact h
theorem IT.rm {a b : Nat} (h : IT C B P mss fss M σ) : IT (C.rm a b) B P mss fss M σ := by
  obtain ⟨a1, ⟨b1, b2, b3, b4⟩, a3, a4, ⟨c1, c2, c3, c4, c5⟩, T, r⟩ := h
  have v : Wz C (C.rm a b) P M M σ σ := Wz.rm (by omega)
  exact ⟨a1, ⟨b1, b2, b3, b4⟩, a3, a4, ⟨c1, c2, c3, c4, fun k hk => ⟨(c5 k hk).1, (c5 k hk).2⟩⟩, ⟨T.1, fun k hk => (T.2.1 k hk).wz v (fun _ z => z) (fun _ _ => rfl) rfl, fun k hk => (T.2.2.1 k hk).wz v (fun _ z => z) hk rfl, T.2.2.2⟩, r⟩
theorem z_fails (h : FfG C B P mss fss M M' σ σ' w) (hc : cN C + 2 ≤ 601024 ∧ cS C + 16 ≤ 7293034) : ∃ M2 σ2, (ob (K_X0_wrong (mI M' 1200 w) 0 M') fun r32 M31 => ob (K_X0_fails r32 M31) fun r36 M35 => some (r36, M35)) = some (-5, M2) ∧ F_faulted σ' = some (-5, σ2) ∧ FlF C B P mss fss M σ M2 σ2 ∧ Ft [0, 2, 3] σ' σ2 := by
  obtain ⟨⟨D', ⟨i1, i2, i3, i4⟩, i5, i6⟩, ⟨w1, w2, w3, w4, w5⟩, g⟩ := h
  obtain ⟨σf, hσf⟩ : ∃ q, q = tsI (tsI (tsI σ' 2 (tI σ' 0)) 3 (tI (tsI σ' 2 (tI σ' 0)) 1)) 0 0 := ⟨_, rfl⟩
  have f1 : Ft [0, 2, 3] σ' σf := by rw [hσf]; exact (((Ft.rf _ σ').p_tsI rfl).p_tsI rfl).p_tsI rfl
  have e0 : tI σf 0 = 0 := by rw [hσf]; rfl
  have e2 : tI σf 2 = tI σ' 0 := by rw [hσf]; rfl
  have e3 : tI σf 3 = tI σ' 1 := by rw [hσf]; rfl
  have W0 : FW (C.rm (cN C + 1) (cS C + 8)) B P mss fss D' M' σ' := ⟨i1.rm, i2, i3, i4, ⟨show rmN D' M' + 4 ≤ cN C + 1 by omega, show rmS D' M' + 60200 ≤ cS C + 8 by omega⟩, show cN C + 1 ≤ 601024 by omega, show cS C + 8 ≤ 7293034 by omega⟩
  have W1 := (W0.wzT f1 (by decide)).1
  obtain ⟨r, hr⟩ : ∃ q, q = tI σ' 0 := ⟨_, rfl⟩
  obtain ⟨b1, b2, b3⟩ := W1.bad (r := r) (by rw [hr]; exact w3) e0
  obtain ⟨⟨j1, j2, j3, j4⟩, ⟨j5, j6⟩, -, -, -, j7, -, -⟩ := b3
  obtain ⟨M3, hM3⟩ : ∃ q, q = wM M' r 0 := ⟨_, rfl⟩
  have k3 : mk M3 (mn M') = 7 := by rw [hM3]; exact wM_k M' r 0
  obtain ⟨v1, v2⟩ := wM_v M' r 0
  have so3 : ∀ o, o < mn M' → So M' M3 o := fun o ho => by rw [hM3]; exact (wM_f M' r 0).so ho (fun q => q)
  rw [← hM3] at b1 j1 j2 j3 j4 j5 j6 v1 v2
  have W3 : FW (C.rm (cN C + 2) (cS C + 16)) B P mss fss D' M3 (badT σf r) := ⟨(j1.rm : IT ((C.rm (cN C + 1) (cS C + 8)).rm (cN C + 2) (cS C + 16)) B P mss fss M3 (badT σf r)), j2, j3, j4, ⟨show rmN D' M3 + 4 ≤ cN C + 2 by have : rmN D' M3 + 3 ≤ cN C + 1 := j5; omega, show rmS D' M3 + 60200 ≤ cS C + 16 by have : rmS D' M3 + 60192 ≤ cS C + 8 := j6; omega⟩, hc.1, hc.2⟩
  have fb : Ft [0, 1] (badT σf r) σf := fun k hk => by
    obtain ⟨a, b, c, d⟩ := badT_f (σ := σf) (r := r) k hk
    exact ⟨a.symm, b.symm, fun j => (c j).symm, fun j => (d j).symm⟩
  obtain ⟨M4, hM4⟩ : ∃ q, q = msI (msI M3 4 1 r) 5 1 0 := ⟨_, rfl⟩
  have F4 : Fz (fun o => o = 1) M3 M4 := by rw [hM4]; exact ((Fz.rf (X := fun o => o = 1)).msI (fun _ => rfl)).msI (fun _ => rfl)
  have r4 : ∀ g o, mR M4 g o = mR M3 g o := fun g o => by rw [hM4]; rfl
  have i4' : ∀ g o, ¬ (o = 1 ∧ (g = 4 ∨ g = 5)) → mI M4 g o = mI M3 g o := fun g o z => by
    rw [hM4, mI_msI, ifF (fun q => z ⟨q.2, Or.inr q.1⟩), mI_msI, ifF (fun q => z ⟨q.2, Or.inl q.1⟩)]
  obtain ⟨W4, -, -⟩ := W3.w2 F4 (fun o _ z => Or.inl (Or.inl (by omega))) (by rw [hM4]; exact ⟨rfl, rfl⟩) (fun o => ⟨r4 _ _, r4 _ _, by rw [hM4]; rfl⟩) (fun o => r4 _ _) (i4' _ _ (by omega)) (fun q _ => r4 _ _) (fun q hq => i4' _ _ (fun z => by have := fixI q hq; omega)) fb (by decide)
  have n167 := W0.n167
  refine ⟨M4, σf, ?_, ?_, ⟨⟨D', W4⟩, ⟨?_, ?_⟩, e0, ⟨fun o h1 h2 => ((g.1 o h1 h2).tr (so3 o (by omega))).tr (F4.so (by have := W3.n167; omega) (by omega)), fun f hf => ?_, (g.2.2.1.mono (by decide)).tr (f1.mono (by decide)), fun z => ?_⟩⟩, f1⟩
  · rw [w2, ← hr, b1, ob_some, K_X0_fails, ifT k3, nm_eq, mk_msI, ifT k3, nm_eq, v1, mI_msI, ifF (by omega), v2, ← hM4, ob_some]
  · rw [F_faulted, nm_eq, nm_eq, nm_eq, ← hσf]
  · rw [e2, hM4, mI_msI, ifF (by omega), mI_msI, ifT ⟨rfl, rfl⟩, hr]
  · rw [e3, hM4, mI_msI, ifT ⟨rfl, rfl⟩, w5]
  · have h45 : f ≠ 4 ∧ f ≠ 5 ∧ fgO0.contains f = false := by
      rw [List.contains_eq_mem, decide_eq_false_iff_not, List.mem_append] at hf
      refine ⟨fun z => hf (Or.inr (by rw [z]; decide)), fun z => hf (Or.inr (by rw [z]; decide)), ?_⟩
      rw [List.contains_eq_mem, decide_eq_false_iff_not]
      exact fun z => hf (Or.inl z)
    rw [i4' f 1 (by omega), (so3 1 (by omega)).i, g.2.1 f h45.2.2]
  · rw [i4' 43 1 (by omega), (so3 1 (by omega)).i, (f1 156 rfl).1]
    exact g.2.2.2 z
/-- no class is meant -/
theorem z_flatNo (W : FW C B P mss fss D M σ) (h0 : tI σ 0 = 0) (h171 : tI σ 171 = nI 0) (hc : cN C + 2 ≤ 601024 ∧ cS C + 16 ≤ 7293034) : ∃ M2 σ2, (ob (K_X0_wrong 20 0 M) fun r10 M9 =>
    if mk M9 r10 = 7 then
    if mk M9 r10 = 7 then
    ob (K_X0_wrong (mI M9 1200 r10) 0 M9) fun r16 M15 =>
    ob (K_X0_fails r16 M15) fun r20 M19 =>
    some (r20, M19)
    else none
    else none) = some (-5, M2) ∧ (ob (F_bad 20 0 σ) fun r29 s28 =>
    ob (F_isBad s28) fun r33 s32 =>
    if r33 = 0 then
      nm (tsI s32 108 1) fun s36 =>
      some (tI s36 107, s36)
    else
      ob (F_faulted s32) fun r38 s37 =>
      some (r38, s37)) = some (-5, σ2) ∧ FlZ C B P mss fss M σ (-5) M2 σ2 := by
  obtain ⟨b1, b2, b3⟩ := W.bad (r := 20) (by decide) h0
  have g := b3.g W.n167 (fun t z => by unfold TFf at z; omega) (by decide) (by decide)
  obtain ⟨M2, σ2, a1, a2, a3, a4⟩ := z_fails g hc
  refine ⟨M2, σ2, ?_, ?_, Or.inl ⟨rfl, a3, ?_⟩⟩
  · rw [b1, ob_some, ifT (wM_k M 20 0), ifT (wM_k M 20 0)]; exact a1
  · rw [b2, ob_some, t_isBad1 g.2.1.2.2.1, ob_some, ifF (show ¬ (1 : Int32) = 0 by decide), a2, ob_some]
  · rw [(a4 171 rfl).1, (badT_f (σ := σ) (r := 20) 171 rfl).1]; exact h171
theorem z_flatYes (hB1 : B ≤ 1280) (W : FW C B P mss fss D M σ) (hk : k < mss.length) (h0 : tI σ 0 = 0) (h171 : tI σ 171 = nI 0) (h43 : mI M 43 1 = tI σ 156) (h44 : tA σ 44 k = 0) (hc : cN C + 2 ≤ 601024 ∧ cS C + 16 ≤ 7293034) : ∃ r M2 σ2, obS (K_X0_flatten (mss.getD k 0) M) (fun w29 M25 =>
          if mk M25 w29 = 7 then
          ob (K_X0_wrong (mI M25 1200 w29) 0 M25) fun r32 M31 =>
          ob (K_X0_fails r32 M31) fun r36 M35 =>
          some (r36, M35)
          else none)
      (fun _ M25 =>
      nm (msI M25 30 1 1) fun M39 =>
      some (mI M39 15 1, M39)) = some (r, M2) ∧ (ob (F_makeFlat (nI k) σ) fun _ s14 =>
    ob (F_isBad s14) fun r19 s18 =>
    if r19 = 0 then
      nm (tsI s18 108 1) fun s22 =>
      some (tI s22 107, s22)
    else
      ob (F_faulted s18) fun r24 s23 =>
      some (r24, s23)) = some (r, σ2) ∧ FlZ C B P mss fss M σ r M2 σ2 := by
  rcases z_makeFlat hB1 W hk h0 h171 h43 h44 with ⟨M', σ', w, a1, a2, a3⟩ | ⟨D', M', σ', a1, a2, a3, a4, a5⟩
  · obtain ⟨M2, σ2, c1, c2, c3, c4⟩ := z_fails a3.1 hc
    refine ⟨-5, M2, σ2, ?_, ?_, Or.inl ⟨rfl, c3, (c4 171 rfl).1.trans a3.2.2.2⟩⟩
    · rw [a1, obS_inr, ifT a3.1.2.1.1]; exact c1
    · rw [a2, ob_some, t_isBad1 a3.ne, ob_some, ifF (show ¬ (1 : Int32) = 0 by decide), c2, ob_some]
  · have a30 := a3
    obtain ⟨s, V, I, Bm, z7, K, N, E, A, Wn, q, qs, c1, c2, c3, c4, c5, ⟨c6, c7, c8⟩, c9⟩ := a3
    have z0 : tI σ' 0 = 0 := (c6 0 rfl).1.trans c1.h0
    refine ⟨nI V, msI M' 30 1 1, tsI σ' 108 1, ?_, ?_, Or.inr ⟨D', M', σ', a30, a4, a5, rfl, rfl⟩⟩
    · rw [a1, obS_inl, nm_eq, mI_msI, ifF (by decide), c1.fx.2.2.2.1.1]
    · rw [a2, ob_some, t_isBad0 z0, ob_some, ifT (rfl : (0 : Int32) = 0), nm_eq, tI_tsI, ifF (by decide), (c6 107 rfl).1, c1.fx.2.2.1.1]
/-- flat, both sides alike -/
theorem z_flat (hB1 : B ≤ 1280) (W : FW C B P mss fss D M σ) (hb : BtR M σ len) (h171 : tI σ 171 = nI 0) (h43 : mI M 43 1 = tI σ 156) (hc : cN C + 2 ≤ 601024 ∧ cS C + 16 ≤ 7293034) : ∃ r M' σ' M4 σ9, K_X0_flat M = some (r, M') ∧ F_flat σ = some (r, σ') ∧ M4 = msI (msI (msI (msI M 1 1 0) 30 1 0) 46 1 0) 91 1 0 ∧ (Ft [0, 5, 7, 8, 108, 109, 110, 111] σ σ9 ∧ tI σ9 0 = 0 ∧ tI σ9 7 = 0 ∧ tI σ9 108 = 0 ∧ tI σ9 109 = 0 ∧ tI σ9 110 = 0 ∧ tI σ9 111 = 0) ∧ FlZ C B P mss fss M4 σ9 r M' σ' := by
  obtain ⟨b1, b2, b3, b4⟩ := hb
  obtain ⟨σ1, s2, fa, Ta, z7⟩ := t_tape (b := fun i => mA M 2 i) b2 b3 (fun i hi => ⟨by rw [(b4 i hi).1]; exact (b4 i hi).2, (b4 i hi).2⟩)
  obtain ⟨σ9, hσ9⟩ : ∃ q, q = tsI (tsI (tsI (tsI (tsI σ1 0 0) 108 0) 109 0) 110 0) 111 0 := ⟨_, rfl⟩
  have f9 : Ft [0, 108, 109, 110, 111] σ1 σ9 := by rw [hσ9]; exact (((((Ft.rf _ σ1).p_tsI rfl).p_tsI rfl).p_tsI rfl).p_tsI rfl).p_tsI rfl
  have ff : Ft [0, 5, 7, 8, 108, 109, 110, 111] σ σ9 := (fa.mono (by decide)).tr (f9.mono (by decide))
  have T9 : TapeT σ9 (fun i => mA M 2 i) len := Ta.kp f9 rfl rfl
  have e0 : tI σ9 0 = 0 := by rw [hσ9]; rfl
  have W9 := (W.wzT ff (by decide)).1
  obtain ⟨M4, hM4⟩ : ∃ q, q = msI (msI (msI (msI M 1 1 0) 30 1 0) 46 1 0) 91 1 0 := ⟨_, rfl⟩
  have F4 : Fz (fun o => o = 1) M M4 := by rw [hM4]; exact ((((Fz.rf (X := fun o => o = 1)).msI (fun _ => rfl)).msI (fun _ => rfl)).msI (fun _ => rfl)).msI (fun _ => rfl)
  have r4 : ∀ g o, mR M4 g o = mR M g o := fun g o => by rw [hM4]; rfl
  have i4 : ∀ g o, ¬ (o = 1 ∧ (g = 1 ∨ g = 30 ∨ g = 46 ∨ g = 91)) → mI M4 g o = mI M g o := fun g o z => by
    rw [hM4, mI_msI, ifF (by omega), mI_msI, ifF (by omega), mI_msI, ifF (by omega), mI_msI, ifF (by omega)]
  obtain ⟨W4, v4, -⟩ := W9.w2 F4 (fun o _ z => Or.inl (Or.inl (by omega))) (by rw [hM4]; exact ⟨rfl, rfl⟩) (fun o => ⟨r4 _ _, r4 _ _, by rw [hM4]; rfl⟩) (fun o => r4 _ _) (i4 _ _ (by omega)) (fun q _ => r4 _ _) (fun q hq => i4 _ _ (fun z => by have := fixI q hq; omega)) (Ft.rf [] σ9) (by decide)
  have g171 : tI σ9 171 = nI 0 := (ff 171 rfl).1.trans h171
  have g43 : mI M4 43 1 = tI σ9 156 := by rw [i4 43 1 (by omega), (ff 156 rfl).1]; exact h43
  have hx : tI σ9 7 = 0 ∧ tI σ9 108 = 0 ∧ tI σ9 109 = 0 ∧ tI σ9 110 = 0 ∧ tI σ9 111 = 0 := by
    refine ⟨(f9 7 rfl).1.trans z7, ?_, ?_, ?_, ?_⟩ <;> rw [hσ9] <;> rfl
  obtain ⟨x1, x2, x3, x4, x5⟩ := hx
  -- the twin up to the class
  have tf : F_flat σ = ob (F_theClass σ9) fun r11 s10 =>
      if 0 ≤ r11 then
        ob (F_makeFlat r11 s10) fun r15 s14 =>
        ob (F_isBad s14) fun r19 s18 =>
        if r19 = 0 then
          nm (tsI s18 108 1) fun s22 =>
          some (tI s22 107, s22)
        else
          ob (F_faulted s18) fun r24 s23 =>
          some (r24, s23)
      else
        ob (F_bad 20 0 s10) fun r29 s28 =>
        ob (F_isBad s28) fun r33 s32 =>
        if r33 = 0 then
          nm (tsI s32 108 1) fun s36 =>
          some (tI s36 107, s36)
        else
          ob (F_faulted s32) fun r38 s37 =>
          some (r38, s37) := by
    rw [F_flat, s2, ob_some]
    simp only [nm_eq, ← hσ9]
  have kf : ∀ w : Int32, KJ_X0_flat_28 w M = if 0 ≤ w then ob (K_X0_model w M4) fun r6 M5 => KJ_X0_flat_62 r6 M5 else KJ_X0_flat_62 0 M4 := fun w => by
    rw [KJ_X0_flat_28, nm_eq, nm_eq, nm_eq, nm_eq, ← hM4]
  have no : ∀ w : Int32, (¬ 0 ≤ w ∨ K_X0_model w M4 = some (0, M4)) → F_theClass σ9 = some (-1, σ9) → K_X0_flat M = KJ_X0_flat_28 w M → ∃ r M' σ' M4 σ9, K_X0_flat M = some (r, M') ∧ F_flat σ = some (r, σ') ∧ M4 = msI (msI (msI (msI M 1 1 0) 30 1 0) 46 1 0) 91 1 0 ∧ (Ft [0, 5, 7, 8, 108, 109, 110, 111] σ σ9 ∧ tI σ9 0 = 0 ∧ tI σ9 7 = 0 ∧ tI σ9 108 = 0 ∧ tI σ9 109 = 0 ∧ tI σ9 110 = 0 ∧ tI σ9 111 = 0) ∧ FlZ C B P mss fss M4 σ9 r M' σ' := fun w h1 h2 h3 => by
    obtain ⟨M2, σ2, a1, a2, a3⟩ := z_flatNo W4 e0 g171 hc
    refine ⟨-5, M2, σ2, M4, σ9, ?_, ?_, hM4, ⟨ff, e0, x1, x2, x3, x4, x5⟩, a3⟩
    · rw [h3, kf]
      have e : KJ_X0_flat_62 0 M4 = some (-5, M2) := by
        rw [KJ_X0_flat_62, ifT rfl]; exact a1
      by_cases q : 0 ≤ w
      · rw [ifT q]
        rcases h1 with h1 | h1
        · exact absurd q h1
        · rw [h1, ob_some, e]
      · rw [ifF q, e]
    · rw [tf, h2, ob_some, ifF (by decide)]; exact a2
  by_cases q0 : len = 0
  · subst q0
    refine no (-1) (Or.inl (by decide)) ?_ ?_
    · rw [F_theClass, T9.1, ifT (by decide)]
    · rw [K_X0_flat, b1, ifT (by decide)]
  · have kk : ¬ mI M 1 1 ≤ 0 := by
      rw [b1, show (0 : Int32) = nI 0 from rfl, bI_le (by omega) (by decide)]
      omega
    obtain ⟨w, w1, w2⟩ := z_word hB1 W9 ⟨b1, b3, fun i _ => rfl⟩ T9 (by omega)
    have k0 : K_X0_flat M = KJ_X0_flat_28 w M := by rw [K_X0_flat, ifF kk, b1, w1, ob_some]
    rcases w2 with ⟨j, j1, j2, j3⟩ | ⟨j1, j2⟩
    · have ew : wc M4 (38 + j) = wc M (38 + j) := v4.2.2.1.2 _ (by omega)
      have w0 : 0 ≤ w := by rw [j2, show (0 : Int32) = nI 0 from rfl, bI_le (by decide) (by have := W.1.2.1.2.2.2; omega)]; omega
      rcases W4.lookup hB1 (w := 38 + j) ⟨by omega, by omega⟩ with ⟨k, a1, a2, a3, a4⟩ | ⟨a3, a4⟩
      · have k24 : k < 24 := by
          have := W4.1.2.2.2.2.1.1.1
          omega
        have cc : CcR C P M4 σ9 k (mss.getD k 0) := W4.1.2.2.2.2.2.1.2.1 k a1
        have n2 : mss.getD k 0 ≠ 0 := by
          obtain ⟨-, -, -, -, ⟨⟨m24, t49⟩, -⟩, hC, -⟩ := id W4.1
          exact ((hC.cn t49 m24).2.2 k a1).2.1
        have th : F_theClass σ9 = if tA σ9 44 k = 0 then some (nI k, σ9) else some (-1, σ9) := by
          rw [j3, thC, ← ew, a4, ob_some, ifF (by rw [show (0 : Int32) = nI 0 from rfl, bI_lt (by omega) (by decide)]; omega), ifT (inb_nI' k24 (by decide)), ix_nI (by omega)]
        have cg : tA σ9 44 k = mI M4 1801 (mss.getD k 0) := by
          rcases cc.2.1 with ⟨c1, c2⟩ | ⟨c1, c2⟩ <;> rw [c1, c2]
        by_cases g : tA σ9 44 k = 0
        · obtain ⟨r, M2, σ2, c1, c2, c3⟩ := z_flatYes hB1 W4 a1 e0 g171 g43 g hc
          refine ⟨r, M2, σ2, M4, σ9, ?_, ?_, hM4, ⟨ff, e0, x1, x2, x3, x4, x5⟩, c3⟩
          · rw [k0, kf, ifT w0, j2, a3, ob_some, KJ_X0_flat_62, ifF n2, ifT cc.1.1.2, ifT (by rw [← cg]; exact g)]
            exact c1
          · rw [tf, th, ifT g, ob_some, ifT (by rw [show (0 : Int32) = nI 0 from rfl, bI_le (by decide) (by omega)]; omega)]
            exact c2
        · obtain ⟨M2, σ2, c1, c2, c3⟩ := z_flatNo W4 e0 g171 hc
          refine ⟨-5, M2, σ2, M4, σ9, ?_, ?_, hM4, ⟨ff, e0, x1, x2, x3, x4, x5⟩, c3⟩
          · rw [k0, kf, ifT w0, j2, a3, ob_some, KJ_X0_flat_62, ifF n2, ifT cc.1.1.2, ifF (by rw [← cg]; exact g)]
            exact c1
          · rw [tf, th, ifF g, ob_some, ifF (by decide)]
            exact c2
      · refine no w (Or.inr (by rw [j2]; exact a3)) ?_ k0
        rw [j3, thC, ← ew, a4, ob_some, ifT (by decide)]
    · rcases j1 with j1 | ⟨j, j1, j3⟩
      · exact no w (Or.inl (by rw [j1]; decide)) j2 k0
      · refine no w (Or.inr ?_) j2 k0
        have km := k_model (W4.1.2.2.2.1.1) (fun k hk => by
          obtain ⟨-, -, -, -, ⟨⟨m24, t49⟩, -⟩, hC, -⟩ := id W4.1
          exact ((hC.cn t49 m24).2.2 k hk).1) (nI j)
        rw [j3]
        rcases km with ⟨k', d1, d2, d3, d4⟩ | ⟨d3, d4⟩
        · obtain ⟨-, -, -, -, ⟨⟨m24, t49⟩, -⟩, hC, -⟩ := id W4.1
          obtain ⟨-, -, w', y1, y2, y3, y4⟩ := (hC.cn t49 m24).2.2 k' d1
          rw [y1] at d2
          have := W.1.2.1.2.2.2
          have := (bI_eq (by omega) (by omega)).mp d2
          omega
        · exact d4
end FLAT
