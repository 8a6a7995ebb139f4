/-! Layer B: equations: counting them -/
set_option maxRecDepth 100000
/-- what the twin does when it has counted an equation -/
def tEqB (cf_readFor cf_readIf : TS → Option (Int32 × TS)) (x1 : Int32) (s5 : TS) : Option (Int32 × TS) :=
  ob (F_isWord 27988542783578996 s5) fun r7 s6 => if r7 = 0 then ob (F_isWord 6713202 s6) fun r11 s10 => if r11 = 0 then ob (F_isWord 26982 s10) fun r15 s14 => if r15 = 0 then ob (F_isWord 2003330414 s14) fun r19 s18 => if r19 = 0 then J_readEquation_158 cf_readFor cf_readIf s18 else if x1 = 0 then J_readEquation_158 cf_readFor cf_readIf s18 else ob (F_readWhen s18) fun r43 s42 => some (r43, s42) else ob (cf_readIf s14) fun r49 s48 => some (r49, s48) else ob (cf_readFor s10) fun r54 s53 => some (r54, s53) else ob (F_next s6) fun _ s58 => tE15 s58
section COUNT
variable {C : PC} {M M' : CM} {σ σ' : TS} {i dep c s n k fl : Nat} {cfK : Int32 → CM → Option ((Nat ⊕ Nat) × CM)} {f1 f2 : TS → Option (Int32 × TS)} {x : Int32}
theorem tEq_as (h0 : ¬ tI σ 11 = 0) (h4 : ¬ tI σ 11 = 4) (h73 : ¬ tI σ 73 = 40) : B_readEquation f1 f2 x σ = tEqB f1 f2 x (tsI σ 73 ((tI σ 73) + 1)) := by
  unfold B_readEquation
  rw [ifF h0, ifF h4, ifF h73, nm_eq]
  rfl
theorem PE.cnt (P : PE C M σ i dep c s n) (h4 : mI M 1804 (mR M 411 90) = nI k) (hk : k < 40) : PE C (msI M 1804 (mR M 411 90) (nI (k + 1))) (tsI σ 73 (nI (k + 1))) i dep c s n ∧ Ee M σ (msI M 1804 (mR M 411 90) (nI (k + 1))) (tsI σ 73 (nI (k + 1))) := by
  obtain ⟨P, hM⟩ := P
  have h167 := P.n167
  have hM0 := hM
  obtain ⟨⟨⟨m1, m2⟩, m3⟩, _, ⟨E, e1, e2, e3⟩, m8, m13⟩ := hM
  have F : Fz (fun o => o = mR M 411 90) M (msI M 1804 (mR M 411 90) (nI (k + 1))) := Fz.rf.msI (fun _ => rfl)
  have nd : ∀ o, o = mR M 411 90 → ¬ Dp C M o := fun o z hd => by
    rw [z] at hd
    have := Dp.kd P hd m3 (by omega)
    rw [m1] at this
    omega
  have f : Ft txQ σ (tsI σ 73 (nI (k + 1))) := (Ft.rf txQ σ).p_tsI rfl
  have f3 : Ft [73] σ (tsI σ 73 (nI (k + 1))) := (Ft.rf [73] σ).p_tsI rfl
  have P' := (P.mu (c' := c) (s' := s) m8.2.1 F (fun o _ z => nd o z) (Nat.le_refl _) (Nat.le_refl _)).tq f
  refine ⟨⟨P', ⟨⟨m1, m2⟩, m3⟩, ⟨k + 1, by show mI (msI M 1804 (mR M 411 90) (nI (k + 1))) 1804 (mR M 411 90) = _; rw [mI_msI, ifT ⟨rfl, rfl⟩], rfl, by omega⟩, ⟨E, e1, e2, e3⟩, m8, m13.so P.en.2.2.2.1 h167 (F.so (by omega) (by omega)) (fun o ho hf => F.so ho (fun z => nd o z (Or.inr (Or.inr (Or.inr (Or.inr hf))))))⟩, ⟨F.mono (fun o _ z => Or.inr (Or.inr (Or.inr z))), Or.inl rfl, fun _ => rfl, fun _ _ => ⟨fun _ => rfl, fun g hg => by rw [mI_msI, ifF (fun z => hg z.1)]⟩⟩, ⟨Tz.tq f, Qz.ft f3 (by decide)⟩, f.mono (by decide)⟩
/-- the same, beyond what may be -/
theorem cnt_fz (P : PE C M σ i dep c s n) (v : Int32) : Ek M (msI M 1804 (mR M 411 90) v) := by
  have F : Fz (fun o => o = mR M 411 90) M (msI M 1804 (mR M 411 90) v) := Fz.rf.msI (fun _ => rfl)
  exact ⟨F.mono (fun o _ z => Or.inr (Or.inr (Or.inr z))), Or.inl rfl, fun _ => rfl, fun _ _ => ⟨fun _ => rfl, fun g hg => by rw [mI_msI, ifF (fun z => hg z.1)]⟩⟩
/-- a fault of both after the count -/
theorem cnt_fb (P : PE C M σ i dep c s n) (h1 : 1 ≤ c) (h2 : 8 ≤ s) (v : Int32) {r q : Int32} (hr : r ≠ 0) : FBe C M σ (wM (msI M 1804 (mR M 411 90) v) r q) (mn M) (tsI (tsI σ 0 r) 1 q) := by
  have h167 := P.1.n167
  have hmo := P.2.1.2
  have hm2 := P.2.1.1.2
  obtain ⟨bs, l95⟩ := P.1.l95
  obtain ⟨e1, e2, e3⟩ := P.e1
  have hcxP := P.cx
  have K := cnt_fz P v
  have Fw : Fz none_ (msI M 1804 (mR M 411 90) v) (wM (msI M 1804 (mR M 411 90) v) r q) := wM_f _ _ _
  have K2 : Ek (msI M 1804 (mR M 411 90) v) (wM (msI M 1804 (mR M 411 90) v) r q) := Ek.fz Fw (fun o _ z => absurd z (fun q => q)) (by show 95 < mn M; omega) (fun g => (Fw.so (by show 90 < mn M; omega) (fun q => q)).r g)
  obtain ⟨w1, w2⟩ := wM_n (msI M 1804 (mR M 411 90) v) r q
  have w1 : mn (wM (msI M 1804 (mR M 411 90) v) r q) = mn M + 1 := w1
  have w2 : ms (wM (msI M 1804 (mR M 411 90) v) r q) = ms M + 8 := w2
  obtain ⟨a4, a5, a6, a7⟩ := P.1.2.2.2.1
  have fr : Ft [0, 1] σ (tsI (tsI σ 0 r) 1 q) := ((Ft.rf _ σ).p_tsI rfl).p_tsI rfl
  have so : ∀ o, o < mn M → o ≠ mR M 411 90 → So M (wM (msI M 1804 (mR M 411 90) v) r q) o := fun o ho hne => (((Fz.rf (X := fun o => o = mR M 411 90)).msI (fun _ => rfl) : Fz (fun o => o = mR M 411 90) M (msI M 1804 (mR M 411 90) v)).so ho hne).tr (Fw.so ho (fun q => q))
  refine ⟨flt_w (M := msI M 1804 (mR M 411 90) v) hr, ⟨K.tr K2, bs, l95.so2 (K.tr K2).1 (so 95 (by omega) (by omega)) (fun z => so _ z (fun e => ?_))⟩, Fe.ft fr (by decide) (by decide) (by decide), ⟨by omega, by omega⟩, P.1.bd0 hr, tE σ, e1, e2, by omega⟩
  have := l95.k55 P.1.c6 z
  rw [e, P.2.1.1.1] at this
  exact absurd this (by decide)
end COUNT
