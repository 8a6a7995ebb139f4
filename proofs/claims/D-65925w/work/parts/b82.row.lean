/-! Layer B: equations: a row inside another -/
set_option maxRecDepth 100000
def GR (C : PC) (Mb : CM) (σb : TS) (i dep c s n fl l : Nat) (M : CM) (_ : Unit) (M' : CM) (y : Int32) (σ' : TS) : Prop := ∃ i' os ns, y = (if os.length = 0 then 0 else nI (ns.getD 0 0)) ∧ PE C M' σ' i' dep c s n ∧ i ≤ i' ∧ Ee Mb σb M' σ' ∧ LsQ Mb M' l os ∧ EqsR (gb fl - dep) C M l (tE σb) fl M' σ' os ns ∧ Fz (fun o => Xe M o ∨ o = l ∨ o = mR M 4201 l) M M' ∧ (mR M' 4201 95 = mR M 4201 95 ∨ mn M ≤ mR M' 4201 95)
section ROW
variable {C Cb : PC} {M M' Mb : CM} {σ σ' σ0 σb : TS} {i dep c s n ib depb cb' sb' nb' l fl : Nat}
theorem erow_ok {cfK : Int32 → CM → Option ((Nat ⊕ Nat) × CM)} {cfT : Int32 → TS → Option (Int32 × TS)} {x : Int32} (Pb : PE Cb Mb σ0 ib depb cb' sb' nb') (hD : ∀ M o, Dp C M o → Dp Cb M o) (hU : ∀ (M : CM) (σ : TS) (i : Nat), ib ≤ i → PE C M σ i dep c s n → Rje C M σ (GE C M σ i dep (c + 16) (s + 2048) n fl) (kU cfK x M) (cfT x σ)) (hc : 80 ≤ c) (hs : 8000 ≤ s) (hib : ib ≤ i) (E : Ek Mb M) (P : PE C M σ i dep c s n) (hL : LsQ Mb M l []) : Rje C Mb σ (GR C Mb σ i dep c s n fl l M) (KB_X2_equations cfK l x M) (B_equations cfT x σ) := by
  have hit := P.1.it
  have t1 := P.1.t1280
  unfold KB_X2_equations B_equations
  rcases eqs_loop (l := l) (Ms := M) (σb := σ) Pb hD E.1.1 hU hc hs 2001 M σ i FU FU [] [] (by omega) (by have := FUb; omega) (by have := FUb; omega) hib ⟨E, ⟨Tz.rf σ, Qz.rf σ⟩, Ft.rf _ σ⟩ P hL (Nat.zero_le _) (Nat.le_refl _) ⟨rfl, fun j hj => absurd hj (Nat.not_lt_zero _), fun j k _ hk => absurd hk (Nat.not_lt_zero _)⟩ with ⟨M1, σ1, i1, os, ns, q1, q2, q3, q4, q5, q6, q7, q8, q9⟩ | ⟨w, M1, y, σ1, q1, q2, fb⟩
  · have q2 : L_equations_4 cfT FU x 0 0 σ = _ := q2
    rw [q1, obS_inl, q2, obS_inl]
    exact Or.inl ⟨(), M1, _, σ1, rfl, rfl, i1, os, ns, rfl, q3, q4, q5, q6, q7, q8, q9⟩
  · have q2 : L_equations_4 cfT FU x 0 0 σ = _ := q2
    rw [q1, obS_inr, q2]
    rcases y with y | y
    · rw [obS_inl]; exact Or.inr ⟨w, M1, _, σ1, rfl, rfl, fb⟩
    · rw [obS_inr]; exact Or.inr ⟨w, M1, _, σ1, rfl, rfl, fb⟩
end ROW
