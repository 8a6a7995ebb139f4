/-! Layer B: expressions: what a pair of functions owes; two parts and a sign -/
set_option maxRecDepth 100000
/-- an expression (0) or condition (1), made since M0 -/
def Rs (C : PC) (M0 M : CM) (σ : TS) (so o n : Nat) : Prop := ∃ d, AR (fun x => mn M0 ≤ x ∧ x < mn M) (tN σ) (tQ σ) (cm C) (car C) (cnf C) (cfn C) M σ d so o n
def Ok (C : PC) (M : CM) (σ : TS) (i dep c s n so : Nat) (o : Option ((Nat ⊕ Nat) × CM)) (p : Option (Int32 × TS)) : Prop := (∃ a M' x σ' i', o = some (.inl a, M') ∧ p = some (nI x, σ') ∧ Pe C M' σ' i' dep c s n ∧ i < i' ∧ Es M σ M' σ' ∧ Rs C M M' σ' so a x) ∨ ∃ w M' y σ', o = some (.inr w, M') ∧ p = some (y, σ') ∧ FB C M σ M' w σ'
/-- the same of a loop that goes on from a base -/
def Lk (C : PC) (Mb : CM) (σb : TS) (i dep c s n so : Nat) (o : Option ((Nat ⊕ (Nat ⊕ Nat)) × CM)) (p : Option (Int32 × TS)) : Prop := (∃ a M' x σ' i', o = some (.inl a, M') ∧ p = some (nI x, σ') ∧ Pe C M' σ' i' dep c s n ∧ i ≤ i' ∧ Es Mb σb M' σ' ∧ Rs C Mb M' σ' so a x) ∨ ∃ w M' y σ', o = some (.inr (.inr w), M') ∧ p = some (y, σ') ∧ FB C Mb σb M' w σ'
section EXPR
variable {C : PC} {M M' Mb M0 : CM} {σ σ' σb : TS} {i ib dep depb c s n so c' s' cb' sb' nb' a x : Nat}
theorem Pe.mv (P : Pe C M σ i dep c s n) (E : Es M σ M' σ') {Q : Nat → Prop} (hQ : ∀ o, Q o → o < mn M ∧ o ≠ 90) : Mv Q (tN σ) (tQ σ) (cm C) M M' σ σ' := by
  obtain ⟨e1, e2, e3, e4, e5⟩ := E
  exact ⟨⟨e1.1, fun o ho => e1.k ho⟩, fun o ho => e1.so (hQ o ho).1 (hQ o ho).2, fun w _ => P.wcs e1 (fun o z => by rw [z]; exact P.en.1) w, e4.2.1, e4.2.2.1, e4.2.2.2, fun k => (e5 42 rfl).2.2.1 k⟩
theorem Pe.nf12 (P : Pe C M σ i dep c s n) : cnf C ≤ 12 := by
  obtain ⟨fs, nfs, a1, a2, a3, a4, a5⟩ := P.en.2.2.2.1
  exact a4
theorem Rs.mv (h : Rs C M0 M σ so a x) (P : Pe C M σ i dep c s n) (h0 : 167 ≤ mn M0) (E : Es M σ M' σ') : Rs C M0 M' σ' so a x := by
  obtain ⟨d, h⟩ := h
  have hn := E.1.1
  exact ⟨d, AR.mv (P.mv E (fun o z => ⟨z.2, by omega⟩)) (fun o z => ⟨z.1, by omega⟩) E.2.2.2.1.1.1 E.2.2.2.1.1.2 ⟨Nat.le_refl _, P.nf12, fun _ _ => rfl⟩ d d so a x (Nat.le_refl _) h⟩
theorem Rs.dn {M1 : CM} (h : Rs C M1 M σ so a x) (P : Pe C M σ i dep c s n) (h0 : mn M0 ≤ mn M1) : Rs C M0 M σ so a x := by
  obtain ⟨d, h⟩ := h
  exact ⟨d, AR.mv Mv.rf (fun o z => ⟨by omega, z.2⟩) (Nat.le_refl _) (Nat.le_refl _) ⟨Nat.le_refl _, P.nf12, fun _ _ => rfl⟩ d d so a x (Nat.le_refl _) h⟩
theorem Rs.up (h : Rs C M0 M σ so a x) (P : Pe C M σ i dep c s n) : ∃ d0, ∀ d, d0 ≤ d → AR (fun x => mn M0 ≤ x ∧ x < mn M) (tN σ) (tQ σ) (cm C) (car C) (cnf C) (cfn C) M σ d so a x := by
  obtain ⟨d0, h⟩ := h
  exact ⟨d0, fun d hd => AR.mv Mv.rf (fun _ z => z) (Nat.le_refl _) (Nat.le_refl _) ⟨Nat.le_refl _, P.nf12, fun _ _ => rfl⟩ d0 d so a x hd h⟩
theorem Rs.b (h : Rs C M0 M σ so a x) : (mn M0 ≤ a ∧ a < mn M) ∧ mk M a = 8 ∧ 1 ≤ x ∧ x < tN σ := by
  obtain ⟨d, h⟩ := h
  match d, h with
  | 0, h => exact absurd h (fun q => q)
  | d + 1, h => exact ⟨h.1.1, h.1.2.1, h.1.2.2.1.1, h.1.2.2.2⟩
/-- an Ast gets its parts -/
def iM (M : CM) (v : Nat) (k : Int32) (a b c : Nat) : CM := msR (msR (msR (msI M 1400 v k) 1402 v a) 1403 v b) 1404 v c
theorem k_init2 {v : Nat} (h0 : v ≠ 0) (hk : mk M v = 8) (k : Int32) (a b c : Nat) : K_X8_init_2 v k a b c M = some ((), iM M v k a b c) := by
  unfold K_X8_init_2
  rw [ifT h0, ifT hk, nm_eq, ifT (show mk (msI M 1400 v k) v = 8 from hk), nm_eq, ifT (show mk (msR (msI M 1400 v k) 1402 v a) v = 8 from hk), nm_eq, ifT (show mk (msR (msR (msI M 1400 v k) 1402 v a) 1403 v b) v = 8 from hk), nm_eq]
  rfl
theorem iM_ok (M : CM) (v : Nat) (k : Int32) (a b c : Nat) : Fz (fun o => o = v) M (iM M v k a b c) ∧ mn (iM M v k a b c) = mn M ∧ ms (iM M v k a b c) = ms M ∧ mk (iM M v k a b c) v = mk M v ∧ mI (iM M v k a b c) 1400 v = k ∧ mR (iM M v k a b c) 1402 v = a ∧ mR (iM M v k a b c) 1403 v = b ∧ mR (iM M v k a b c) 1404 v = c := by
  unfold iM
  refine ⟨((((Fz.rf (X := fun o => o = v)).msI (fun _ => rfl)).msR (fun _ => rfl)).msR (fun _ => rfl)).msR (fun _ => rfl), rfl, rfl, rfl, ?_, ?_, ?_, ?_⟩
  · rw [mI_msR, mI_msR, mI_msR, mI_msI, ifT ⟨rfl, rfl⟩]
  · rw [mR_msR, ifF (by omega), mR_msR, ifF (by omega), mR_msR, ifT ⟨rfl, rfl⟩]
  · rw [mR_msR, ifF (by omega), mR_msR, ifT ⟨rfl, rfl⟩]
  · rw [mR_msR, ifT ⟨rfl, rfl⟩]
/-- the Ast v, made since the base, gets kind and parts; the twin makes a node: all that is needed but the node's own relation -/
theorem mk_node {v : Nat} (Pb : Pe C Mb σb ib depb cb' sb' nb') (E : Es Mb σb M σ) (P : Pe C M σ i dep c s (n + 1)) (hv : mn Mb ≤ v ∧ v < mn M) (hk : mk M v = 8) (k : Int32) (a b d : Nat) (kt ya yb yd : Int32) : ∃ σ', K_X8_init_2 v k a b d M = some ((), iM M v k a b d) ∧ F_node kt ya yb yd σ = some (nI (tN σ), σ') ∧ Pe C (iM M v k a b d) σ' i dep c s n ∧ Es Mb σb (iM M v k a b d) σ' ∧ (tN σ' = tN σ + 1 ∧ tQ σ' = tQ σ ∧ tN σ < 9000 ∧ Lo C (tN σ)) ∧ (tA σ' 24 (tN σ) = kt ∧ tA σ' 25 (tN σ) = ya ∧ tA σ' 26 (tN σ) = yb ∧ tA σ' 27 (tN σ) = yd) ∧ ∀ (so' a' x' : Nat), Rs C Mb M σ so' a' x' → a' < v ∨ v < a' → Rs C Mb (iM M v k a b d) σ' so' a' x' → True := by
  have h167 := Pb.n167
  obtain ⟨i1, i2, i3, i4, i5⟩ := iM_ok M v k a b d
  obtain ⟨P1, E1⟩ := Pb.re E P i1 (fun o z => by rw [z]; exact hv.1) (c' := c) (s' := s) (by rw [i2]; exact Nat.le_refl _) (by rw [i3]; exact Nat.le_refl _)
  obtain ⟨σ', n1, n2, n3, n4, n5, n6, n7, n8⟩ := y_node P1 kt ya yb yd
  exact ⟨σ', k_init2 (by omega) hk k a b d, n1, n7, E1.tr n8, ⟨n2, n3, n4, n5⟩, n6, fun _ _ _ _ _ _ => trivial⟩
end EXPR
