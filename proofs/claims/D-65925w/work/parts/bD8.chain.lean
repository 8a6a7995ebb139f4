/-! Layer B: the flat model: the twin's chain of extends -/
set_option maxRecDepth 100000
section CHAIN
variable {σ σ' σ0 σ2 : TS} {B l k n o m u w E E' i k0 fr e cb : Nat} {S S' : List Nat} {a : Nat × Nat × Nat} {W W1 W2 : List (Nat × Nat × Nat)} {x : Int64} {x1 x2 x3 x4 x5 x6 x7 x8 x9 x10 : Int32} {cf : Int32 → Int32 → Int32 → TS → Option (Unit × TS)} {ks : List (Nat × Nat)}
theorem wcE_len : ∀ (ks : List (Nat × Nat)), (wcE i ks).length = (ks.map fun p => p.2).sum
  | [] => rfl
  | p :: ks => by
    show (msE p.1 p.2 i ++ wcE i ks).length = p.2 + (ks.map fun p => p.2).sum
    rw [List.length_append, msE_len, wcE_len ks]
/-- all of the chain -/
theorem t_chain (hi : i < 200) (he : e < 481) (hx : tB σ0 50 e = x) : ∀ (ks : List (Nat × Nat)) (c f : Nat) (σ : TS) (W2 : List (Nat × Nat × Nat)), tI σ0 114 = nI (c + ks.length) → c + ks.length ≤ 200 → (∀ j, j < ks.length → tA σ0 112 (c + j) = ptr (ks.getD j (0, 0)).1 (ks.getD j (0, 0)).2 0 ∧ MlR σ0 (ks.getD j (0, 0)).1 (ks.getD j (0, 0)).2) → ks.length < f → PutS σ0 E W2 σ → E + W2.length + (wcE i ks).length ≤ 40000 → ∃ σ', L_makeMember_288 cf f (nI i) (nI e) x3 x4 x5 x6 x7 x8 x9 (nI c) σ = some ((), σ') ∧ PutS σ0 E (W2 ++ adv σ0 x (wcE i ks)) σ'
  | [], c, f, σ, W2, h1, h2, h3, hf, hP, h4 => by
    obtain ⟨f, rfl⟩ : ∃ g, f = g + 1 := ⟨f - 1, by omega⟩
    refine ⟨σ, ?_, by show PutS σ0 E (W2 ++ []) σ; rw [List.append_nil]; exact hP⟩
    have e0 : tI σ 114 = nI c := by rw [(hP.1 114 rfl).1]; exact h1
    rw [L_makeMember_288, e0, ifT ((bI_le (by omega) (by omega)).mpr (Nat.le_refl _))]
  | p :: ks, c, f, σ, W2, h1, h2, h3, hf, hP, h4 => by
    obtain ⟨f, rfl⟩ : ∃ g, f = g + 1 := ⟨f - 1, by omega⟩
    have hlen : (p :: ks).length = ks.length + 1 := rfl
    rw [hlen] at h1 h2 hf
    have hw : (wcE i (p :: ks)).length = p.2 + (wcE i ks).length := by
      show (msE p.1 p.2 i ++ wcE i ks).length = _
      rw [List.length_append, msE_len]
    obtain ⟨c1, c2⟩ := h3 0 (by rw [hlen]; omega)
    have c1 : tA σ0 112 c = ptr p.1 p.2 0 := c1
    have c2 : MlR σ0 p.1 p.2 := c2
    have e0 : tI σ 114 = nI (c + (ks.length + 1)) := by rw [(hP.1 114 rfl).1]; exact h1
    have fu := FUb
    obtain ⟨σ1, g1, g2⟩ := t_chain1 (cf := cf) (x3 := x3) (x4 := x4) (x5 := x5) (x6 := x6) (x7 := x7) (x8 := x8) (x9 := x9) (x10 := nI c) c2 he hx hi p.2 0 FU σ W2 (by omega) (by have := c2.1; omega) hP (by omega)
    have al := adv_len (σ := σ0) (x := x) (W := msE p.1 p.2 i)
    rw [msE_len] at al
    rw [Nat.add_zero] at g2
    obtain ⟨σ', g3, g4⟩ := t_chain hi he hx ks (c + 1) f σ1 _ (by rw [h1]; congr 1; omega) (by omega) (fun j hj => by
      have := h3 (j + 1) (by rw [hlen]; omega)
      rw [show c + (j + 1) = c + 1 + j by omega] at this
      exact this) (by omega) g2 (by rw [List.length_append]; omega)
    refine ⟨σ', ?_, ?_⟩
    · rw [L_makeMember_288, e0, ifF (fun z => by have := (bI_le (by omega) (by omega)).mp z; omega), ifT (inb_nI' (by omega) (by decide)), ix_nI (by omega), (hP.1 112 rfl).2.2.1, c1, nm_eq, g1, ob_some, nI_addL, nm_eq]
      exact g3
    · show PutS σ0 E (W2 ++ adv σ0 x (msE p.1 p.2 i ++ wcE i ks)) σ'
      rw [adv_app, ← List.append_assoc]
      exact g4
/-- an element's own modifications come behind -/
theorem t_own (hM : MlR σ0 k0 n) (hi : i < 200) : ∀ (d t f : Nat) (σ : TS) (W2 : List (Nat × Nat × Nat)), t + d = n → d < f → PutS σ0 E W2 σ → E + W2.length + d ≤ 40000 → ∃ σ', L_makeMember_406 cf f (nI i) x2 x3 x4 x5 x6 x7 x8 x9 (ptr k0 n t) σ = some ((), σ') ∧ PutS σ0 E (W2 ++ msE (k0 + t) d i) σ' := by
  intro d
  induction d with
  | zero =>
    intro t f σ W2 hd hf hP h2
    obtain ⟨f, rfl⟩ : ∃ g, f = g + 1 := ⟨f - 1, by omega⟩
    refine ⟨σ, ?_, by show PutS σ0 E (W2 ++ []) σ; rw [List.append_nil]; exact hP⟩
    rw [L_makeMember_406, ifT (show ptr k0 n t = 0 from ifF (by omega))]
  | succ d ih =>
    intro t f σ W2 hd hf hP h2
    obtain ⟨f, rfl⟩ : ∃ g, f = g + 1 := ⟨f - 1, by omega⟩
    obtain ⟨p1, p2, p3, p4⟩ := hP
    obtain ⟨pe, n0, hin, hix⟩ := ptr_ne (k := t) (n := n) (k0 := k0) (by omega) hM.1
    have m1' := ptr_next hM (k := t) (by omega)
    have fin : ∀ y : Int32, (y = if tA σ0 62 (k0 + t) = 0 then pth σ0 (k0 + t) 0 else -1) → ∃ σ', (ob (F_put (nI (k0 + t)) y (nI i) σ) fun _ s85 => if inb (nI (k0 + t)) 2500 then nm (tA s85 61 (k0 + t)) fun v90 => L_makeMember_406 cf f (nI i) x2 x3 x4 x5 x6 x7 x8 x9 v90 s85 else none) = some ((), σ') ∧ PutS σ0 E (W2 ++ msE (k0 + t) (d + 1) i) σ' := fun y hy => by
      have hs := PutS.snoc (a := (k0 + t, 0, i)) (y := y) ⟨p1, p2, p3, p4⟩ hy
      obtain ⟨σ', g1, g2⟩ := ih (t + 1) f _ _ (by omega) (by omega) hs (by rw [List.length_append]; show E + (W2.length + 1) + d ≤ 40000; omega)
      refine ⟨σ', ?_, ?_⟩
      · have e61 : tA (putT σ (E + W2.length) (nI (k0 + t)) y (nI i)) 61 (k0 + t) = ptr k0 n (t + 1) := by
          rw [(putT_f 61 rfl).2.2.1, (p1 61 rfl).2.2.1, m1']
        rw [t_putE p2 (by omega), ob_some, ifT (by rw [← pe]; exact hin), nm_eq, e61]
        exact g1
      · rw [msE_succ]
        rw [List.append_assoc] at g2
        exact g2
    rw [L_makeMember_406, ifF n0, ifT hin, pe, ix_nI (by have := hM.1; omega), (p1 62 rfl).2.2.1, (p1 59 rfl).2.2.1]
    by_cases r62 : tA σ0 62 (k0 + t) = 0
    · rw [ifT r62, ifT (by rw [← pe]; exact hin)]
      exact fin _ (by rw [ifT r62]; rfl)
    · rw [ifF r62]
      exact fin _ (by rw [ifF r62])
end CHAIN
