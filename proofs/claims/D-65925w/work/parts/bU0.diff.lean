/-! Layer B: solved trees: the component differentiates: cases -/
set_option maxRecDepth 100000
section DIFF0
variable {s s' s1 s2 σ : TS} {D D' D2 : FQ} {M M' M1 M2 : CM} {l V K K0 K' N N' h h' f st a n m p q r k c1 c2 c3 t1 t2 t3 j u u' v w x0 X H z z1 z2 z3 d : Nat} {op vl x x' kx mo he cc : Int32} {E : Prop} {cf : Nat → CM → Option ((Nat ⊕ Nat) × CM)}
theorem LfK.kd (z : LfK s n u x) : tA s 121 n ∈ ([2, 3, 30] : List Int32) := by
  rcases z with ⟨e, -⟩ | ⟨e, -⟩ | ⟨e, -⟩ <;> rw [e] <;> decide
theorem nI_inj {a b : Nat} (h : nI a = nI b) (ha : a < 100000) (hb : b < 100000) : a = b := (bI_eq (by omega) (by omega)).mp h
theorem LfU.uq (z : LfU s v u x) (z' : LfU s v u' x') : u = u' ∧ x = x' := by
  obtain ⟨⟨a1, a2⟩, ⟨w, b1, b2, b3⟩, c1, c2, c3⟩ := z
  obtain ⟨-, ⟨w', d1, d2, d3⟩, e1, e2, e3⟩ := z'
  have : w = w' := nI_inj (b2.symm.trans d2) (by omega) (by omega)
  subst this
  exact ⟨nI_inj (b3.symm.trans d3) (by omega) (by omega), c2.symm.trans e2⟩
theorem LfK.uq (z : LfK s n u x) (z' : LfK s n u' x') : u = u' ∧ x = x' := by
  rcases z with ⟨e, v, ev, l⟩ | ⟨e, v, w, ev, l, d1, d2⟩ | ⟨e, e2, hu, hx⟩ <;> rcases z' with ⟨e', v', ev', l'⟩ | ⟨e', v', w', ev', l', d1', d2'⟩ | ⟨e', e2', hu', hx'⟩
  · have : v = v' := nI_inj (ev.symm.trans ev') (by have := l.1.2; omega) (by have := l'.1.2; omega)
    subst this; exact l.uq l'
  · rw [e] at e'; exact absurd e' (by decide)
  · rw [e] at e'; exact absurd e' (by decide)
  · rw [e] at e'; exact absurd e' (by decide)
  · have : v = v' := nI_inj (ev.symm.trans ev') (by have := l.1.2; omega) (by have := l'.1.2; omega)
    subst this
    obtain ⟨q1, q2⟩ := l.uq l'
    subst q1
    exact ⟨nI_inj (d1.symm.trans d1') (by omega) (by omega), q2⟩
  · rw [e] at e'; exact absurd e' (by decide)
  · rw [e] at e'; exact absurd e' (by decide)
  · rw [e] at e'; exact absurd e' (by decide)
  · exact ⟨nI_inj (e2.symm.trans e2') (by omega) (by omega), hx.trans hx'.symm⟩
theorem Der.i0 (z : Der s N (h + 1) n m) (e : tA s 121 n ∈ ([0, 12, 13] : List Int32)) : isN s N m 0 := by
  obtain ⟨-, z⟩ := z
  simp only [List.mem_cons, List.not_mem_nil, or_false] at e
  rcases z with ⟨q, z⟩ | ⟨q, z⟩ | ⟨q, z⟩ | ⟨q, z⟩ | ⟨u, x, d, q, z⟩ | ⟨q, z⟩ | ⟨q, z⟩ | ⟨q, z⟩ | ⟨q, z⟩ | ⟨q, z⟩ | ⟨q, z⟩ | ⟨q, z⟩ | ⟨q, z⟩
  · exact z
  all_goals first | (exfalso; revert q; rcases e with e | e | e <;> rw [e] <;> decide) | (exfalso; have q := q.kd; revert q; rcases e with e | e | e <;> rw [e] <;> decide)
theorem Der.i1 (z : Der s N (h + 1) n m) (e : tA s 121 n = 1) : isN s N m 65536 := by
  obtain ⟨-, z⟩ := z
  rcases z with ⟨q, z⟩ | ⟨q, z⟩ | ⟨q, z⟩ | ⟨q, z⟩ | ⟨u, x, d, q, z⟩ | ⟨q, z⟩ | ⟨q, z⟩ | ⟨q, z⟩ | ⟨q, z⟩ | ⟨q, z⟩ | ⟨q, z⟩ | ⟨q, z⟩ | ⟨q, z⟩
  rotate_left 1
  · exact z
  all_goals first | (exfalso; revert q; rw [e]; decide) | (exfalso; have q := q.kd; revert q; rw [e]; decide)
theorem Der.iv (z : Der s N (h + 1) n m) (e : tA s 121 n = 2 ∨ tA s 121 n = 4) (hv : v < 96 ∧ tA s 122 n = nI v ∧ ¬ tA s 94 v = 0) : isN s N m 0 := by
  obtain ⟨-, z⟩ := z
  have lu : ∀ v' u x, tA s 122 n = nI v' → LfU s v' u x → False := fun v' u x ev l => by
    have : v' = v := nI_inj (ev.symm.trans hv.2.1) (by have := l.1.2; omega) (by omega)
    subst this; exact hv.2.2 l.1.1
  rcases z with ⟨q, z⟩ | ⟨q, z⟩ | ⟨q, -, z⟩ | ⟨q, v', u, x, z1, z2, -⟩ | ⟨u, x, d, q, z⟩ | ⟨q, z⟩ | ⟨q, z⟩ | ⟨q, z⟩ | ⟨q, z⟩ | ⟨q, z⟩ | ⟨q, z⟩ | ⟨q, z⟩ | ⟨q, z⟩
  rotate_left 2
  · exact z
  · exact (lu v' u x z1 z2).elim
  · rcases q with ⟨-, v', ev, l⟩ | ⟨q, -⟩ | ⟨q, -⟩
    · exact (lu v' u x ev l).elim
    · exfalso; revert q; rcases e with e | e <;> rw [e] <;> decide
    · exfalso; revert q; rcases e with e | e <;> rw [e] <;> decide
  all_goals (exfalso; revert q; rcases e with e | e <;> rw [e] <;> decide)
theorem Der.ip (z : Der s N (h + 1) n m) (e : tA s 121 n = 4) (ev : tA s 122 n = nI v) (l : LfU s v u x) : (x = 1 ∧ isN s N m 0) ∨ (x = -1 ∧ ∃ p, is1 s N 7 m p ∧ isN s N p 0) := by
  obtain ⟨-, z⟩ := z
  rcases z with ⟨q, z⟩ | ⟨q, z⟩ | ⟨q, ⟨v', v1, v2, v3⟩, z⟩ | ⟨q, v', u', x', z1, z2, z3⟩ | ⟨u, x, d, q, z⟩ | ⟨q, z⟩ | ⟨q, z⟩ | ⟨q, z⟩ | ⟨q, z⟩ | ⟨q, z⟩ | ⟨q, z⟩ | ⟨q, z⟩ | ⟨q, z⟩
  rotate_left 2
  · have : v' = v := nI_inj (v2.symm.trans ev) (by omega) (by have := l.1.2; omega)
    subst this; exact absurd l.1.1 v3
  · have : v' = v := nI_inj (z1.symm.trans ev) (by have := z2.1.2; omega) (by have := l.1.2; omega)
    subst this
    rw [(l.uq z2).2]; exact z3
  all_goals first | (exfalso; revert q; rw [e]; decide) | (exfalso; have q := q.kd; revert q; rw [e]; decide)
theorem Der.iu (z : Der s N (h + 1) n m) (l : LfK s n u x) : ∃ d, (tA s 189 u = nI d ∧ d < 180) ∧ ((x = 1 ∧ is1 s N 30 m d) ∨ (x = -1 ∧ ∃ p, is1 s N 7 m p ∧ is1 s N 30 p d)) := by
  obtain ⟨-, z⟩ := z
  have e := l.kd
  simp only [List.mem_cons, List.not_mem_nil, or_false] at e
  rcases z with ⟨q, z⟩ | ⟨q, z⟩ | ⟨q, ⟨v, v1, v2, v3⟩, z⟩ | ⟨q, v', u', x', z1, z2, z3⟩ | ⟨u', x', d, q, z1, z2⟩ | ⟨q, z⟩ | ⟨q, z⟩ | ⟨q, z⟩ | ⟨q, z⟩ | ⟨q, z⟩ | ⟨q, z⟩ | ⟨q, z⟩ | ⟨q, z⟩
  rotate_left 2
  · rcases l with ⟨-, v', ev, l⟩ | ⟨q', -⟩ | ⟨q', -⟩
    · have : v' = v := nI_inj (ev.symm.trans v2) (by have := l.1.2; omega) (by omega)
      subst this; exact absurd l.1.1 v3
    · exfalso; revert q; rw [q']; decide
    · exfalso; revert q; rw [q']; decide
  · exfalso; revert q; rcases e with e | e | e <;> rw [e] <;> decide
  · obtain ⟨r1, r2⟩ := l.uq q
    subst r1; subst r2
    exact ⟨d, z1, z2⟩
  all_goals (exfalso; revert q; rcases e with e | e | e <;> rw [e] <;> decide)
theorem Der.i7 (z : Der s N (h + 1) n m) (e : tA s 121 n = 7) : ∃ a p, tA s 122 n = nI a ∧ Der s N h a p ∧ is1 s N 7 m p := by
  obtain ⟨-, z⟩ := z
  rcases z with ⟨q, z⟩ | ⟨q, z⟩ | ⟨q, z⟩ | ⟨q, z⟩ | ⟨u, x, d, q, z⟩ | ⟨q, z⟩ | ⟨q, z⟩ | ⟨q, z⟩ | ⟨q, z⟩ | ⟨q, z⟩ | ⟨q, z⟩ | ⟨q, z⟩ | ⟨q, z⟩
  all_goals first | exact z | (exfalso; revert q; rw [e]; decide) | (exfalso; have q := q.kd; revert q; rw [e]; decide)
theorem Der.i5 (z : Der s N (h + 1) n m) (e : tA s 121 n = 5 ∨ tA s 121 n = 6) : ∃ a b p q, tA s 122 n = nI a ∧ tA s 123 n = nI b ∧ Der s N h a p ∧ Der s N h b q ∧ is2 s N (tA s 121 n) m p q := by
  obtain ⟨-, z⟩ := z
  rcases z with ⟨q, z⟩ | ⟨q, z⟩ | ⟨q, z⟩ | ⟨q, z⟩ | ⟨u, x, d, q, z⟩ | ⟨q, z⟩ | ⟨q, z⟩ | ⟨q, z⟩ | ⟨q, z⟩ | ⟨q, z⟩ | ⟨q, z⟩ | ⟨q, z⟩ | ⟨q, z⟩
  all_goals first | exact z | (exfalso; revert q; rcases e with e | e <;> rw [e] <;> decide) | (exfalso; have q := q.kd; revert q; rcases e with e | e <;> rw [e] <;> decide)
theorem Der.i8 (z : Der s N (h + 1) n m) (e : tA s 121 n = 8) : ∃ a b p q l r, tA s 122 n = nI a ∧ tA s 123 n = nI b ∧ Der s N h a p ∧ Der s N h b q ∧ is2 s N 8 l p b ∧ is2 s N 8 r a q ∧ is2 s N 5 m l r := by
  obtain ⟨-, z⟩ := z
  rcases z with ⟨q, z⟩ | ⟨q, z⟩ | ⟨q, z⟩ | ⟨q, z⟩ | ⟨u, x, d, q, z⟩ | ⟨q, z⟩ | ⟨q, z⟩ | ⟨q, z⟩ | ⟨q, z⟩ | ⟨q, z⟩ | ⟨q, z⟩ | ⟨q, z⟩ | ⟨q, z⟩
  all_goals first | exact z | (exfalso; revert q; rw [e]; decide) | (exfalso; have q := q.kd; revert q; rw [e]; decide)
theorem Der.i9 (z : Der s N (h + 1) n m) (e : tA s 121 n = 9) : ∃ a b p q t u w, tA s 122 n = nI a ∧ tA s 123 n = nI b ∧ Der s N h a p ∧ Der s N h b q ∧ is2 s N 9 t a b ∧ is2 s N 8 u t q ∧ is2 s N 6 w p u ∧ is2 s N 9 m w b := by
  obtain ⟨-, z⟩ := z
  rcases z with ⟨q, z⟩ | ⟨q, z⟩ | ⟨q, z⟩ | ⟨q, z⟩ | ⟨u, x, d, q, z⟩ | ⟨q, z⟩ | ⟨q, z⟩ | ⟨q, z⟩ | ⟨q, z⟩ | ⟨q, z⟩ | ⟨q, z⟩ | ⟨q, z⟩ | ⟨q, z⟩
  all_goals first | exact z | (exfalso; revert q; rw [e]; decide) | (exfalso; have q := q.kd; revert q; rw [e]; decide)
theorem Der.i10 (z : Der s N (h + 1) n m) (e : tA s 121 n = 10) : ∃ a p t, tA s 122 n = nI a ∧ Der s N h a p ∧ is1 s N 12 t a ∧ is2 s N 8 m t p := by
  obtain ⟨-, z⟩ := z
  rcases z with ⟨q, z⟩ | ⟨q, z⟩ | ⟨q, z⟩ | ⟨q, z⟩ | ⟨u, x, d, q, z⟩ | ⟨q, z⟩ | ⟨q, z⟩ | ⟨q, z⟩ | ⟨q, z⟩ | ⟨q, z⟩ | ⟨q, z⟩ | ⟨q, z⟩ | ⟨q, z⟩
  all_goals first | exact z | (exfalso; revert q; rw [e]; decide) | (exfalso; have q := q.kd; revert q; rw [e]; decide)
theorem Der.i11 (z : Der s N (h + 1) n m) (e : tA s 121 n = 11) : ∃ a p t u w, tA s 122 n = nI a ∧ Der s N h a p ∧ is1 s N 11 t a ∧ isN s N w 131072 ∧ is2 s N 8 u w t ∧ is2 s N 9 m p u := by
  obtain ⟨-, z⟩ := z
  rcases z with ⟨q, z⟩ | ⟨q, z⟩ | ⟨q, z⟩ | ⟨q, z⟩ | ⟨u, x, d, q, z⟩ | ⟨q, z⟩ | ⟨q, z⟩ | ⟨q, z⟩ | ⟨q, z⟩ | ⟨q, z⟩ | ⟨q, z⟩ | ⟨q, z⟩ | ⟨q, z⟩
  all_goals first | exact z | (exfalso; revert q; rw [e]; decide) | (exfalso; have q := q.kd; revert q; rw [e]; decide)
theorem Der.i14 (z : Der s N (h + 1) n m) (e : tA s 121 n = 14 ∨ tA s 121 n = 15) : ∃ a b p q c, tA s 122 n = nI a ∧ tA s 123 n = nI b ∧ Der s N h a p ∧ Der s N h b q ∧ isL s N (if tA s 121 n = 14 then 15421 else 15933) c a b ∧ is3 s N m c p q := by
  obtain ⟨-, z⟩ := z
  rcases z with ⟨q, z⟩ | ⟨q, z⟩ | ⟨q, z⟩ | ⟨q, z⟩ | ⟨u, x, d, q, z⟩ | ⟨q, z⟩ | ⟨q, z⟩ | ⟨q, z⟩ | ⟨q, z⟩ | ⟨q, z⟩ | ⟨q, z⟩ | ⟨q, z⟩ | ⟨q, z⟩
  all_goals first | exact z | (exfalso; revert q; rcases e with e | e <;> rw [e] <;> decide) | (exfalso; have q := q.kd; revert q; rcases e with e | e <;> rw [e] <;> decide)
theorem Der.i16 (z : Der s N (h + 1) n m) (e : tA s 121 n = 16) : ∃ c a b p q, tA s 122 n = nI c ∧ tA s 123 n = nI a ∧ tA s 124 n = nI b ∧ Der s N h a p ∧ Der s N h b q ∧ is3 s N m c p q := by
  obtain ⟨-, z⟩ := z
  rcases z with ⟨q, z⟩ | ⟨q, z⟩ | ⟨q, z⟩ | ⟨q, z⟩ | ⟨u, x, d, q, z⟩ | ⟨q, z⟩ | ⟨q, z⟩ | ⟨q, z⟩ | ⟨q, z⟩ | ⟨q, z⟩ | ⟨q, z⟩ | ⟨q, z⟩ | ⟨q, z⟩
  all_goals first | exact z | (exfalso; revert q; rw [e]; decide) | (exfalso; have q := q.kd; revert q; rw [e]; decide)
theorem ArS.k4 (A : ArS 133 134 40000 D M K) : mk M 133 = 4 := (A.2.1.1 (133, 4, 0) (by decide)).1
/-- leaves -/
theorem kd_num (A : ArS 133 134 40000 D M K) (r69 : mR M 69 1 = 133) (hk : k < K) (ha : a = (pl D 134).getD k 0) (hop : mI M 3400 a ∈ ([0, 1, 12, 13, 16, 18] : List Int32)) (hf : 0 < f) : OKA 133 134 40000 D M K (KG_X0_diff f a M) 1 (fun D' M' K' a' => a' = (pl D' 134).getD K 0 ∧ NwS 134 D' M' K 0 0 0 (-1) 0 0 0 1) E := by
  obtain ⟨f, rfl⟩ : ∃ g, f = g + 1 := ⟨f - 1, by omega⟩
  have ka := A.k18 NdS2.one hk
  rw [← ha] at ka
  show OKA 133 134 40000 D M K (KB_X0_diff (KG_X0_diff f) a M) 1 _ E
  have e : KB_X0_diff (KG_X0_diff f) a M = K_X3_number 133 0 M := by
    simp only [List.mem_cons, List.not_mem_nil, or_false] at hop
    unfold KB_X0_diff
    rw [ifT ka.1, r69]
    rcases hop with q | q | q | q | q | q <;> rw [q] <;> simp +decide only [↓reduceIte, A.k4, obS_id]
  rw [e]
  exact (ka_num NdS2.one A).mono rfl (fun _ _ _ _ _ _ _ q => q) (fun q => q.elim)
theorem kd_time (A : ArS 133 134 40000 D M K) (r69 : mR M 69 1 = 133) (hk : k < K) (ha : a = (pl D 134).getD k 0) (hop : mI M 3400 a = 2) (hf : 0 < f) : OKA 133 134 40000 D M K (KG_X0_diff f a M) 1 (fun D' M' K' a' => a' = (pl D' 134).getD K 0 ∧ NwS 134 D' M' K 0 65536 0 (-1) 0 0 0 1) E := by
  obtain ⟨f, rfl⟩ : ∃ g, f = g + 1 := ⟨f - 1, by omega⟩
  have ka := A.k18 NdS2.one hk
  rw [← ha] at ka
  show OKA 133 134 40000 D M K (KB_X0_diff (KG_X0_diff f) a M) 1 _ E
  have e : KB_X0_diff (KG_X0_diff f) a M = K_X3_number 133 65536 M := by
    unfold KB_X0_diff
    rw [ifT ka.1, r69, hop]
    simp +decide only [↓reduceIte, A.k4, obS_id]
  rw [e]
  exact (ka_num NdS2.one A).mono rfl (fun _ _ _ _ _ _ _ q => q) (fun q => q.elim)
theorem kd_unk (A : ArS 133 134 40000 D M K) (r69 : mR M 69 1 = 133) (hk : k < K) (ha : a = (pl D 134).getD k 0) (hop : mI M 3400 a = 17) (hu : mI M 3401 a = nI u ∧ u < 180) (hd : mA M 121 u = nI d) (hf : 0 < f) : OKA 133 134 40000 D M K (KG_X0_diff f a M) 1 (fun D' M' K' a' => a' = (pl D' 134).getD K 0 ∧ NwS 134 D' M' K 17 (nI d) 0 (-1) 0 0 0 1) E := by
  obtain ⟨f, rfl⟩ : ∃ g, f = g + 1 := ⟨f - 1, by omega⟩
  have ka := A.k18 NdS2.one hk
  rw [← ha] at ka
  have iu : inb (nI u) 180 := inb_nI' hu.2 (by decide)
  have xu : ix (nI u) = u := ix_nI (by omega)
  show OKA 133 134 40000 D M K (KB_X0_diff (KG_X0_diff f) a M) 1 _ E
  have e : KB_X0_diff (KG_X0_diff f) a M = K_X3_make 133 17 (nI d) 0 0 0 M := by
    unfold KB_X0_diff
    rw [ifT ka.1, r69, hop, hu.1, xu, hd]
    simp +decide only [↓reduceIte, A.k4, obS_id, ka.1, ifT iu]
  rw [e]
  refine (ka_make NdS2.one A (Or.inl ⟨rfl, rfl⟩) (Or.inl ⟨rfl, rfl⟩) (Or.inl ⟨rfl, rfl⟩)).mono rfl (fun _ _ _ _ _ _ _ q => ⟨q.1, ?_⟩) (fun q => ?_)
  · have := q.2.1; rw [hgt0] at this; exact this
  · rw [hgt0] at q; omega
end DIFF0
