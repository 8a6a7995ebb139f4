/-! Layer B: the twin's derivative: its cases -/
set_option maxRecDepth 100000
section DER3
variable {s s' s1 s2 σ : TS} {S : List Nat} {N N' N0 K h h' st n m u v w x y z c c' p q r d : Nat} {sx op k : Int32} {cf : Int32 → TS → Option (Int32 × TS)} {G : TS → Nat → Nat → Prop}
theorem sg_pos (h : sg1 sx) : (sx = 1 ∧ 0 ≤ sx) ∨ (sx = -1 ∧ ¬ 0 ≤ sx) := by
  rcases h with rfl | rfl
  · exact Or.inl ⟨rfl, by decide⟩
  · exact Or.inr ⟨rfl, by decide⟩
theorem tB_num (h0 : tI s 0 = 0) (hn : n < 70000) (e : tA s 121 n ∈ ([0, 12, 13] : List Int32)) : B_derived cf (nI n) s = ob (F_numeralNode 0 s) fun r s => some (r, s) := by
  have inn : inb (nI n) 70000 := inb_nI' hn (by decide)
  have xn : ix (nI n) = n := ix_nI (by omega)
  simp only [List.mem_cons, List.not_mem_nil, or_false] at e
  unfold B_derived
  rw [t_isBad0 h0, ob_some, xn]
  rcases e with e | e | e <;> rw [e] <;> simp +decide only [↓reduceIte, ifT inn, nm_eq]
theorem tB_time (h0 : tI s 0 = 0) (hn : n < 70000) (e : tA s 121 n = 1) : B_derived cf (nI n) s = ob (F_numeralNode 65536 s) fun r s => some (r, s) := by
  have inn : inb (nI n) 70000 := inb_nI' hn (by decide)
  have xn : ix (nI n) = n := ix_nI (by omega)
  unfold B_derived
  rw [t_isBad0 h0, ob_some, xn, e]
  simp +decide only [↓reduceIte, ifT inn, nm_eq]
theorem tB_plain (h0 : tI s 0 = 0) (hn : n < 70000) (e : tA s 121 n = 2 ∨ tA s 121 n = 4) (hv : v < 96 ∧ tA s 122 n = nI v ∧ ¬ tA s 94 v = 0) : B_derived cf (nI n) s = ob (F_numeralNode 0 s) fun r s => some (r, s) := by
  have inn : inb (nI n) 70000 := inb_nI' hn (by decide)
  have xn : ix (nI n) = n := ix_nI (by omega)
  have iv : inb (nI v) 96 := inb_nI' hv.1 (by decide)
  have xv : ix (nI v) = v := ix_nI (by omega)
  unfold B_derived
  rw [t_isBad0 h0, ob_some, xn, hv.2.1, xv]
  rcases e with e | e <;> rw [e] <;> simp +decide only [↓reduceIte, ifT inn, nm_eq, ifT iv, ifF hv.2.2]
theorem tB_pre (h0 : tI s 0 = 0) (hn : n < 70000) (e : tA s 121 n = 4) (ev : tA s 122 n = nI v) (l : LfU s v u sx) : B_derived cf (nI n) s = ob (F_numeralNode 0 s) fun r s => if sx = 1 then some (r, s) else ob (F_make 7 r 0 0 s) fun r s => some (r, s) := by
  have inn : inb (nI n) 70000 := inb_nI' hn (by decide)
  have xn : ix (nI n) = n := ix_nI (by omega)
  obtain ⟨⟨l1, l2⟩, -, -, l3, l4⟩ := l
  have iv : inb (nI v) 96 := inb_nI' l2 (by decide)
  have xv : ix (nI v) = v := ix_nI (by omega)
  unfold B_derived
  rw [t_isBad0 h0, ob_some, xn, ev, xv, e]
  rcases sg_pos l4 with ⟨rfl, q⟩ | ⟨rfl, q⟩ <;> simp +decide only [↓reduceIte, ifT inn, nm_eq, ifT iv, l1, l3]
theorem tB_leaf (h0 : tI s 0 = 0) (hn : n < 70000) (l : LfK s n u sx) (hd : tA s 189 u = nI d ∧ d < 180) : B_derived cf (nI n) s = ob (F_unknownNode (nI d) s) fun r s => if sx = 1 then some (r, s) else ob (F_make 7 r 0 0 s) fun r s => some (r, s) := by
  have inn : inb (nI n) 70000 := inb_nI' hn (by decide)
  have xn : ix (nI n) = n := ix_nI (by omega)
  have i2 : ∀ {j : Nat}, j < 180 → inb (nI j) 200 := fun hj => inb_nI' (by omega) (by decide)
  have x2 : ∀ {j : Nat}, j < 180 → ix (nI j) = j := fun hj => ix_nI (by omega)
  have u180 := l.lt.1
  have d0 : (0 : Int32) ≤ nI d := by rw [nI_Lle (by omega) (by decide)]; exact Nat.zero_le _
  have k307 : J_derived_307 cf (nI u) 0 s = (ob (F_unknownNode (nI d) s) fun r s => some (r, s)) ∧ J_derived_307 cf (nI u) 1 s = ob (F_unknownNode (nI d) s) fun r s => ob (F_make 7 r 0 0 s) fun r s => some (r, s) := by
    unfold J_derived_307
    rw [t_isBad0 h0, ob_some, ob_some, ifT rfl, ifT rfl, ifT (i2 u180), ifT (i2 u180), x2 u180, hd.1]
    exact ⟨rfl, rfl⟩
  have k276 : ∀ y, J_derived_276 cf (nI u) y s = J_derived_307 cf (nI u) y s := fun y => by
    unfold J_derived_276
    rw [ifT (i2 u180), x2 u180, hd.1, ifT d0]
  have k275 : J_derived_275 cf (nI u) s = J_derived_307 cf (nI u) 0 s := k276 0
  rcases l with ⟨e, v, ev, ⟨l1, l2⟩, ⟨w, w1, w2, w3⟩, l5, l3, l4⟩ | ⟨e, v, w, ev, ⟨⟨l1, l2⟩, ⟨w', w1, w2, w3⟩, l5, l3, l4⟩, l6, l7⟩ | ⟨e, e2, -, rfl⟩
  · have iv : inb (nI v) 96 := inb_nI' l2 (by decide)
    have xv : ix (nI v) = v := ix_nI (by omega)
    have iw : inb (nI w) 96 := inb_nI' w1 (by decide)
    have xw : ix (nI w) = w := ix_nI (by omega)
    have lu : F_leafUnknown (nI n) s = some (nI u, s) := by
      unfold F_leafUnknown
      rw [ifT inn, xn, e, ifF (by decide), ifT inn, ev, ifT iv, xv, w2, ifT iw, xw, w3, nm_eq, ifT inn, ifF (by decide)]
    have k245 : J_derived_245 cf (nI n) 2 s = if 0 ≤ sx then J_derived_275 cf (nI u) s else J_derived_276 cf (nI u) 1 s := by
      unfold J_derived_245
      rw [lu, ob_some, ifF (by decide), ifT inn, xn, ev, ifT iv, xv, l3]
    have eb : B_derived cf (nI n) s = J_derived_245 cf (nI n) 2 s := by
      unfold B_derived
      rw [t_isBad0 h0, ob_some, xn, ev, xv, e]
      simp +decide only [↓reduceIte, ifT inn, nm_eq, ifT iv, l1]
    rw [eb, k245]
    rcases sg_pos l4 with ⟨rfl, q⟩ | ⟨rfl, q⟩
    · rw [ifT q, k275, k307.1]; rfl
    · rw [ifF q, k276, k307.2]; rfl
  · have iv : inb (nI v) 96 := inb_nI' l2 (by decide)
    have xv : ix (nI v) = v := ix_nI (by omega)
    have iw : inb (nI w') 96 := inb_nI' w1 (by decide)
    have xw : ix (nI w') = w' := ix_nI (by omega)
    have lu : F_leafUnknown (nI n) s = some (nI u, s) := by
      unfold F_leafUnknown
      rw [ifT inn, xn, e, ifF (by decide), ifT inn, ev, ifT iv, xv, w2, ifT iw, xw, w3, nm_eq, ifT inn, ifT (by decide), ifT (i2 l5), x2 l5, l6]
    have k245 : J_derived_245 cf (nI n) 3 s = if 0 ≤ sx then J_derived_275 cf (nI u) s else J_derived_276 cf (nI u) 1 s := by
      unfold J_derived_245
      rw [lu, ob_some, ifF (by decide), ifT inn, xn, ev, ifT iv, xv, l3]
    have eb : B_derived cf (nI n) s = J_derived_245 cf (nI n) 3 s := by
      unfold B_derived
      rw [t_isBad0 h0, ob_some, xn, ev, xv, e]
      simp +decide only [↓reduceIte, ifT inn, nm_eq]
    rw [eb, k245]
    rcases sg_pos l4 with ⟨rfl, q⟩ | ⟨rfl, q⟩
    · rw [ifT q, k275, k307.1]; rfl
    · rw [ifF q, k276, k307.2]; rfl
  · have lu : F_leafUnknown (nI n) s = some (nI u, s) := by
      unfold F_leafUnknown
      rw [ifT inn, xn, e, ifT (by decide), ifT inn, e2]
    have k245 : J_derived_245 cf (nI n) 30 s = J_derived_275 cf (nI u) s := by
      unfold J_derived_245
      rw [lu, ob_some, ifT rfl]
    have eb : B_derived cf (nI n) s = J_derived_245 cf (nI n) 30 s := by
      unfold B_derived
      rw [t_isBad0 h0, ob_some, xn, e]
      simp +decide only [↓reduceIte, ifT inn, nm_eq]
    rw [eb, k245, k275, k307.1]; rfl
theorem tB_7 (h0 : tI s 0 = 0) (hn : n < 70000) (e : tA s 121 n = 7) : B_derived cf (nI n) s = ob (cf (tA s 122 n) s) fun r s => ob (F_make 7 r 0 0 s) fun r s => some (r, s) := by
  have inn : inb (nI n) 70000 := inb_nI' hn (by decide)
  have xn : ix (nI n) = n := ix_nI (by omega)
  unfold B_derived
  rw [t_isBad0 h0, ob_some, xn, e]
  simp +decide only [↓reduceIte, ifT inn, nm_eq]
theorem tB_5 (h0 : tI s 0 = 0) (hn : n < 70000) (e : tA s 121 n = 5 ∨ tA s 121 n = 6) : B_derived cf (nI n) s = ob (cf (tA s 122 n) s) fun r s1 => ob (cf (tA s1 123 n) s1) fun r' s2 => ob (F_make (tA s 121 n) r r' 0 s2) fun r s => some (r, s) := by
  have inn : inb (nI n) 70000 := inb_nI' hn (by decide)
  have xn : ix (nI n) = n := ix_nI (by omega)
  unfold B_derived
  rw [t_isBad0 h0, ob_some, xn]
  rcases e with e | e <;> rw [e] <;> simp +decide only [↓reduceIte, ifT inn, nm_eq]
theorem tB_8 (h0 : tI s 0 = 0) (hn : n < 70000) (e : tA s 121 n = 8) : B_derived cf (nI n) s = ob (cf (tA s 122 n) s) fun r s1 => ob (cf (tA s1 123 n) s1) fun r' s2 => ob (F_make 8 r (tA s2 123 n) 0 s2) fun l s3 => ob (F_make 8 (tA s3 122 n) r' 0 s3) fun l' s4 => ob (F_make 5 l l' 0 s4) fun r s => some (r, s) := by
  have inn : inb (nI n) 70000 := inb_nI' hn (by decide)
  have xn : ix (nI n) = n := ix_nI (by omega)
  unfold B_derived
  rw [t_isBad0 h0, ob_some, xn, e]
  simp +decide only [↓reduceIte, ifT inn, nm_eq]
theorem tB_9 (h0 : tI s 0 = 0) (hn : n < 70000) (e : tA s 121 n = 9) : B_derived cf (nI n) s = ob (cf (tA s 122 n) s) fun r s1 => ob (cf (tA s1 123 n) s1) fun r' s2 => ob (F_make 9 (tA s2 122 n) (tA s2 123 n) 0 s2) fun t s3 => ob (F_make 8 t r' 0 s3) fun u s4 => ob (F_make 6 r u 0 s4) fun w s5 => ob (F_make 9 w (tA s5 123 n) 0 s5) fun r s => some (r, s) := by
  have inn : inb (nI n) 70000 := inb_nI' hn (by decide)
  have xn : ix (nI n) = n := ix_nI (by omega)
  unfold B_derived
  rw [t_isBad0 h0, ob_some, xn, e]
  simp +decide only [↓reduceIte, ifT inn, nm_eq]
theorem tB_10 (h0 : tI s 0 = 0) (hn : n < 70000) (e : tA s 121 n = 10) : B_derived cf (nI n) s = ob (cf (tA s 122 n) s) fun r s1 => ob (F_make 12 (tA s1 122 n) 0 0 s1) fun t s2 => ob (F_make 8 t r 0 s2) fun r s => some (r, s) := by
  have inn : inb (nI n) 70000 := inb_nI' hn (by decide)
  have xn : ix (nI n) = n := ix_nI (by omega)
  unfold B_derived
  rw [t_isBad0 h0, ob_some, xn, e]
  simp +decide only [↓reduceIte, ifT inn, nm_eq]
theorem tB_11 (h0 : tI s 0 = 0) (hn : n < 70000) (e : tA s 121 n = 11) : B_derived cf (nI n) s = ob (cf (tA s 122 n) s) fun r s1 => ob (F_make 11 (tA s1 122 n) 0 0 s1) fun t s2 => ob (F_numeralNode 131072 s2) fun w s3 => ob (F_make 8 w t 0 s3) fun u s4 => ob (F_make 9 r u 0 s4) fun r s => some (r, s) := by
  have inn : inb (nI n) 70000 := inb_nI' hn (by decide)
  have xn : ix (nI n) = n := ix_nI (by omega)
  unfold B_derived
  rw [t_isBad0 h0, ob_some, xn, e]
  simp +decide only [↓reduceIte, ifT inn, nm_eq]
theorem tB_14 (h0 : tI s 0 = 0) (hn : n < 70000) (e : tA s 121 n = 14 ∨ tA s 121 n = 15) : B_derived cf (nI n) s = ob (cf (tA s 122 n) s) fun r s1 => ob (cf (tA s1 123 n) s1) fun r' s2 => ob (F_make 25 (if tA s 121 n = 14 then 15421 else 15933) (tA s2 122 n) (tA s2 123 n) s2) fun l s3 => ob (F_make 16 l r r' s3) fun r s => some (r, s) := by
  have inn : inb (nI n) 70000 := inb_nI' hn (by decide)
  have xn : ix (nI n) = n := ix_nI (by omega)
  unfold B_derived
  rw [t_isBad0 h0, ob_some, xn]
  rcases e with e | e <;> rw [e] <;> simp +decide only [↓reduceIte, ifT inn, nm_eq]
theorem tB_16 (h0 : tI s 0 = 0) (hn : n < 70000) (e : tA s 121 n = 16) : B_derived cf (nI n) s = ob (cf (tA s 123 n) s) fun r s1 => ob (cf (tA s1 124 n) s1) fun r' s2 => ob (F_make 16 (tA s1 122 n) r r' s2) fun r s => some (r, s) := by
  have inn : inb (nI n) 70000 := inb_nI' hn (by decide)
  have xn : ix (nI n) = n := ix_nI (by omega)
  unfold B_derived
  rw [t_isBad0 h0, ob_some, xn, e]
  simp +decide only [↓reduceIte, ifT inn, nm_eq]
/-- a fault: nothing is made -/
theorem dv_case (good : tI s 0 = 0 → NdX σ s N0 → N0 ≤ N → DP σ N0 s N (B_derived cf (nI n) s) c G) : DP σ N0 s N (B_derived cf (nI n) s) c G := by
  intro g1 g0
  rcases g0 with g0 | g0
  · exact good g0 g1.2.1 g1.2.2.1.1 g1 (Or.inl g0)
  · have b0 : tI s 0 ≠ 0 := by rw [g0.1]; decide
    refine ⟨0, s, N, ?_, by decide, g1, Nat.le_refl _, NdX.rf, Or.inl ⟨g0, fun z => absurd z b0⟩⟩
    unfold B_derived
    rw [t_isBad1 b0, ob_some, ifF (by decide)]
end DER3
