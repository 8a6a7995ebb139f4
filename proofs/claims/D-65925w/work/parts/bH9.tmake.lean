/-! Layer B: flat nodes: the twin makes one -/
set_option maxRecDepth 100000
abbrev lfT : List Int32 := [0, 1, 2, 3, 4, 24, 30]
abbrev unT_ : List Int32 := [7, 10, 11, 12, 13, 23]
abbrev biT : List Int32 := [5, 6, 8, 9, 14, 15, 21, 22]
/-- a node is written -/
def ndT (σ : TS) (N : Nat) (op x2 x3 x4 sz : Int32) : TS := tsA (tsA (tsA (tsA (tsA (tsI σ 126 (nI (N + 1))) 121 N op) 122 N x2) 123 N x3) 124 N x4) 125 N (mmin sz 1000000)
section TMAKE
variable {σ σ' s : TS} {N K : Nat} {op x2 x3 x4 h sz : Int32}
theorem ndT_f : Ft [121, 122, 123, 124, 125, 126] σ (ndT σ N op x2 x3 x4 sz) := (((((Ft.rf _ σ).p_tsI rfl).p_tsA rfl).p_tsA rfl).p_tsA rfl).p_tsA rfl |>.p_tsA rfl
theorem ndT_v : (tI (ndT σ N op x2 x3 x4 sz) 126 = nI (N + 1) ∧ tA (ndT σ N op x2 x3 x4 sz) 121 N = op ∧ tA (ndT σ N op x2 x3 x4 sz) 122 N = x2 ∧ tA (ndT σ N op x2 x3 x4 sz) 123 N = x3 ∧ tA (ndT σ N op x2 x3 x4 sz) 124 N = x4 ∧ tA (ndT σ N op x2 x3 x4 sz) 125 N = mmin sz 1000000) ∧ ∀ f, f ∈ [121, 122, 123, 124, 125] → ∀ j, j ≠ N → tA (ndT σ N op x2 x3 x4 sz) f j = tA σ f j := by
  unfold ndT
  refine ⟨⟨rfl, ?_, ?_, ?_, ?_, ?_⟩, fun f hf j hj => ?_⟩
  all_goals simp [tA_tsA, tA_tsI]
  simp only [List.mem_cons, List.not_mem_nil, or_false] at hf
  rcases hf with rfl | rfl | rfl | rfl | rfl <;> simp [hj]
theorem nB_ops : ∀ op, op ∈ lfT ++ unT_ ++ biT ++ [16, 20] → nB (nB op) = op := by decide
theorem t_mkLf (hN : tI σ 126 = nI N ∧ N < 70000) (ho : op ∈ lfT) : F_make op x2 x3 x4 σ = J_make_433 (nI N) 0 (ndT σ N op x2 x3 x4 1) := by
  have i1 : inb (nI N) 70000 := inb_nI' hN.2 (by decide)
  have e1 : ix (nI N) = N := ix_nI (by omega)
  have n7 : ¬ nI N = 70000 := by rw [show (70000 : Int32) = nI 70000 from rfl, bI_eq (by omega) (by decide)]; omega
  have nb := nB_ops op (List.mem_append_left _ (List.mem_append_left _ (List.mem_append_left _ ho)))
  unfold F_make
  rw [hN.1, ifF n7, nm_eq, nI_addL, nm_eq, ifT i1, nm_eq, ifT i1, nm_eq, ifT i1, nm_eq, ifT i1, nm_eq, e1, nb]
  have k282 : ∀ s : TS, J_make_282 op x2 x3 x4 (nI N) 1 s = J_make_433 (nI N) 0 (tsA s 125 N (mmin 1 1000000)) := fun s => by
    unfold J_make_282
    rw [ifT i1, nm_eq, e1]
    simp only [List.mem_cons, List.not_mem_nil, or_false] at ho
    rcases ho with rfl | rfl | rfl | rfl | rfl | rfl | rfl <;> rfl
  simp only [List.mem_cons, List.not_mem_nil, or_false] at ho
  rcases ho with rfl | rfl | rfl | rfl | rfl | rfl | rfl <;> exact k282 _
theorem t_mkUn (hN : tI σ 126 = nI N ∧ N < 70000) (ho : op ∈ unT_) (h2 : inb x2 70000) : F_make op x2 x3 x4 σ = J_make_433 (nI N) (mmax (tA σ 134 (ix x2)) 0) (ndT σ N op x2 x3 x4 (1 + tA σ 125 (ix x2))) := by
  have i1 : inb (nI N) 70000 := inb_nI' hN.2 (by decide)
  have e1 : ix (nI N) = N := ix_nI (by omega)
  have n7 : ¬ nI N = 70000 := by rw [show (70000 : Int32) = nI 70000 from rfl, bI_eq (by omega) (by decide)]; omega
  have nb := nB_ops op (List.mem_append_left _ (List.mem_append_left _ (List.mem_append_right _ ho)))
  unfold F_make
  rw [hN.1, ifF n7, nm_eq, nI_addL, nm_eq, ifT i1, nm_eq, ifT i1, nm_eq, ifT i1, nm_eq, ifT i1, nm_eq, e1, nb]
  have k428 : ∀ s : TS, J_make_428 (nI N) (tA s 134 (ix x2)) 0 s = J_make_433 (nI N) (mmax (tA s 134 (ix x2)) 0) s := fun s => rfl
  have k202 : ∀ s : TS, J_make_202 op x2 x3 x4 (nI N) 1 s = J_make_433 (nI N) (mmax (tA s 134 (ix x2)) 0) (tsA s 125 N (mmin (1 + tA s 125 (ix x2)) 1000000)) := fun s => by
    unfold J_make_202
    rw [ifT h2, nm_eq]
    unfold J_make_282
    rw [ifT i1, nm_eq, e1]
    simp only [List.mem_cons, List.not_mem_nil, or_false] at ho
    rcases ho with rfl | rfl | rfl | rfl | rfl | rfl <;> exact ifT h2
  simp only [List.mem_cons, List.not_mem_nil, or_false] at ho
  rcases ho with rfl | rfl | rfl | rfl | rfl | rfl <;> exact k202 _
theorem t_mkBi (hN : tI σ 126 = nI N ∧ N < 70000) (ho : op ∈ biT) (h2 : inb x2 70000) (h3 : inb x3 70000) : F_make op x2 x3 x4 σ = J_make_433 (nI N) (mmax (tA σ 134 (ix x2)) (tA σ 134 (ix x3))) (ndT σ N op x2 x3 x4 (1 + (tA σ 125 (ix x2) + tA σ 125 (ix x3)))) := by
  have i1 : inb (nI N) 70000 := inb_nI' hN.2 (by decide)
  have e1 : ix (nI N) = N := ix_nI (by omega)
  have n7 : ¬ nI N = 70000 := by rw [show (70000 : Int32) = nI 70000 from rfl, bI_eq (by omega) (by decide)]; omega
  have nb := nB_ops op (List.mem_append_left _ (List.mem_append_right _ ho))
  unfold F_make
  rw [hN.1, ifF n7, nm_eq, nI_addL, nm_eq, ifT i1, nm_eq, ifT i1, nm_eq, ifT i1, nm_eq, ifT i1, nm_eq, e1, nb]
  have k145 : ∀ s : TS, J_make_145 op x2 x3 x4 (nI N) 1 s = J_make_433 (nI N) (mmax (tA s 134 (ix x2)) (tA s 134 (ix x3))) (tsA s 125 N (mmin (1 + (tA s 125 (ix x2) + tA s 125 (ix x3))) 1000000)) := fun s => by
    unfold J_make_145
    rw [ifT h2, ifT h3, nm_eq]
    unfold J_make_282
    rw [ifT i1, nm_eq, e1]
    simp only [List.mem_cons, List.not_mem_nil, or_false] at ho
    rcases ho with rfl | rfl | rfl | rfl | rfl | rfl | rfl | rfl <;> exact (ifT h2).trans (ifT h3)
  simp only [List.mem_cons, List.not_mem_nil, or_false] at ho
  rcases ho with rfl | rfl | rfl | rfl | rfl | rfl | rfl | rfl <;> exact k145 _
theorem t_mkRl (hN : tI σ 126 = nI N ∧ N < 70000) (h3 : inb x3 70000) (h4 : inb x4 70000) : F_make 20 x2 x3 x4 σ = J_make_433 (nI N) (mmax (tA σ 134 (ix x3)) (tA σ 134 (ix x4))) (ndT σ N 20 x2 x3 x4 (1 + (tA σ 125 (ix x3) + tA σ 125 (ix x4)))) := by
  have i1 : inb (nI N) 70000 := inb_nI' hN.2 (by decide)
  have e1 : ix (nI N) = N := ix_nI (by omega)
  have n7 : ¬ nI N = 70000 := by rw [show (70000 : Int32) = nI 70000 from rfl, bI_eq (by omega) (by decide)]; omega
  have nb := nB_ops 20 (by decide)
  unfold F_make
  rw [hN.1, ifF n7, nm_eq, nI_addL, nm_eq, ifT i1, nm_eq, ifT i1, nm_eq, ifT i1, nm_eq, ifT i1, nm_eq, e1, nb]
  have k263 : ∀ s : TS, J_make_263 20 x2 x3 x4 (nI N) 1 s = J_make_433 (nI N) (mmax (tA s 134 (ix x3)) (tA s 134 (ix x4))) (tsA s 125 N (mmin (1 + (tA s 125 (ix x3) + tA s 125 (ix x4))) 1000000)) := fun s => by
    unfold J_make_263
    rw [ifT h3, ifT h4, nm_eq]
    unfold J_make_282
    rw [ifT i1, nm_eq, e1]
    exact (ifT h3).trans (ifT h4)
  exact k263 _
theorem t_mkIf (hN : tI σ 126 = nI N ∧ N < 70000) (h2 : inb x2 70000) (h3 : inb x3 70000) (h4 : inb x4 70000) : F_make 16 x2 x3 x4 σ = J_make_433 (nI N) (mmax (tA σ 134 (ix x2)) (mmax (tA σ 134 (ix x3)) (tA σ 134 (ix x4)))) (ndT σ N 16 x2 x3 x4 (1 + ((tA σ 125 (ix x2) + tA σ 125 (ix x3)) + tA σ 125 (ix x4)))) := by
  have i1 : inb (nI N) 70000 := inb_nI' hN.2 (by decide)
  have e1 : ix (nI N) = N := ix_nI (by omega)
  have n7 : ¬ nI N = 70000 := by rw [show (70000 : Int32) = nI 70000 from rfl, bI_eq (by omega) (by decide)]; omega
  have nb := nB_ops 16 (by decide)
  unfold F_make
  rw [hN.1, ifF n7, nm_eq, nI_addL, nm_eq, ifT i1, nm_eq, ifT i1, nm_eq, ifT i1, nm_eq, ifT i1, nm_eq, e1, nb]
  have k282 : ∀ (s : TS) (y : Int32), J_make_282 16 x2 x3 x4 (nI N) y s = J_make_433 (nI N) (mmax (tA s 134 (ix x2)) (mmax (tA s 134 (ix x3)) (tA s 134 (ix x4)))) (tsA s 125 N (mmin y 1000000)) := fun s y => by
    unfold J_make_282
    rw [ifT i1, nm_eq, e1]
    exact (ifT h2).trans ((ifT h3).trans (ifT h4))
  exact (ifT h2).trans ((ifT h3).trans ((ifT h4).trans (k282 _ _)))
/-- what is counted: in the flat model's rows (1), for a condition while it is built (2), not at all (0) -/
def CtM (σ : TS) (md K : Nat) : Prop := (md = 1 ∧ tI σ 129 = 1 ∧ tI σ 127 = nI K) ∨ (md = 2 ∧ tI σ 129 = 0 ∧ ¬ tI σ 130 = 0 ∧ tI σ 131 = nI K) ∨ (md = 0 ∧ tI σ 129 = 0 ∧ tI σ 130 = 0)
def ctX (md : Nat) : Nat := if md = 1 then 12000 else 1000
/-- the height is written, the node counted -/
theorem t_433 (hN : N < 70000) {md : Nat} (hc : CtM s md K) (hK : K ≤ 12000) : ∃ σ', J_make_433 (nI N) h s = some (nI N, σ') ∧ Ft [0, 1, 127, 131, 134] s σ' ∧ tA σ' 134 N = h + 1 ∧ (∀ j, j ≠ N → tA σ' 134 j = tA s 134 j) ∧ (md ≠ 0 → CtM σ' md (K + 1)) ∧ (md = 0 → CtM σ' 0 K) ∧ ((md = 0 ∨ K + 1 ≤ ctX md ∨ tI s 0 ≠ 0) → Ft [127, 131, 134] s σ') ∧ (md ≠ 0 → ctX md < K + 1 → tI s 0 = 0 → ∃ s', Ft [127, 131, 134] s s' ∧ σ' = badT s' 24) ∧ (tI s 129 = 0 → tI σ' 127 = tI s 127) := by
  have i1 : inb (nI N) 70000 := inb_nI' hN (by decide)
  have e1 : ix (nI N) = N := ix_nI (by omega)
  obtain ⟨s2, hs2⟩ : ∃ q, q = tsA s 134 N (h + 1) := ⟨_, rfl⟩
  have f2 : Ft [134] s s2 := by rw [hs2]; exact (Ft.rf _ _).p_tsA rfl
  have v2 : tA s2 134 N = h + 1 := by rw [hs2, tA_tsA, ifT ⟨rfl, rfl⟩]
  have o2 : ∀ j, j ≠ N → tA s2 134 j = tA s 134 j := fun j hj => by rw [hs2, tA_tsA, ifF (by omega)]
  unfold J_make_433
  rw [ifT i1, nm_eq, e1, ← hs2, (f2 129 rfl).1, (f2 130 rfl).1]
  have n10 : ¬ (1 : Int32) = 0 := by decide
  -- counted in field g, at most X
  have cnt : ∀ (g : Nat) (X : Nat) (y : Int32), (g = 127 ∨ g = 131) → X ≤ 12000 → y = nI X → tI s g = nI K → ∃ σ', (if tI (tsI s2 g (nI (K + 1))) g ≤ y then some (nI N, tsI s2 g (nI (K + 1))) else ob (F_bad 24 0 (tsI s2 g (nI (K + 1)))) fun _ t => some (nI N, t)) = some (nI N, σ') ∧ Ft [0, 1, 127, 131, 134] s σ' ∧ tA σ' 134 N = h + 1 ∧ (∀ j, j ≠ N → tA σ' 134 j = tA s 134 j) ∧ tI σ' g = nI (K + 1) ∧ (tI σ' 129 = tI s 129 ∧ tI σ' 130 = tI s 130 ∧ (g = 131 → tI σ' 127 = tI s 127)) ∧ ((K + 1 ≤ X ∨ tI s 0 ≠ 0) → Ft [127, 131, 134] s σ') ∧ (X < K + 1 → tI s 0 = 0 → ∃ s', Ft [127, 131, 134] s s' ∧ σ' = badT s' 24) := fun g X y hg hX hy hgK => by
    obtain ⟨s3, hs3⟩ : ∃ q, q = tsI s2 g (nI (K + 1)) := ⟨_, rfl⟩
    have f3 : Ft [127, 131, 134] s s3 := by
      rw [hs3]
      rcases hg with rfl | rfl
      · exact (f2.mono (by decide)).p_tsI rfl
      · exact (f2.mono (by decide)).p_tsI rfl
    have vg : tI s3 g = nI (K + 1) := by
      rw [hs3]
      rcases hg with rfl | rfl <;> rfl
    have h127 : g = 131 → tI s3 127 = tI s 127 := fun z => by rw [hs3, z]; exact (f2 127 rfl).1
    have va : ∀ j, tA s3 134 j = tA s2 134 j := fun j => by rw [hs3]; rfl
    rw [← hs3, vg, hy]
    by_cases q : K + 1 ≤ X
    · rw [ifT ((bI_le (by omega) (by omega)).mpr q)]
      exact ⟨s3, rfl, f3.mono (by decide), by rw [va]; exact v2, fun j hj => by rw [va]; exact o2 j hj, vg, ⟨(f3 129 rfl).1, (f3 130 rfl).1, h127⟩, fun _ => f3, fun z => by omega⟩
    · rw [ifF (fun z => q ((bI_le (by omega) (by omega)).mp z))]
      by_cases q0 : tI s 0 = 0
      · have q03 : tI s3 0 = 0 := by rw [(f3 0 rfl).1]; exact q0
        have fb : Ft [0, 1] s3 (badT s3 24) := badT_f
        rw [t_badT q03, ob_some]
        refine ⟨_, rfl, (f3.mono (by decide)).tr (fb.mono (by decide)), by rw [(fb 134 rfl).2.2.1, va]; exact v2, fun j hj => by rw [(fb 134 rfl).2.2.1, va]; exact o2 j hj, ?_, ⟨by rw [(fb 129 rfl).1]; exact (f3 129 rfl).1, by rw [(fb 130 rfl).1]; exact (f3 130 rfl).1, fun z => by rw [(fb 127 rfl).1]; exact h127 z⟩, fun z => absurd q0 (z.resolve_left q), fun _ _ => ⟨s3, f3, rfl⟩⟩
        rcases hg with rfl | rfl
        · rw [(fb 127 rfl).1]; exact vg
        · rw [(fb 131 rfl).1]; exact vg
      · have q03 : tI s3 0 ≠ 0 := by rw [(f3 0 rfl).1]; exact q0
        rw [t_bad1 q03, ob_some]
        exact ⟨s3, rfl, f3.mono (by decide), by rw [va]; exact v2, fun j hj => by rw [va]; exact o2 j hj, vg, ⟨(f3 129 rfl).1, (f3 130 rfl).1, h127⟩, fun _ => f3, fun _ z => absurd z q0⟩
  rcases hc with ⟨rfl, c1, c2⟩ | ⟨rfl, c1, c2, c3⟩ | ⟨rfl, c1, c2⟩
  · rw [c1, ifF n10]
    unfold J_make_485
    rw [(f2 129 rfl).1, c1, ifF n10, (f2 127 rfl).1, c2, nI_addL, nm_eq]
    obtain ⟨σ', a1, a2, a3, a4, a5, a6, a7, a8⟩ := cnt 127 12000 12000 (Or.inl rfl) (Nat.le_refl _) rfl c2
    exact ⟨σ', a1, a2, a3, a4, fun _ => Or.inl ⟨rfl, by rw [a6.1]; exact c1, a5⟩, fun z => absurd z (by decide), fun z => a7 (z.resolve_left (by decide)), fun _ => a8, fun z => absurd z (by decide)⟩
  · rw [c1, ifT (rfl : (0 : Int32) = 0), ifF c2, (f2 131 rfl).1, c3, nI_addL, nm_eq]
    have e485 : ∀ t : TS, tI t 129 = 0 → J_make_485 (nI N) t = some (nI N, t) := fun t ht => by unfold J_make_485; rw [ifT ht]
    have h129 : tI (tsI s2 131 (nI (K + 1))) 129 = 0 := ((f2 129 rfl).1).trans c1
    obtain ⟨σ', a1, a2, a3, a4, a5, a6, a7, a8⟩ := cnt 131 1000 1000 (Or.inr rfl) (by decide) rfl c3
    refine ⟨σ', ?_, a2, a3, a4, fun _ => Or.inr (Or.inl ⟨rfl, by rw [a6.1]; exact c1, by rw [a6.2.1]; exact c2, a5⟩), fun z => absurd z (by decide), fun z => a7 (z.resolve_left (by decide)), fun _ => a8, fun _ => a6.2.2 rfl⟩
    rw [← a1]
    have : tI (tsI s2 131 (nI (K + 1))) 131 ≤ (1000 : Int32) ∨ ¬ tI (tsI s2 131 (nI (K + 1))) 131 ≤ (1000 : Int32) := Classical.em _
    rcases this with y | y
    · rw [ifT y, ifT y, e485 _ h129]
    · rw [ifF y, ifF y]
      obtain ⟨sb, hsb⟩ := t_badAny 24 0 (tsI s2 131 (nI (K + 1)))
      rw [hsb, ob_some, ob_some]
      refine e485 sb ?_
      unfold F_bad at hsb
      by_cases y0 : tI (tsI s2 131 (nI (K + 1))) 0 = 0
      · rw [ifT y0, nm_eq, nm_eq] at hsb
        have := congrArg Prod.snd (Option.some.inj hsb)
        have this : tsI (tsI (tsI s2 131 (nI (K + 1))) 0 24) 1 0 = sb := this
        rw [← this]; exact h129
      · rw [ifF y0] at hsb
        have := congrArg Prod.snd (Option.some.inj hsb)
        have this : tsI s2 131 (nI (K + 1)) = sb := this
        rw [← this]; exact h129
  · rw [c1, ifT (rfl : (0 : Int32) = 0), ifT c2]
    refine ⟨s2, ?_, f2.mono (by decide), v2, o2, fun z => absurd rfl z, fun _ => Or.inr (Or.inr ⟨rfl, by rw [(f2 129 rfl).1]; exact c1, by rw [(f2 130 rfl).1]; exact c2⟩), fun _ => f2.mono (by decide), fun z => absurd rfl z, fun _ => (f2 127 rfl).1⟩
    unfold J_make_485
    rw [(f2 129 rfl).1, ifT c1]
end TMAKE
