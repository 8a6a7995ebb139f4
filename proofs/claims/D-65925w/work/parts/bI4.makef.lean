/-! Layer B: flat nodes: after a fault; heights -/
set_option maxRecDepth 100000
section MAKEF
variable {σ σ' s s1 : TS} {N K t1 t2 t3 : Nat} {op x2 x3 x4 h sz r p : Int32}
theorem t_bad2 (h : tI s 0 ≠ 0) : F_bad r p s = some ((), s) := by unfold F_bad; rw [ifF h]
theorem t_433F (hN : N < 70000) (h0 : tI s 0 ≠ 0) : ∃ s', J_make_433 (nI N) h s = some (nI N, s') ∧ Ft [127, 131, 134] s s' := by
  have i1 : inb (nI N) 70000 := inb_nI' hN (by decide)
  obtain ⟨s2, hs2⟩ : ∃ q, q = tsA s 134 (ix (nI N)) (h + 1) := ⟨_, rfl⟩
  have f2 : Ft [134] s s2 := by rw [hs2]; exact (Ft.rf _ _).p_tsA rfl
  have k485 : ∀ t : TS, Ft [127, 131, 134] s t → ∃ s', J_make_485 (nI N) t = some (nI N, s') ∧ Ft [127, 131, 134] s s' := fun t ft => by
    unfold J_make_485
    by_cases q : tI t 129 = 0
    · rw [ifT q]; exact ⟨t, rfl, ft⟩
    · rw [ifF q, nm_eq]
      obtain ⟨t2, ht2⟩ : ∃ q, q = tsI t 127 (tI t 127 + 1) := ⟨_, rfl⟩
      have f3 : Ft [127, 131, 134] s t2 := by rw [ht2]; exact ft.p_tsI rfl
      rw [← ht2]
      by_cases q2 : tI t2 127 ≤ 12000
      · rw [ifT q2]; exact ⟨t2, rfl, f3⟩
      · rw [ifF q2, t_bad2 (by rw [(f3 0 rfl).1]; exact h0), ob_some]; exact ⟨t2, rfl, f3⟩
  unfold J_make_433
  rw [ifT i1, nm_eq, ← hs2]
  have f2' : Ft [127, 131, 134] s s2 := f2.mono (by decide)
  by_cases q : tI s2 129 = 0
  · rw [ifT q]
    by_cases q2 : tI s2 130 = 0
    · rw [ifT q2]; exact k485 s2 f2'
    · rw [ifF q2, nm_eq]
      obtain ⟨t2, ht2⟩ : ∃ q, q = tsI s2 131 (tI s2 131 + 1) := ⟨_, rfl⟩
      have f3 : Ft [127, 131, 134] s t2 := by rw [ht2]; exact f2'.p_tsI rfl
      rw [← ht2]
      by_cases q3 : tI t2 131 ≤ 1000
      · rw [ifT q3]; exact k485 t2 f3
      · rw [ifF q3, t_bad2 (by rw [(f3 0 rfl).1]; exact h0), ob_some]; exact k485 t2 f3
  · rw [ifF q]; exact k485 s2 f2'
/-- what a node may be made of -/
def MkA (op x2 x3 x4 : Int32) : Prop := op ∈ lfT ∨ (op ∈ unT_ ∧ inb x2 70000) ∨ (op ∈ biT ∧ inb x2 70000 ∧ inb x3 70000) ∨ (op = 20 ∧ inb x3 70000 ∧ inb x4 70000) ∨ (op = 16 ∧ inb x2 70000 ∧ inb x3 70000 ∧ inb x4 70000)
theorem t_makeF (h0 : tI s 0 ≠ 0) (hN : ∃ N, N ≤ 70000 ∧ tI s 126 = nI N) (ho : MkA op x2 x3 x4) : ∃ y s', F_make op x2 x3 x4 s = some (y, s') ∧ inb y 70000 ∧ Ft [121, 122, 123, 124, 125, 126, 127, 131, 134] s s' ∧ ∃ N', N' ≤ 70000 ∧ tI s' 126 = nI N' := by
  obtain ⟨N, n1, n2⟩ := hN
  by_cases q : N = 70000
  · refine ⟨0, s, ?_, by decide, Ft.rf _ _, N, n1, n2⟩
    unfold F_make
    rw [n2, ifT (by rw [q]; rfl)]
    by_cases y : tI s 130 = 0
    · rw [ifT y, ifT y, t_bad2 h0, ob_some]
    · rw [ifF y, ifF y, t_bad2 h0, ob_some]
  · have n7 : N < 70000 := by omega
    have key : ∀ hv sz, F_make op x2 x3 x4 s = J_make_433 (nI N) hv (ndT s N op x2 x3 x4 sz) → ∃ y s', F_make op x2 x3 x4 s = some (y, s') ∧ inb y 70000 ∧ Ft [121, 122, 123, 124, 125, 126, 127, 131, 134] s s' ∧ ∃ N', N' ≤ 70000 ∧ tI s' 126 = nI N' := fun hv sz e => by
      have fn : Ft [121, 122, 123, 124, 125, 126] s (ndT s N op x2 x3 x4 sz) := ndT_f
      obtain ⟨s', g1, g2⟩ := t_433F (h := hv) n7 (s := ndT s N op x2 x3 x4 sz) (by rw [(fn 0 rfl).1]; exact h0)
      refine ⟨nI N, s', by rw [e]; exact g1, inb_nI' n7 (by decide), (fn.mono (by decide)).tr (g2.mono (by decide)), N + 1, by omega, ?_⟩
      rw [(g2 126 rfl).1]
      exact ndT_v.1.1
    rcases ho with o1 | ⟨o1, o2⟩ | ⟨o1, o2, o3⟩ | ⟨o1, o2, o3⟩ | ⟨o1, o2, o3, o4⟩
    · exact key _ _ (t_mkLf ⟨n2, n7⟩ o1)
    · exact key _ _ (t_mkUn ⟨n2, n7⟩ o1 o2)
    · exact key _ _ (t_mkBi ⟨n2, n7⟩ o1 o2 o3)
    · rw [o1] at key ⊢; exact key _ _ (t_mkRl ⟨n2, n7⟩ o2 o3)
    · rw [o1] at key ⊢; exact key _ _ (t_mkIf ⟨n2, n7⟩ o2 o3 o4)
theorem mmax_nI (h1 : t1 < 2147483648) (h2 : t2 < 2147483648) : mmax (nI t1) (nI t2) = nI (mx t1 t2) := by
  unfold mmax mx
  by_cases q : t1 < t2
  · rw [ifT ((bI_lt h1 h2).mpr q), ifT q]
  · rw [ifF (fun z => q ((bI_lt h1 h2).mp z)), ifF q]
theorem mx_le {p q r : Nat} (h1 : p ≤ r) (h2 : q ≤ r) : mx p q ≤ r := by
  unfold mx
  by_cases z : p < q
  · rw [ifT z]; exact h2
  · rw [ifF z]; exact h1
theorem mx_s {p q : Nat} : mx (p + 1) (q + 1) = mx p q + 1 := by
  unfold mx
  by_cases z : p < q
  · rw [ifT z, ifT (by omega)]
  · rw [ifF z, ifF (by omega)]
theorem hgt0 : hgt 0 0 0 = 1 := by decide
theorem hgt1 (h : 1 ≤ t1) : hgt t1 0 0 = t1 + 1 := by
  unfold hgt mx
  rw [ifT (show 1 < t1 + 1 by omega), ifF (show ¬ t1 + 1 < 0 + 1 by omega), ifF (show ¬ t1 + 1 < 0 + 1 by omega)]
theorem hgt2 (h : 1 ≤ t1) (h2 : 1 ≤ t2) : hgt t1 t2 0 = mx t1 t2 + 1 := by
  have e : hgt t1 t2 0 = mx (mx (mx 1 (t1 + 1)) (t2 + 1)) (0 + 1) := rfl
  have e1 : mx 1 (t1 + 1) = t1 + 1 := by unfold mx; rw [ifT (by omega)]
  rw [e, e1, mx_s]
  unfold mx
  rw [ifF (by omega)]
theorem hgt3 (h : 1 ≤ t1) (h2 : 1 ≤ t2) (h3 : 1 ≤ t3) : hgt t1 t2 t3 = mx (mx t1 t2) t3 + 1 := by
  have e : hgt t1 t2 t3 = mx (mx (mx 1 (t1 + 1)) (t2 + 1)) (t3 + 1) := rfl
  have e1 : mx 1 (t1 + 1) = t1 + 1 := by unfold mx; rw [ifT (by omega)]
  rw [e, e1, mx_s, mx_s]
theorem mx_as {p q r : Nat} : mx p (mx q r) = mx (mx p q) r := by
  have e : ∀ a b : Nat, mx a b = max a b := fun a b => by
    unfold mx
    by_cases z : a < b
    · rw [ifT z]; omega
    · rw [ifF z]; omega
  rw [e, e, e, e]; omega
end MAKEF
