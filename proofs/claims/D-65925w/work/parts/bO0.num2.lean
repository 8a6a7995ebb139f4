/-! Layer B: the flat model: relations are numbered, the twin's lists -/
set_option maxRecDepth 100000
section NUMBER2
variable {fx : Int32} {D : FQ} {M M1 M2 : CM} {σ σ' σ1 σ2 s s' s1 s2 s3 : TS} {K N v l k h h1 h2 n p q c1 c2 c3 tf : Nat} {L L1 L2 L3 : List Nat} {x x2 x3 y r : Int32} {S : List Nat}
theorem Ft.tsA2 {i : Nat} {v : Int32} (f : Ft S σ σ') : Ft S (tsA σ k i v) (tsA σ' k i v) := fun j hj => by
  obtain ⟨a, b, c, d⟩ := f j hj
  refine ⟨a, b, fun w => ?_, d⟩
  show (if j = k ∧ w = i then v else tA σ' j w) = if j = k ∧ w = i then v else tA σ j w
  by_cases q : j = k ∧ w = i
  · rw [ifT q, ifT q]
  · rw [ifF q, ifF q]; exact c w
theorem t_bd : F_bad 24 0 s = some ((), bdT s) := by
  unfold bdT
  by_cases q : tI s 0 = 0
  · rw [ifT q]; exact t_badT q
  · rw [ifF q]; exact t_bad1 q
theorem bd_f : Ft [0, 1] s (bdT s) := by
  unfold bdT
  by_cases q : tI s 0 = 0
  · rw [ifT q]; exact badT_f
  · rw [ifF q]; exact Ft.rf _ s
theorem as_f : Ft [153, 154, 162] s (tAs k s) := by
  unfold tAs
  exact (((Ft.rf _ s).p_tsA rfl).p_tsA rfl).p_tsI rfl
theorem as_154 (h : tI s 154 = nI q) : tI (tAs k s) 154 = nI (q + 1) := by
  show tI s 154 + 1 = _
  rw [h]; exact nI_addL q 1
theorem NuT.bd (h : NuT σ s) : NuT σ (bdT s) := ⟨h.1.tr (bd_f.mono (by decide)), by
  obtain ⟨q, q1, q2⟩ := h.2
  exact ⟨q, q1, by rw [(bd_f 154 rfl).1]; exact q2⟩⟩
theorem NuT.as (h : NuT σ s) (hn : ¬ tI s 154 = 24) : NuT σ (tAs k s) := ⟨h.1.tr (as_f.mono (by decide)), by
  obtain ⟨q, q1, q2⟩ := h.2
  refine ⟨q + 1, ?_, as_154 q2⟩
  by_cases z : q = 24
  · rw [q2, z] at hn; exact absurd rfl hn
  · omega⟩
theorem NuT.num : ∀ (L : List Nat) (s : TS), NuT σ s → NuT σ (tNum L s) ∧ Ft [0, 1, 153, 154, 162] s (tNum L s)
  | [], s, h => ⟨h, Ft.rf _ s⟩
  | k :: L, s, h => by
    unfold tNum
    by_cases q : tI s 154 = 24
    · rw [ifT q]
      obtain ⟨a, b⟩ := NuT.num L _ h.bd
      exact ⟨a, (bd_f.mono (by decide)).tr b⟩
    · rw [ifF q]
      obtain ⟨a, b⟩ := NuT.num L _ (h.as (k := k) q)
      exact ⟨a, (as_f.mono (by decide)).tr b⟩
theorem tNum_app : ∀ (L1 : List Nat) (s : TS), tNum (L1 ++ L2) s = tNum L2 (tNum L1 s)
  | [], s => rfl
  | k :: L1, s => by
    show tNum (L1 ++ L2) _ = tNum L2 (tNum L1 _)
    exact tNum_app L1 _
theorem tNum_fr (h0 : S.contains 0 = false ∧ S.contains 154 = false) : ∀ (L : List Nat) (s s' : TS), Ft S s s' → Ft S (tNum L s) (tNum L s')
  | [], s, s', f => f
  | k :: L, s, s', f => by
    have e0 := (f 0 h0.1).1
    have e4 := (f 154 h0.2).1
    unfold tNum
    rw [e4]
    by_cases q : tI s 154 = 24
    · rw [ifT q, ifT q]
      refine tNum_fr h0 L _ _ ?_
      unfold bdT
      rw [e0]
      by_cases z : tI s 0 = 0
      · rw [ifT z, ifT z]; exact f.tsI2.tsI2
      · rw [ifF z, ifF z]; exact f
    · rw [ifF q, ifF q]
      refine tNum_fr h0 L _ _ ?_
      unfold tAs
      rw [e4]
      exact f.tsA2.tsA2.tsI2
/-- what numbering a tree leaves -/
def Po (L : List Nat) (p : Nat) (s s' : TS) : Prop := Ft [139] (tNum L s) s' ∧ ∀ j, j < p → tA s' 139 j = tA s 139 j
theorem Po.nu (h : Po L p s s') (m : NuT σ s) : NuT σ s' := by
  obtain ⟨a, b⟩ := NuT.num L s m
  exact ⟨a.1.tr (h.1.mono (by decide)), by rw [(h.1 154 rfl).1]; exact a.2⟩
theorem Po.p140 (h : Po L p s s') (m : NuT σ s) : tI s' 140 = tI s 140 := by
  obtain ⟨a, b⟩ := NuT.num L s m
  rw [(h.1 140 rfl).1, (b 140 rfl).1]
theorem Po.tr (h : Po L1 p s s1) (g : Po L2 p s1 s2) : Po (L1 ++ L2) p s s2 := ⟨by
  rw [tNum_app]
  exact (tNum_fr ⟨rfl, rfl⟩ L2 _ _ h.1).tr g.1, fun j hj => (g.2 j hj).trans (h.2 j hj)⟩
theorem Po.rf : Po [] p s s := ⟨Ft.rf _ s, fun _ _ => rfl⟩
/-- the twin numbers a tree -/
def HT (σ : TS) (h n : Nat) (L : List Nat) : Prop := ∀ tf, h ≤ tf → ∀ s p, NuT σ s → tI s 140 = nI p → p + h ≤ 12100 → ∃ s', G_numberIn tf (nI n) s = some ((), s') ∧ Po L p s s'
theorem NuT.tb (h : NuT σ s) (hk : k = 121 ∨ k = 122 ∨ k = 123 ∨ k = 124) (j : Nat) : tA s k j = tA σ k j := by
  rcases hk with rfl | rfl | rfl | rfl <;> exact (h.1 _ rfl).2.2.1 j
theorem HT.m1 (g1 : HT σ h c1 L1) (hf : h ≤ tf) (m : NuT σ s) (hp : tI s 140 = nI p) (h12 : p + h ≤ 12100) {kk : Unit → TS → Option (Unit × TS)} (hk : ∀ s1, NuT σ s1 → tI s1 140 = nI p → Po L1 p s s1 → ∃ s', kk () s1 = some ((), s') ∧ Po L2 p s1 s') : ∃ s', ob (G_numberIn tf (nI c1) s) kk = some ((), s') ∧ Po (L1 ++ L2) p s s' := by
  obtain ⟨s1, e1, e2⟩ := g1 tf hf s p m hp h12
  obtain ⟨s', a, b⟩ := hk s1 (e2.nu m) ((e2.p140 m).trans hp) e2
  exact ⟨s', by rw [e1, ob_some, a], e2.tr b⟩
/-- a relation gets its number -/
theorem t_339 {cf : Int32 → TS → Option (Unit × TS)} (m : NuT σ s) (hk : k + 1 < 70000) : ∃ s', J_numberIn_339 cf (nI (k + 1)) s = some ((), s') ∧ Po [k] p s s' := by
  have xk : ix (nI (k + 1)) = k + 1 := ix_nI (by omega)
  have ik : inb (nI (k + 1)) 70000 := inb_nI' hk (by decide)
  unfold J_numberIn_339
  by_cases q : tI s 154 = 24
  · rw [ifT q, t_bd, ob_some]
    refine ⟨_, rfl, ?_, fun j _ => by rw [(bd_f 139 rfl).2.2.1]⟩
    unfold tNum tNum
    rw [ifT q]; exact Ft.rf _ _
  · obtain ⟨c, c1, c2⟩ := m.2
    have hc : c < 24 := by
      by_cases z : c = 24
      · rw [c2, z] at q; exact absurd rfl q
      · omega
    rw [ifF q, ifT ik, nm_eq, xk]
    have e1 : tI (tsA s 162 (k + 1) (tI s 154)) 154 = tI s 154 := rfl
    rw [e1, ifT (by rw [c2]; exact inb_nI' hc (by decide)), nm_eq, nm_eq]
    refine ⟨_, rfl, ?_, fun j _ => by rw [show ∀ s : TS, ∀ v, tA (tsI s 154 v) 139 j = tA s 139 j from fun _ _ => rfl]; rw [tA_tsA, ifF (by omega), tA_tsA, ifF (by omega)]⟩
    unfold tNum tNum
    rw [ifF q]
    exact Ft.rf _ _
end NUMBER2
