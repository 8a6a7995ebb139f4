/-! Layer B: the flat model: one more in a row of others -/
set_option maxRecDepth 100000
section OUTER
variable {D D' D2 : FQ} {M M' M1 M2 Mi : CM} {X : Nat → Prop} {l k n R N x : Nat} {xs : List Nat} {α : Type} {S : List Nat}
theorem row_add (h : PoW D M) (hn : 167 ≤ mn M) (hl : l = 102 ∨ l = 109) (hx : (pl D l).length < flX l) (gx : gR M x) (cN : rmN D M ≤ 601024) (cS : rmS D M + 60100 ≤ 7293034) : ∃ D' M', K_J2_add l x M = some (1, M') ∧ PoW D' M' ∧ pl D' l = pl D l ++ [x] ∧ (∀ i, i ≠ l → pl D' i = pl D i) ∧ Dx D D' M ∧ Fz (fun o => o = l ∨ o = mR M 4201 l) M M' ∧ rmN D' M' ≤ rmN D M ∧ rmS D' M' ≤ rmS D M := by
  have c1 : mn M ≤ rmN D M := Nat.le_add_right _ _
  have c2 : ms M ≤ rmS D M := Nat.le_add_right _ _
  have hlA : l ∈ flA := by rcases hl with q | q <;> rw [q] <;> decide
  have hlL : l ∉ flL := by rcases hl with q | q <;> rw [q] <;> decide
  have hlr : 98 ≤ l ∧ l ≤ 109 := by omega
  have hX : flX l ≤ 20000 := by rcases hl with q | q <;> rw [q] <;> decide
  obtain ⟨hL, y4, y5⟩ := h.1 l hlA
  have hla : mR M 4201 l ≠ l := fun z => by
    rcases hL.2.2.2.2 with ⟨q, _⟩ | ⟨_, q, _⟩
    · omega
    · rw [z, hL.1] at q; exact absurd q (by decide)
  obtain ⟨M', b1, b2, b3, b4, b5, b6, b7, b8⟩ := ls_addC hL gx (by omega) hla (by omega) ⟨by omega, by omega⟩
  have n2 : mn M ≤ mn M' := by rcases b4 with q | q <;> omega
  have F2 : Fz (fun o => o = l ∨ o = mR M 4201 l) M M' := ⟨n2, b5, fun o ho hX => b3 o ho (fun z => hX (Or.inl z)) (fun z => hX (Or.inr z.1))⟩
  obtain ⟨D', hD'⟩ : ∃ D' : FQ, D' = (fun i => if i = l then pl D l ++ [x] else pl D i, fun o => if o = mn M then l else ow D o) := ⟨_, rfl⟩
  have hp : pl D' l = pl D l ++ [x] := by rw [hD']; exact ifT rfl
  have hpo : ∀ i, i ≠ l → pl D' i = pl D i := fun i hi => by rw [hD']; exact ifF hi
  have hpL : ∀ i, i ∈ flL → pl D' i = pl D i := fun i hi => hpo i (fun z => hlL (z ▸ hi))
  have hw : ∀ o, o < mn M → ow D' o = ow D o := fun o ho => by rw [hD']; exact ifF (show ¬ o = mn M by omega)
  have hwn : ow D' (mn M) = l := by rw [hD']; exact ifT rfl
  have ca : (mR M 4201 l = 4398046511104 ∧ cap M l = 0) ∨ (mR M 4201 l ≠ 4398046511104 ∧ mR M 4201 l < mn M ∧ 10 ≤ cap M l ∧ cap M l = ml M (mR M 4201 l)) := by
    unfold cap
    by_cases z : mR M 4201 l = 4398046511104
    · left; exact ⟨z, ifT z⟩
    · right
      rw [ifF z]
      refine ⟨z, ?_, (y4 z).2, rfl⟩
      rcases hL.lt with q | q
      · exact absurd q z
      · exact q
  have cap2 : (mR M' 4201 l = mR M 4201 l ∧ mn M' = mn M ∧ ms M' = ms M ∧ cap M' l = cap M l) ∨ (mR M' 4201 l = mn M ∧ mn M' = mn M + 1 ∧ ms M' = ms M + cap M' l ∧ cap M' l = ml M' (mn M) ∧ (cap M l = 0 ∧ cap M' l = 10 ∨ 10 ≤ cap M l ∧ cap M' l = cap M l + cap M l / 2 ∧ cap M l < flX l)) := by
    rcases b4 with ⟨q1, q2, q3⟩ | ⟨q1, q2, _, q4, q5, q6⟩
    · left
      refine ⟨q1, q2, q3, ?_⟩
      unfold cap
      rw [q1]
      by_cases z : mR M 4201 l = 4398046511104
      · rw [ifT z, ifT z]
      · rw [ifF z, ifF z]
        rcases hL.lt with q | q
        · exact absurd q z
        · exact (b5 _ q).2
    · right
      have e2 : cap M' l = ml M' (mn M) := by unfold cap; rw [q1, ifF (by omega)]
      refine ⟨q1, q2, by rw [e2]; exact q5, e2, ?_⟩
      rw [e2]
      rcases q6 with ⟨z1, z2⟩ | ⟨z1, z2⟩
      · left
        rcases ca with y | y
        · exact ⟨y.2, z2⟩
        · exact absurd z1 y.1
      · right
        rcases ca with y | y
        · exact absurd y.1 z1
        · have : (pl D l).length = ml M (mR M 4201 l) := by
            rcases q4 with g | g
            · exact absurd g z1
            · exact g
          exact ⟨y.2.2.1, by omega, by omega⟩
  have hq : AQ D' M' l l := fun z => by
    rcases cap2 with ⟨q1, _, _, q4⟩ | ⟨q1, _, _, q3, q4⟩
    · rw [q1] at z ⊢
      rcases ca with y | y
      · exact absurd y.1 z
      · rw [hw _ y.2.1, (b5 _ y.2.1).2]; exact y4 z
    · rw [q1]
      exact ⟨⟨hwn, hn⟩, by omega⟩
  have so : ∀ o, o < mn M → o ≠ l → (o < 167 ∨ ow D o ≠ l) → So M M' o := fun o ho hne h => F2.so ho (fun z => by
    rcases z with z | z
    · exact hne z
    · by_cases g : mR M 4201 l = 4398046511104
      · omega
      · rcases h with q | q
        · have := (y4 g).1.2; omega
        · rw [z] at q; exact q (y4 g).1.1)
  have n := F2.1
  have mx : ∀ l, l ∈ flL → flX l ≤ 40000 := by decide
  have tt : ∀ l' k', l' ∈ flL → k' < (pl D l').length → tg l' k' ≠ l := fun l' k' hl' hk' => by
    have := flA_rng l' (flL_A l' hl')
    unfold tg; omega
  have arr : ∀ l' a xs, Ls M l' xs → AQ D M l' a → a ≠ l → l' < mn M → l' ≠ l → So M M' l' → Ls M' l' xs ∧ AQ D' M' l' a := fun l' a xs hL hq hm hlt hne s => by
    have sa : mR M 4201 l' ≠ 4398046511104 → mR M 4201 l' < mn M ∧ So M M' (mR M 4201 l') := fun z => by
      rcases hL.lt with q | q
      · exact absurd q z
      · exact ⟨q, so _ q (fun y => by have := (hq z).1.2; omega) (Or.inr (by rw [(hq z).1.1]; exact hm))⟩
    refine ⟨hL.kp n (fun o ho => F2.k ho) s (fun z => (sa z).2), fun z => ?_⟩
    rw [s.r] at z ⊢
    rw [hw _ (sa z).1, (sa z).2.l]
    exact hq z
  have W2 : PoW D' M' := by
    unfold PoW
    rw [hpL 98 (by decide), hpL 99 (by decide)]
    refine ⟨fun l' hl' => ?_, fun l' hl' k' hk' => ?_, fun k' hk' => ?_, fun k' hk' => ?_, fun o ho1 ho2 ho3 => ?_⟩
    · by_cases e : l' = l
      · rw [e, hp]
        exact ⟨b2, hq, by rw [List.length_append]; show (pl D l).length + 1 ≤ flX l; omega⟩
      · rw [hpo l' e]
        obtain ⟨a1, a2, a3⟩ := h.1 l' hl'
        have r' := flA_rng l' hl'
        obtain ⟨b1, b2⟩ := arr l' l' _ a1 a2 e (by omega) e (so l' (by omega) e (Or.inl (by omega)))
        exact ⟨b1, b2, a3⟩
    · rw [hpL l' hl'] at hk' ⊢
      obtain ⟨a1, a2, a3⟩ := h.2.1 l' hl' k' hk'
      exact ⟨by rw [F2.k a2.2]; exact a1, ⟨a2.1, by omega⟩, by rw [hw _ a2.2]; exact a3⟩
    · obtain ⟨a1, a2, a3⟩ := h.2.2.1 k' hk'
      obtain ⟨v1, v2, v3⟩ := h.2.1 98 (by decide) k' hk'
      rw [(so _ v2.2 (by omega) (Or.inr (by rw [v3]; exact tt _ _ (by decide) hk'))).r]
      exact ⟨⟨by rw [F2.k a2.2]; exact a1.1, by rw [(F2.2.1 _ a2.2).2]; exact a1.2⟩, ⟨a2.1, by omega⟩, by rw [hw _ a2.2]; exact a3⟩
    · obtain ⟨⟨zs, a0, a1⟩, a2, a3, a4⟩ := h.2.2.2.1 k' hk'
      obtain ⟨v1, v2, v3⟩ := h.2.1 99 (by decide) k' hk'
      rw [(so _ v2.2 (by omega) (Or.inr (by rw [v3]; exact tt _ _ (by decide) hk'))).r]
      obtain ⟨c1, c2⟩ := arr _ _ zs a0 a4 (by unfold tg; omega) a2.2 (by omega) (so _ a2.2 (by omega) (Or.inr (by rw [a3]; unfold tg; omega)))
      exact ⟨⟨zs, c1, a1⟩, ⟨a2.1, by omega⟩, by rw [hw _ a2.2]; exact a3, c2⟩
    · by_cases q : o < mn M
      · rw [F2.k q]
        rw [hw o q] at ho3
        exact h.2.2.2.2 o ho1 q ho3
      · rcases cap2 with ⟨_, q', _⟩ | ⟨q3, q4, _⟩
        · omega
        · have e : o = mn M := by omega
          rcases b2.2.2.2.2 with ⟨z, _⟩ | ⟨_, z, _⟩
          · omega
          · rw [e, ← q3, z]; decide
  -- the room
  have mi : l ∈ flI := flI_mem hlA
  have kl2 : ∀ o, o < mn M → ml M' o = ml M o := fun o ho => (b5 o ho).2
  have capO : ∀ l' xs a, Ls M l' xs → AQ D M l' a → So M M' l' → cap M' l' = cap M l' := fun l' xs a hl hq' s => by
    unfold cap
    rw [s.r]
    by_cases z : mR M 4201 l' = 4398046511104
    · rw [ifT z, ifT z]
    · rw [ifF z, ifF z]
      rcases hl.lt with q | q
      · exact absurd q z
      · exact kl2 _ q
  have eqI : ∀ i, i ∈ flI → i ≠ l → capI D' M' i = capI D M i := fun i hi hne => by
    unfold capI ll
    rw [hpL 99 (by decide)]
    rcases flI_lt hi with q | q
    · have ri := flA_rng i q
      obtain ⟨c1, c2, _⟩ := h.1 i q
      rw [ifT (show i < 1000 by omega), ifT (show i < 1000 by omega), ifF (show ¬ i = 0 by omega), ifF (show ¬ i = 0 by omega), capO i _ i c1 c2 (so i (by omega) hne (Or.inl (by omega)))]
    · rw [ifF (show ¬ i < 1000 by omega), ifF (show ¬ i < 1000 by omega)]
      by_cases hj : i - 1000 < (pl D 99).length
      · obtain ⟨⟨zs, z0, z1⟩, z2, z3, z4⟩ := h.2.2.2.1 _ hj
        obtain ⟨v1, v2, v3⟩ := h.2.1 99 (by decide) _ hj
        rw [ifT hj, ifT hj, (so _ v2.2 (by omega) (Or.inr (by rw [v3]; exact tt _ _ (by decide) hj))).r, capO _ zs _ z0 z4 (so _ z2.2 (by omega) (Or.inr (by rw [z3]; unfold tg; omega)))]
      · rw [ifF hj, ifF hj, ifT (rfl : (0 : Nat) = 0), ifT (rfl : (0 : Nat) = 0)]
  have eM : capI D M l = cap M l ∧ capI D' M' l = cap M' l := by
    unfold capI ll
    simp only [show l < 1000 by omega, show ¬ l = 0 by omega, if_true, if_false]
    exact ⟨trivial, trivial⟩
  have oth : ∀ i, i ∈ flI → i ≠ l → ptN D' M' i = ptN D M i ∧ ptS D' M' i = ptS D M i := fun i hi hne => by
    unfold ptN ptS
    rw [eqI i hi hne, hpo i hne]
    exact ⟨rfl, rfl⟩
  have fc : flC l = 0 ∧ flZ l = 0 := by rcases hl with q | q <;> rw [q] <;> decide
  have fy : flY l = flX l + flX l / 2 + 10 := rfl
  have pk : (ptN D M l = (flY l - cap M l) / 5 ∧ ptN D' M' l = (flY l - cap M' l) / 5) ∧ ptS D M l = 4 * (flY l - cap M l) ∧ ptS D' M' l = 4 * (flY l - cap M' l) := by
    unfold ptN ptS
    rw [eM.1, eM.2, fc.1, fc.2, Nat.zero_mul, Nat.zero_mul]
    simp
  refine ⟨D', M', b1, W2, hp, hpo, ⟨fun i j hj => ?_, hw⟩, F2, ?_, ?_⟩
  · by_cases e : i = l
    · subst e
      rw [hp]
      refine ⟨by rw [List.length_append]; omega, ?_⟩
      rw [List.getD_eq_getElem?_getD, List.getD_eq_getElem?_getD, List.getElem?_append_left hj]
    · rw [hpo i e]; exact ⟨hj, rfl⟩
  · have := lsum_one (f := ptN D M) (g := ptN D' M') (d := mn M' - mn M) flI mi (fun i hi => by
      by_cases e : i = l
      · rw [e, pk.1.1, pk.1.2]; rcases cap2 with q | ⟨_, _, _, _, q⟩ <;> omega
      · rw [(oth i hi e).1]; exact Nat.le_refl _) (by
      rw [pk.1.1, pk.1.2]; rcases cap2 with q | ⟨_, q2, _, _, q⟩ <;> omega)
    unfold rmN
    omega
  · have := lsum_one (f := ptS D M) (g := ptS D' M') (d := ms M' - ms M) flI mi (fun i hi => by
      by_cases e : i = l
      · rw [e, pk.2.1, pk.2.2]; rcases cap2 with q | ⟨_, _, _, _, q⟩ <;> omega
      · rw [(oth i hi e).2]; exact Nat.le_refl _) (by
      rw [pk.2.1, pk.2.2]; rcases cap2 with q | ⟨_, _, q3, _, q⟩ <;> omega)
    have : ms M ≤ ms M' := by rcases cap2 with q | ⟨_, _, q3, _, q⟩ <;> omega
    unfold rmS
    omega
end OUTER
