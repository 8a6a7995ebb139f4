/-! Layer B: the flat model: instances and their members -/
set_option maxRecDepth 100000
section INST
variable {D D' D2 : FQ} {M M' M1 M2 Mi : CM} {X : Nat → Prop} {l k n R N lo x : Nat} {xs : List Nat} {α : Type} {S : List Nat}
/-- the list of the members of instance k is written -/
theorem PoW.lst (h : PoW D M) (hc : mn M ≤ 601024) (hn : 167 ≤ mn M) (hk : k < (pl D 99).length) (hlo : mR M 2605 ((pl D 99).getD k 0) = lo) (F : Fz (fun o => o = lo ∨ o = mR M 4201 lo) M M') (hL : Ls M' lo xs) (hx : xs.length ≤ 480) (hp : pl D' = pl D) (hw : ∀ o, o < mn M → ow D' o = ow D o) (hq : AQ D' M' lo (tg 202 k)) (h23 : ∀ o, mn M ≤ o → o < mn M' → mk M' o ≠ 23) : PoW D' M' := by
  obtain ⟨⟨ys, y0, y1⟩, y2, y3, y4⟩ := h.2.2.2.1 k hk
  rw [hlo] at y0 y2 y3 y4
  have so : ∀ o, o < mn M → (o < 167 ∨ (ow D o ≠ tg 201 k ∧ ow D o ≠ tg 202 k)) → So M M' o := fun o ho h => F.so ho (fun z => by
    rcases z with z | z
    · rcases h with q | q
      · omega
      · rw [z] at q; exact q.1 y3
    · by_cases g : mR M 4201 lo = 4398046511104
      · omega
      · rcases h with q | q
        · have := (y4 g).1.2; omega
        · rw [z] at q; exact q.2 (y4 g).1.1)
  have n := F.1
  have tl : ∀ l, l < 1000 → l ≠ tg 201 k ∧ l ≠ tg 202 k := fun l hl => by unfold tg; omega
  have mx : ∀ l, l ∈ flL → flX l ≤ 40000 := by decide
  have hk200 : k < 200 := by have := (h.1 99 (by decide)).2.2; have : flX 99 = 200 := rfl; omega
  have tt : ∀ l' k', l' ∈ flL → k' < (pl D l').length → tg l' k' ≠ tg 201 k ∧ tg l' k' ≠ tg 202 k := fun l' k' hl' hk' => by
    have := (h.1 l' (flL_A l' hl')).2.2
    have := mx l' hl'
    have := flA_rng l' (flL_A l' hl')
    unfold tg; omega
  have arr : ∀ l' a xs, Ls M l' xs → AQ D M l' a → a ≠ tg 201 k ∧ a ≠ tg 202 k → So M M' l' → Ls M' l' xs ∧ AQ D' M' l' a := fun l' a xs hL hq hm s => by
    have sa : mR M 4201 l' ≠ 4398046511104 → mR M 4201 l' < mn M ∧ So M M' (mR M 4201 l') := fun z => by
      rcases hL.lt with q | q
      · exact absurd q z
      · exact ⟨q, so _ q (Or.inr (by rw [(hq z).1.1]; exact hm))⟩
    refine ⟨hL.kp n (fun o ho => F.k ho) s (fun z => (sa z).2), fun z => ?_⟩
    rw [s.r] at z ⊢
    rw [hw _ (sa z).1, (sa z).2.l]
    exact hq z
  unfold PoW
  rw [hp]
  refine ⟨fun l' hl' => ?_, fun l' hl' k' hk' => ?_, fun k' hk' => ?_, fun k' hk' => ?_, fun o ho1 ho2 ho3 => ?_⟩
  · obtain ⟨a1, a2, a3⟩ := h.1 l' hl'
    have r' := flA_rng l' hl'
    obtain ⟨b1, b2⟩ := arr l' l' _ a1 a2 (tl _ (by omega)) (so l' (by omega) (Or.inl (by omega)))
    exact ⟨b1, b2, a3⟩
  · obtain ⟨a1, a2, a3⟩ := h.2.1 l' hl' k' hk'
    exact ⟨by rw [F.k a2.2]; exact a1, ⟨a2.1, by omega⟩, by rw [hw _ a2.2]; exact a3⟩
  · obtain ⟨a1, a2, a3⟩ := h.2.2.1 k' hk'
    obtain ⟨v1, v2, v3⟩ := h.2.1 98 (by decide) k' hk'
    rw [(so _ v2.2 (Or.inr (by rw [v3]; exact tt _ _ (by decide) hk'))).r]
    exact ⟨⟨by rw [F.k a2.2]; exact a1.1, by rw [(F.2.1 _ a2.2).2]; exact a1.2⟩, ⟨a2.1, by omega⟩, by rw [hw _ a2.2]; exact a3⟩
  · obtain ⟨⟨zs, a0, a1⟩, a2, a3, a4⟩ := h.2.2.2.1 k' hk'
    obtain ⟨v1, v2, v3⟩ := h.2.1 99 (by decide) k' hk'
    rw [(so _ v2.2 (Or.inr (by rw [v3]; exact tt _ _ (by decide) hk'))).r]
    by_cases e : k' = k
    · subst e
      rw [hlo]
      exact ⟨⟨xs, hL, hx⟩, ⟨y2.1, by omega⟩, by rw [hw _ y2.2]; exact y3, hq⟩
    · have hk2 : k' < 200 := by have := (h.1 99 (by decide)).2.2; have : flX 99 = 200 := rfl; omega
      have t1 : tg 201 k' ≠ tg 201 k ∧ tg 201 k' ≠ tg 202 k ∧ tg 202 k' ≠ tg 201 k ∧ tg 202 k' ≠ tg 202 k := by unfold tg; omega
      obtain ⟨c1, c2⟩ := arr _ _ zs a0 a4 ⟨t1.2.2.1, t1.2.2.2⟩ (so _ a2.2 (Or.inr (by rw [a3]; exact ⟨t1.1, t1.2.1⟩)))
      exact ⟨⟨zs, c1, a1⟩, ⟨a2.1, by omega⟩, by rw [hw _ a2.2]; exact a3, c2⟩
  · by_cases q : o < mn M
    · rw [F.k q]
      rw [hw o q] at ho3
      exact h.2.2.2.2 o ho1 q ho3
    · exact h23 o (by omega) ho2
/-- one more member of instance k -/
theorem inst_add (h : PoW D M) (hn : 167 ≤ mn M) (hk : k < (pl D 99).length) (hlo : mR M 2605 ((pl D 99).getD k 0) = lo) (hL : Ls M lo xs) (hx : xs.length < 480) (gx : gR M x) (cN : rmN D M ≤ 601024) (cS : rmS D M + 60100 ≤ 7293034) : ∃ D' M', K_J2_add lo x M = some (1, M') ∧ PoW D' M' ∧ Ls M' lo (xs ++ [x]) ∧ pl D' = pl D ∧ Dx D D' M ∧ Fz (fun o => o = lo ∨ o = mR M 4201 lo) M M' ∧ rmN D' M' ≤ rmN D M ∧ rmS D' M' ≤ rmS D M := by
  have c1 : mn M ≤ rmN D M := Nat.le_add_right _ _
  have c2 : ms M ≤ rmS D M := Nat.le_add_right _ _
  obtain ⟨⟨ys, y0, y1⟩, y2, y3, y4⟩ := h.2.2.2.1 k hk
  have hk200 : k < 200 := by have := (h.1 99 (by decide)).2.2; have : flX 99 = 200 := rfl; omega
  have hlo0 := hlo
  rw [hlo] at y0 y2 y3 y4
  have hla : mR M 4201 lo ≠ lo := fun z => by
    rcases hL.2.2.2.2 with ⟨q, _⟩ | ⟨_, q, _⟩
    · omega
    · rw [z, hL.1] at q; exact absurd q (by decide)
  obtain ⟨M', b1, b2, b3, b4, b5, b6, b7, b8⟩ := ls_addC hL gx (by omega) hla (by omega) ⟨by omega, by omega⟩
  have n2 : mn M ≤ mn M' := by rcases b4 with q | q <;> omega
  have F2 : Fz (fun o => o = lo ∨ o = mR M 4201 lo) M M' := ⟨n2, b5, fun o ho hX => b3 o ho (fun z => hX (Or.inl z)) (fun z => hX (Or.inr z.1))⟩
  obtain ⟨D', hD'⟩ : ∃ D' : FQ, D' = (pl D, fun o => if o = mn M then tg 202 k else ow D o) := ⟨_, rfl⟩
  have hp : pl D' = pl D := by rw [hD']; rfl
  have hw : ∀ o, o < mn M → ow D' o = ow D o := fun o ho => by rw [hD']; exact ifF (show ¬ o = mn M by omega)
  have hwn : ow D' (mn M) = tg 202 k := by rw [hD']; exact ifT rfl
  have ca : (mR M 4201 lo = 4398046511104 ∧ cap M lo = 0) ∨ (mR M 4201 lo ≠ 4398046511104 ∧ mR M 4201 lo < mn M ∧ 10 ≤ cap M lo ∧ cap M lo = ml M (mR M 4201 lo)) := by
    unfold cap
    by_cases z : mR M 4201 lo = 4398046511104
    · left; exact ⟨z, ifT z⟩
    · right
      rw [ifF z]
      refine ⟨z, ?_, (y4 z).2, rfl⟩
      rcases hL.lt with q | q
      · exact absurd q z
      · exact q
  have cap2 : (mR M' 4201 lo = mR M 4201 lo ∧ mn M' = mn M ∧ ms M' = ms M ∧ cap M' lo = cap M lo) ∨ (mR M' 4201 lo = mn M ∧ mn M' = mn M + 1 ∧ ms M' = ms M + cap M' lo ∧ cap M' lo = ml M' (mn M) ∧ (cap M lo = 0 ∧ cap M' lo = 10 ∨ 10 ≤ cap M lo ∧ cap M' lo = cap M lo + cap M lo / 2 ∧ cap M lo < 480)) := by
    rcases b4 with ⟨q1, q2, q3⟩ | ⟨q1, q2, _, q4, q5, q6⟩
    · left
      refine ⟨q1, q2, q3, ?_⟩
      unfold cap
      rw [q1]
      by_cases z : mR M 4201 lo = 4398046511104
      · rw [ifT z, ifT z]
      · rw [ifF z, ifF z]
        rcases hL.lt with q | q
        · exact absurd q z
        · exact (b5 _ q).2
    · right
      have e2 : cap M' lo = ml M' (mn M) := by unfold cap; rw [q1, ifF (by omega)]
      refine ⟨q1, q2, by rw [e2]; exact q5, e2, ?_⟩
      rw [e2]
      rcases q6 with ⟨z1, z2⟩ | ⟨z1, z2⟩
      · left
        rcases ca with y | y
        · exact ⟨y.2, z2⟩
        · exact absurd z1 y.1
      · right
        rcases ca with y | y
        · exact absurd y.1 z1
        · have : xs.length = ml M (mR M 4201 lo) := by
            rcases q4 with g | g
            · exact absurd g z1
            · exact g
          exact ⟨y.2.2.1, by omega, by omega⟩
  have hq : AQ D' M' lo (tg 202 k) := fun z => by
    rcases cap2 with ⟨q1, _, _, q4⟩ | ⟨q1, _, _, q3, q4⟩
    · rw [q1] at z ⊢
      rcases ca with y | y
      · exact absurd y.1 z
      · rw [hw _ y.2.1, (b5 _ y.2.1).2]; exact y4 z
    · rw [q1]
      exact ⟨⟨hwn, hn⟩, by omega⟩
  have hlen : (xs ++ [x]).length ≤ 480 := by rw [List.length_append]; show xs.length + 1 ≤ 480; omega
  have W2 : PoW D' M' := h.lst (by omega) hn hk hlo F2 b2 hlen hp hw hq (fun o h1 h2 => by
    rcases cap2 with ⟨_, q, _⟩ | ⟨q3, q4, _⟩
    · omega
    · have e : o = mn M := by omega
      rcases b2.2.2.2.2 with ⟨z, _⟩ | ⟨_, z, _⟩
      · omega
      · rw [e, ← q3, z]; decide)
  -- the room
  have mi : 1000 + k ∈ flI := List.mem_append_right _ (List.mem_map.mpr ⟨k, List.mem_range.mpr hk200, rfl⟩)
  have kl2 : ∀ o, o < mn M → ml M' o = ml M o := fun o ho => (b5 o ho).2
  have capO : ∀ l' xs a, l' ≠ lo → Ls M l' xs → AQ D M l' a → a ≠ tg 202 k → So M M' l' → cap M' l' = cap M l' := fun l' xs a hne hl hq' ha s => by
    unfold cap
    rw [s.r]
    by_cases z : mR M 4201 l' = 4398046511104
    · rw [ifT z, ifT z]
    · rw [ifF z, ifF z]
      rcases hl.lt with q | q
      · exact absurd q z
      · exact kl2 _ q
  have sI : ∀ o, o < 167 → So M M' o := fun o ho => F2.so (by omega) (fun z => by
    rcases z with z | z
    · omega
    · rcases ca with y | y
      · omega
      · have := (y4 y.1).1.2; omega)
  have sv : ∀ j, j < (pl D 99).length → So M M' ((pl D 99).getD j 0) := fun j hj => by
    obtain ⟨v1, v2, v3⟩ := h.2.1 99 (by decide) j hj
    have j2 : j < 200 := by have := (h.1 99 (by decide)).2.2; have : flX 99 = 200 := rfl; omega
    refine F2.so v2.2 (fun z => ?_)
    rcases z with z | z
    · rw [z, y3] at v3; unfold tg at v3; omega
    · rcases ca with y | y
      · omega
      · rw [z, (y4 y.1).1.1] at v3; unfold tg at v3; omega
  have eqI : ∀ i, i ∈ flI → i ≠ 1000 + k → capI D' M' i = capI D M i := fun i hi hne => by
    unfold capI ll
    rw [hp]
    rcases flI_lt hi with q | q
    · have ri := flA_rng i q
      obtain ⟨c1, c2, _⟩ := h.1 i q
      rw [ifT (show i < 1000 by omega), ifT (show i < 1000 by omega), ifF (show ¬ i = 0 by omega), ifF (show ¬ i = 0 by omega), capO i _ i (by omega) c1 c2 (by unfold tg; omega) (sI i (by omega))]
    · rw [ifF (show ¬ i < 1000 by omega), ifF (show ¬ i < 1000 by omega)]
      by_cases hj : i - 1000 < (pl D 99).length
      · obtain ⟨⟨zs, z0, z1⟩, z2, z3, z4⟩ := h.2.2.2.1 _ hj
        have ne : tg 201 (i - 1000) ≠ tg 201 k ∧ tg 201 (i - 1000) ≠ tg 202 k ∧ tg 202 (i - 1000) ≠ tg 202 k := by unfold tg; omega
        have hne2 : mR M 2605 ((pl D 99).getD (i - 1000) 0) ≠ lo := fun z => by rw [z, y3] at z3; exact ne.1 z3.symm
        rw [ifT hj, ifT hj, (sv _ hj).r, capO _ zs _ hne2 z0 z4 ne.2.2 (F2.so z2.2 (fun z => by
          rcases z with z | z
          · exact hne2 z
          · rcases ca with y | y
            · omega
            · rw [z, (y4 y.1).1.1] at z3; exact ne.2.1 z3.symm))]
      · rw [ifF hj, ifF hj, ifT (rfl : (0 : Nat) = 0), ifT (rfl : (0 : Nat) = 0)]
  have lk : 1000 + k - 1000 = k := by omega
  have eM : capI D M (1000 + k) = cap M lo ∧ capI D' M' (1000 + k) = cap M' lo := by
    unfold capI ll
    rw [hp, ifF (show ¬ 1000 + k < 1000 by omega), ifF (show ¬ 1000 + k < 1000 by omega), lk, ifT hk, ifT hk, (sv k hk).r, hlo, ifF (by omega), ifF (by omega)]
    exact ⟨rfl, rfl⟩
  have oth : ∀ i, i ∈ flI → i ≠ 1000 + k → ptN D' M' i = ptN D M i ∧ ptS D' M' i = ptS D M i := fun i hi hne => by
    unfold ptN ptS
    rw [eqI i hi hne, hp]
    exact ⟨rfl, rfl⟩
  have fy : flY (1000 + k) = 730 := by
    unfold flY flX
    rw [ifF (by omega), ifF (by omega), ifF (by omega), ifF (by omega), ifF (by omega), ifF (by omega), ifF (by omega), ifF (by omega), ifF (by omega), ifF (by omega), ifF (by omega), ifF (by omega), ifF (by omega)]
  have pk : (ptN D M (1000 + k) = (730 - cap M lo) / 5 ∧ ptN D' M' (1000 + k) = (730 - cap M' lo) / 5) ∧ ptS D M (1000 + k) = 4 * (730 - cap M lo) ∧ ptS D' M' (1000 + k) = 4 * (730 - cap M' lo) := by
    unfold ptN ptS
    rw [eM.1, eM.2, fy, ifF (show ¬ 1000 + k < 1000 by omega), ifF (show ¬ 1000 + k < 1000 by omega), ifF (show ¬ 1000 + k < 1000 by omega), ifF (show ¬ 1000 + k < 1000 by omega)]
    exact ⟨⟨Nat.zero_add _, Nat.zero_add _⟩, Nat.zero_add _, Nat.zero_add _⟩
  refine ⟨D', M', b1, W2, b2, hp, ⟨fun l j hj => by rw [hp]; exact ⟨hj, rfl⟩, hw⟩, F2, ?_, ?_⟩
  · have := lsum_one (f := ptN D M) (g := ptN D' M') (d := mn M' - mn M) flI mi (fun i hi => by
      by_cases e : i = 1000 + k
      · rw [e, pk.1.1, pk.1.2]; rcases cap2 with q | ⟨_, _, _, _, q⟩ <;> omega
      · rw [(oth i hi e).1]; exact Nat.le_refl _) (by
      rw [pk.1.1, pk.1.2]; rcases cap2 with q | ⟨_, q2, _, _, q⟩ <;> omega)
    unfold rmN
    omega
  · have := lsum_one (f := ptS D M) (g := ptS D' M') (d := ms M' - ms M) flI mi (fun i hi => by
      by_cases e : i = 1000 + k
      · rw [e, pk.2.1, pk.2.2]; rcases cap2 with q | ⟨_, _, _, _, q⟩ <;> omega
      · rw [(oth i hi e).2]; exact Nat.le_refl _) (by
      rw [pk.2.1, pk.2.2]; rcases cap2 with q | ⟨_, _, q3, _, q⟩ <;> omega)
    have : ms M ≤ ms M' := by rcases cap2 with q | ⟨_, _, q3, _, q⟩ <;> omega
    unfold rmS
    omega
end INST
