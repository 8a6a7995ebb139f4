/-! Layer B: the flat model: one more object in a row -/
set_option maxRecDepth 100000
/-- object x behind row l, which had k; a new array would be n -/
def pshD (D : FQ) (l x n : Nat) : FQ := (fun i => if i = l then pl D l ++ [x] else pl D i, fun o => if o = n then l else if o = x then tg l (pl D l).length else if o = x + 1 then tg (if l = 98 then 200 else 201) (pl D l).length else ow D o)
section PUSH
variable {D D' : FQ} {M M' M1 M2 : CM} {X : Nat → Prop} {l k n x : Nat} {xs : List Nat}
theorem psh_l : pl (pshD D l x n) l = pl D l ++ [x] := ifT rfl
theorem psh_o (h : k ≠ l) : pl (pshD D l x n) k = pl D k := ifF h
theorem psh_w {o : Nat} (h : o < x) (hn : x ≤ n) : ow (pshD D l x n) o = ow D o := by
  show (if o = n then l else if o = x then _ else if o = x + 1 then _ else ow D o) = _
  rw [ifF (by omega), ifF (by omega), ifF (by omega)]
theorem getD_app_x {xs : List Nat} {x : Nat} : (xs ++ [x]).getD xs.length 0 = x := by
  rw [List.getD_eq_getElem?_getD, List.getElem?_append_right (Nat.le_refl _), Nat.sub_self]; rfl
theorem flI_mem {i : Nat} (h : i ∈ flA) : i ∈ flI := List.mem_append_left _ h
theorem flI_lt {i : Nat} (h : i ∈ flI) : i ∈ flA ∨ (1000 ≤ i ∧ i < 1200) := by
  rcases List.mem_append.mp h with q | q
  · exact Or.inl q
  · obtain ⟨a, b, c⟩ := List.mem_map.mp q
    rw [List.mem_range] at b
    exact Or.inr (by omega)
/-- an object made now (with what it has within) comes behind row l -/
theorem pool_push (h : PoW D M) (hn : 167 ≤ mn M) (F : Fz none_ M M1) (hl : l ∈ flL) (hx : (pl D l).length < flX l) (k1 : mk M1 (mn M) = flK l) (n1 : mn M1 = mn M + flC l ∧ ms M1 = ms M + flZ l) (h98 : l = 98 → mR M1 3204 (mn M) = mn M + 1 ∧ mk M1 (mn M + 1) = 50 ∧ ml M1 (mn M + 1) = 3) (h99 : l = 99 → mR M1 2605 (mn M) = mn M + 1 ∧ Ls M1 (mn M + 1) [] ∧ mR M1 4201 (mn M + 1) = 4398046511104) (h23 : ∀ o, mn M ≤ o → o < mn M1 → mk M1 o ≠ 23) (cN : rmN D M ≤ 601024) (cS : rmS D M + 60100 ≤ 7293034) :
    ∃ M2, K_J2_add l (mn M) M1 = some (1, M2) ∧ PoW (pshD D l (mn M) (mn M1)) M2 ∧ Fz (fun o => o = l ∨ o = mR M 4201 l) M1 M2 ∧ rmN (pshD D l (mn M) (mn M1)) M2 ≤ rmN D M ∧ rmS (pshD D l (mn M) (mn M1)) M2 ≤ rmS D M ∧ (∀ g, g ≠ 4200 → g ≠ 4202 → mI M2 g l = mI M1 g l) ∧ mn M1 ≤ mn M2 := by
  have h1 : PoW D M1 := h.mv hn F (fun o _ z => absurd z (fun q => q)) h23
  have hlA := flL_A l hl
  have rl := flA_rng l hlA
  have F1 := F.1
  have Nl : mn M + ptN D M l ≤ rmN D M := by
    have := lsum_mem (f := ptN D M) flI (flI_mem hlA)
    unfold rmN; omega
  have Sl : ms M + ptS D M l ≤ rmS D M := by
    have := lsum_mem (f := ptS D M) flI (flI_mem hlA)
    unfold rmS; omega
  obtain ⟨a1, a2, a3⟩ := h1.1 l hlA
  have fk : flK l ≠ 0 ∧ flK l ≤ 24 ∧ flX l ≤ 40000 ∧ 1 ≤ flC l := by
    have : ∀ l, l ∈ flL → flK l ≠ 0 ∧ flK l ≤ 24 ∧ flX l ≤ 40000 ∧ 1 ≤ flC l := by decide
    exact this l hl
  have sl : So M M1 l := F.so (by omega) (fun z => z)
  have r1 : mR M1 4201 l = mR M 4201 l := sl.r _
  have hla : mR M1 4201 l ≠ l := fun z => by
    rcases a1.2.2.2.2 with ⟨q, _⟩ | ⟨_, q, _⟩
    · omega
    · rw [z, a1.1] at q; exact absurd q (by decide)
  -- room for it
  have eC : capI D M l = cap M l := by
    unfold capI ll
    rw [ifT (show l < 1000 by omega), ifF (by omega)]
  have hcapM : cap M1 l = cap M l := by
    unfold cap
    rw [r1]
    by_cases z : mR M 4201 l = 4398046511104
    · rw [ifT z, ifT z]
    · rw [ifF z, ifF z]
      rcases a1.lt with q | q
      · rw [r1] at q; exact absurd q z
      · rcases (h.1 l hlA).1.lt with q2 | q2
        · exact absurd q2 z
        · exact (F.2.1 _ q2).2
  have pN : ptN D M l = flC l * (flX l - ((pl D l).length + 1)) + flC l + (flY l - cap M l) / 5 := by
    unfold ptN
    rw [ifT (show l < 1000 by omega), eC, show flX l - (pl D l).length = (flX l - ((pl D l).length + 1)) + 1 by omega, Nat.mul_add, Nat.mul_one]
  have pS : ptS D M l = flZ l * (flX l - ((pl D l).length + 1)) + flZ l + 4 * (flY l - cap M l) := by
    unfold ptS
    rw [ifT (show l < 1000 by omega), eC, show flX l - (pl D l).length = (flX l - ((pl D l).length + 1)) + 1 by omega, Nat.mul_add, Nat.mul_one]
  generalize hA : flC l * (flX l - ((pl D l).length + 1)) = cA at pN
  generalize hB : flZ l * (flX l - ((pl D l).length + 1)) = cB at pS
  have hY : flY l = flX l + flX l / 2 + 10 := rfl
  -- how long its array is
  have hcl : (mR M1 4201 l = 4398046511104 ∧ cap M l = 0 ∧ (pl D l).length = 0) ∨ (mR M1 4201 l ≠ 4398046511104 ∧ 10 ≤ cap M l ∧ (pl D l).length ≤ cap M l ∧ cap M l = ml M1 (mR M1 4201 l)) := by
    rw [← hcapM]
    unfold cap
    rcases a1.2.2.2.2 with ⟨q, q2⟩ | ⟨q1, q2, q3, _⟩
    · left; exact ⟨q, ifT q, by rw [q2]; rfl⟩
    · right; rw [ifF q1.2]; exact ⟨q1.2, (a2 q1.2).2, q3, rfl⟩
  have lz : (pl D l).length < 40000 := by omega
  have b98 : ∀ l, l ∈ flL → tg l 0 ≥ 98000000 ∧ flC l ≤ 2 := by decide
  have kA : mR M 4201 l < mn M → mk M (mR M 4201 l) = 55 ∧ ow D (mR M 4201 l) = l ∧ 167 ≤ mR M 4201 l := fun z => by
    rcases (h.1 l hlA).1.2.2.2.2 with ⟨q, _⟩ | ⟨q1, q2, _⟩
    · have : rmN D M ≥ mn M := Nat.le_add_right _ _
      omega
    · exact ⟨q2, ((h.1 l hlA).2.1 q1.2).1⟩
  have cM : mn M ≤ 601024 := by have : rmN D M ≥ mn M := Nat.le_add_right _ _; omega
  obtain ⟨M2, b1, b2, b3, b4, b5, b6, b7, b8⟩ := ls_addC a1 (x := mn M) (Or.inl ⟨by omega, by rw [k1]; exact fk.1, by rw [k1]; exact fk.2.1⟩) (by omega) hla (by omega) ⟨by omega, by omega⟩
  have n2 : mn M1 ≤ mn M2 := by rcases b4 with q | q <;> omega
  have F2 : Fz (fun o => o = l ∨ o = mR M 4201 l) M1 M2 := ⟨n2, b5, fun o ho hX => b3 o ho (fun z => hX (Or.inl z)) (fun z => hX (Or.inr (by rw [← r1]; exact z.1)))⟩
  have w : ∀ o, o < mn M → ow (pshD D l (mn M) (mn M1)) o = ow D o := fun o ho => psh_w ho F1
  -- what was there stays, but row l and its array
  have so : ∀ o, o < mn M → o ≠ l → o ≠ mR M 4201 l → So M M2 o := fun o ho h1 h2 => (F.so ho (fun z => z)).tr (F2.so (by omega) (fun z => by rcases z with z | z; exact h1 z; exact h2 z))
  have kl2 : ∀ o, o < mn M → mk M2 o = mk M o ∧ ml M2 o = ml M o := fun o ho => ⟨by rw [F2.k (by omega), F.k ho], by rw [(F2.2.1 o (by omega)).2, (F.2.1 o ho).2]⟩
  have row : ∀ l' a xs, l' < mn M → Ls M l' xs → l' ≠ l → AQ D M l' a → a ≠ l → So M M2 l' ∧ Ls M2 l' xs ∧ AQ (pshD D l (mn M) (mn M1)) M2 l' a ∧ cap M2 l' = cap M l' := fun l' a xs hlt hL hne hq ha => by
    have hk := hL.1
    have s : So M M2 l' := so l' hlt hne (fun z => by
      rw [z] at hlt hk
      rw [(kA hlt).1] at hk; exact absurd hk (by decide))
    have sa : mR M 4201 l' ≠ 4398046511104 → mR M 4201 l' < mn M ∧ So M M2 (mR M 4201 l') := fun z => by
      rcases hL.lt with q | q
      · exact absurd q z
      · have o1 := (hq z).1.1
        refine ⟨q, so _ q (fun y => ?_) (fun y => ?_)⟩
        · have := hL.k55 cM q
          rw [y, (h.1 l hlA).1.1] at this; exact absurd this (by decide)
        · have := (kA (by rw [← y]; exact q)).2.1
          rw [← y, o1] at this; exact ha this
    refine ⟨s, hL.kp (by omega) (fun o ho => (kl2 o ho).1) s (fun z => (sa z).2), fun z => ?_, ?_⟩
    · rw [s.r] at z ⊢
      rw [w _ (sa z).1, (sa z).2.l]
      exact hq z
    · unfold cap
      rw [s.r]
      by_cases z : mR M 4201 l' = 4398046511104
      · rw [ifT z, ifT z]
      · rw [ifF z, ifF z, (sa z).2.l]
  have t202 : ∀ k, tg 202 k ≠ l := fun k => by unfold tg; omega
  have sv : ∀ l', l' ∈ flL → ∀ k, k < (pl D l').length → So M M2 ((pl D l').getD k 0) := fun l' hl' k hk => by
    obtain ⟨c1, c2, c3⟩ := h.2.1 l' hl' k hk
    refine so _ c2.2 (by omega) (fun z => ?_)
    have := (kA (by rw [← z]; exact c2.2)).2.1
    rw [← z, c3] at this
    have := flA_rng l' (flL_A l' hl')
    unfold tg at *
    omega
  have sx : ∀ o, mn M ≤ o → o < mn M1 → So M1 M2 o := fun o h1 h2 => F2.so h2 (fun z => by
    rcases z with z | z
    · omega
    · rcases (h.1 l hlA).1.lt with q | q <;> omega)
  have cap2 : (mR M2 4201 l = mR M 4201 l ∧ mn M2 = mn M1 ∧ ms M2 = ms M1 ∧ cap M2 l = cap M l) ∨ (mR M2 4201 l = mn M1 ∧ mn M2 = mn M1 + 1 ∧ ms M2 = ms M1 + cap M2 l ∧ (cap M l = 0 ∧ cap M2 l = 10 ∨ 10 ≤ cap M l ∧ cap M2 l = cap M l + cap M l / 2 ∧ cap M l < flX l)) := by
    rcases b4 with ⟨q1, q2, q3⟩ | ⟨q1, q2, _, q4, q5, q6⟩
    · left
      refine ⟨q1.trans r1, q2, q3, ?_⟩
      rw [← hcapM]
      unfold cap
      rw [q1]
      by_cases z : mR M1 4201 l = 4398046511104
      · rw [ifT z, ifT z]
      · rw [ifF z, ifF z]
        rcases a1.lt with q | q
        · exact absurd q z
        · exact (b5 _ q).2
    · right
      have e2 : cap M2 l = ml M2 (mn M1) := by unfold cap; rw [q1, ifF (by omega)]
      refine ⟨q1, q2, by rw [e2]; exact q5, ?_⟩
      rw [e2]
      rcases q6 with ⟨z1, z2⟩ | ⟨z1, z2⟩
      · left
        rcases hcl with y | y
        · exact ⟨y.2.1, z2⟩
        · exact absurd z1 y.1
      · right
        rcases hcl with y | y
        · exact absurd y.1 z1
        · have : (pl D l).length = ml M1 (mR M1 4201 l) := by
            rcases q4 with g | g
            · exact absurd g z1
            · exact g
          exact ⟨y.2.1, by omega, by omega⟩
  -- the room
  have eqI : ∀ i, i ∈ flI → i ≠ l → capI (pshD D l (mn M) (mn M1)) M2 i = capI D M i := fun i hi hne => by
    rcases flI_lt hi with q | q
    · have ri := flA_rng i q
      obtain ⟨c1, c2, _⟩ := h.1 i q
      have e := (row i i _ (by omega) c1 hne c2 hne).2.2.2
      unfold capI ll
      rw [ifT (show i < 1000 by omega), ifT (show i < 1000 by omega), ifF (show ¬ i = 0 by omega), ifF (show ¬ i = 0 by omega), e]
    · unfold capI ll
      rw [ifF (show ¬ i < 1000 by omega), ifF (show ¬ i < 1000 by omega)]
      by_cases hk : i - 1000 < (pl D 99).length
      · have e1 : i - 1000 < (pl (pshD D l (mn M) (mn M1)) 99).length ∧ (pl (pshD D l (mn M) (mn M1)) 99).getD (i - 1000) 0 = (pl D 99).getD (i - 1000) 0 := by
          by_cases e : 99 = l
          · rw [← e, psh_l, List.length_append]; exact ⟨by omega, getD_app_l hk⟩
          · rw [psh_o e]; exact ⟨hk, rfl⟩
        obtain ⟨⟨xs, c0, c0'⟩, c2, c3, c4⟩ := h.2.2.2.1 _ hk
        rw [ifT hk, ifT e1.1, e1.2, (sv 99 (by decide) _ hk).r, (row _ _ xs c2.2 c0 (by omega) c4 (t202 _)).2.2.2]
      · rw [ifF hk, ifT (rfl : (0 : Nat) = 0)]
        by_cases e : 99 = l
        · rw [← e, psh_l, List.length_append]
          by_cases hk2 : i - 1000 < (pl D 99).length + [mn M].length
          · have hk3 : i - 1000 = (pl D 99).length := by have : i - 1000 < (pl D 99).length + 1 := hk2; omega
            have n1' : mn M1 = mn M + 2 := by rw [n1.1, ← e]; rfl
            obtain ⟨c1, c2, c3⟩ := h99 e.symm
            rw [ifT hk2, hk3, getD_app_x, (sx (mn M) (Nat.le_refl _) (by omega)).r, c1]
            unfold cap
            rw [(sx (mn M + 1) (by omega) (by omega)).r, ifT c3]
            split <;> rfl
          · rw [ifF hk2]; rfl
        · rw [psh_o e, ifF hk]; rfl
  have len1 : (pl (pshD D l (mn M) (mn M1)) l).length = (pl D l).length + 1 := by rw [psh_l, List.length_append]; rfl
  have eC2 : capI (pshD D l (mn M) (mn M1)) M2 l = cap M2 l := by
    unfold capI ll
    rw [ifT (show l < 1000 by omega), ifF (by omega)]
  have pN2 : ptN (pshD D l (mn M) (mn M1)) M2 l = cA + (flY l - cap M2 l) / 5 := by
    unfold ptN
    rw [ifT (show l < 1000 by omega), eC2, len1, hA]
  have pS2 : ptS (pshD D l (mn M) (mn M1)) M2 l = cB + 4 * (flY l - cap M2 l) := by
    unfold ptS
    rw [ifT (show l < 1000 by omega), eC2, len1, hB]
  have oth : ∀ i, i ∈ flI → i ≠ l → ptN (pshD D l (mn M) (mn M1)) M2 i = ptN D M i ∧ ptS (pshD D l (mn M) (mn M1)) M2 i = ptS D M i := fun i hi hne => by
    unfold ptN ptS
    rw [eqI i hi hne, psh_o hne]
    exact ⟨rfl, rfl⟩
  have rN : rmN (pshD D l (mn M) (mn M1)) M2 ≤ rmN D M := by
    have := lsum_one (f := ptN D M) (g := ptN (pshD D l (mn M) (mn M1)) M2) (d := mn M2 - mn M) flI (flI_mem hlA) (fun i hi => by
      by_cases e : i = l
      · rw [e, pN, pN2]; rcases cap2 with q | ⟨_, _, _, q⟩ <;> omega
      · rw [(oth i hi e).1]; exact Nat.le_refl _) (by
      rw [pN, pN2]; rcases cap2 with q | ⟨_, q2, _, q⟩ <;> omega)
    unfold rmN
    omega
  have rS : rmS (pshD D l (mn M) (mn M1)) M2 ≤ rmS D M := by
    have := lsum_one (f := ptS D M) (g := ptS (pshD D l (mn M) (mn M1)) M2) (d := ms M2 - ms M) flI (flI_mem hlA) (fun i hi => by
      by_cases e : i = l
      · rw [e, pS, pS2]; rcases cap2 with q | ⟨_, _, _, q⟩ <;> omega
      · rw [(oth i hi e).2]; exact Nat.le_refl _) (by
      rw [pS, pS2]; rcases cap2 with q | ⟨_, _, q3, q⟩ <;> omega)
    have : ms M ≤ ms M2 := by rcases cap2 with q | ⟨_, _, q3, q⟩ <;> omega
    unfold rmS
    omega
  refine ⟨M2, b1, ⟨fun l' hl' => ?_, fun l' hl' k hk => ?_, fun k hk => ?_, fun k hk => ?_, fun o ho1 ho2 ho3 => ?_⟩, F2, rN, rS, b6, n2⟩
  · have rl' := flA_rng l' hl'
    by_cases e : l' = l
    · subst e
      rw [psh_l]
      refine ⟨b2, fun z => ?_, by rw [List.length_append]; exact hx⟩
      rcases cap2 with ⟨q1, _, _, q4⟩ | ⟨q1, _, _, q4⟩
      · rw [q1] at z ⊢
        have hlt : mR M 4201 l' < mn M := by
          rcases (h.1 l' hlA).1.lt with q | q
          · exact absurd q z
          · exact q
        rw [w _ hlt, (kl2 _ hlt).2]
        exact (h.1 l' hlA).2.1 z
      · rw [q1]
        refine ⟨⟨ifT rfl, by omega⟩, ?_⟩
        have e2 : cap M2 l' = ml M2 (mn M1) := by unfold cap; rw [q1, ifF (by omega)]
        omega
    · obtain ⟨c1, c2, c3⟩ := h.1 l' hl'
      rw [psh_o e]
      obtain ⟨_, d2, d3, _⟩ := row l' l' _ (by omega) c1 e c2 e
      exact ⟨d2, d3, c3⟩
  · have old : ∀ k, k < (pl D l').length → mk M2 ((pl D l').getD k 0) = flK l' ∧ (167 ≤ (pl D l').getD k 0 ∧ (pl D l').getD k 0 < mn M2) ∧ ow (pshD D l (mn M) (mn M1)) ((pl D l').getD k 0) = tg l' k := fun k hk => by
      obtain ⟨c1, c2, c3⟩ := h.2.1 l' hl' k hk
      exact ⟨by rw [(kl2 _ c2.2).1]; exact c1, ⟨c2.1, by omega⟩, by rw [w _ c2.2]; exact c3⟩
    by_cases e : l' = l
    · subst e
      rw [psh_l] at hk ⊢
      rw [List.length_append] at hk
      by_cases hk2 : k < (pl D l').length
      · rw [getD_app_l hk2]; exact old k hk2
      · have hk3 : k = (pl D l').length := by have : k < (pl D l').length + 1 := hk; omega
        rw [hk3, getD_app_x]
        refine ⟨by rw [F2.k (by omega)]; exact k1, ⟨hn, by omega⟩, ?_⟩
        show (if mn M = mn M1 then l' else if mn M = mn M then tg l' (pl D l').length else _) = _
        rw [ifF (by omega), ifT rfl]
    · rw [psh_o e] at hk ⊢
      exact old k hk
  · have old : ∀ k, k < (pl D 98).length → (mk M2 (mR M2 3204 ((pl D 98).getD k 0)) = 50 ∧ ml M2 (mR M2 3204 ((pl D 98).getD k 0)) = 3) ∧ (167 ≤ mR M2 3204 ((pl D 98).getD k 0) ∧ mR M2 3204 ((pl D 98).getD k 0) < mn M2) ∧ ow (pshD D l (mn M) (mn M1)) (mR M2 3204 ((pl D 98).getD k 0)) = tg 200 k := fun k hk => by
      obtain ⟨c1, c2, c3⟩ := h.2.2.1 k hk
      rw [(sv 98 (by decide) k hk).r]
      exact ⟨⟨by rw [(kl2 _ c2.2).1]; exact c1.1, by rw [(kl2 _ c2.2).2]; exact c1.2⟩, ⟨c2.1, by omega⟩, by rw [w _ c2.2]; exact c3⟩
    by_cases e : 98 = l
    · subst e
      rw [psh_l] at hk ⊢
      rw [List.length_append] at hk
      by_cases hk2 : k < (pl D 98).length
      · rw [getD_app_l hk2]; exact old k hk2
      · have hk3 : k = (pl D 98).length := by have : k < (pl D 98).length + 1 := hk; omega
        have n1' : mn M1 = mn M + 2 := n1.1
        obtain ⟨c1, c2, c3⟩ := h98 rfl
        rw [hk3, getD_app_x, (sx (mn M) (Nat.le_refl _) (by omega)).r, c1]
        refine ⟨⟨by rw [F2.k (by omega)]; exact c2, by rw [(F2.2.1 _ (by omega)).2]; exact c3⟩, ⟨by omega, by omega⟩, ?_⟩
        show (if mn M + 1 = mn M1 then 98 else if mn M + 1 = mn M then _ else if mn M + 1 = mn M + 1 then tg (if 98 = 98 then 200 else 201) (pl D 98).length else _) = _
        rw [ifF (by omega), ifF (by omega), ifT rfl, ifT rfl]
    · rw [psh_o e] at hk ⊢
      exact old k hk
  · have old : ∀ k, k < (pl D 99).length → (∃ xs, Ls M2 (mR M2 2605 ((pl D 99).getD k 0)) xs ∧ xs.length ≤ 480) ∧ (167 ≤ mR M2 2605 ((pl D 99).getD k 0) ∧ mR M2 2605 ((pl D 99).getD k 0) < mn M2) ∧ ow (pshD D l (mn M) (mn M1)) (mR M2 2605 ((pl D 99).getD k 0)) = tg 201 k ∧ AQ (pshD D l (mn M) (mn M1)) M2 (mR M2 2605 ((pl D 99).getD k 0)) (tg 202 k) := fun k hk => by
      obtain ⟨⟨xs, c0, c0'⟩, c2, c3, c4⟩ := h.2.2.2.1 k hk
      rw [(sv 99 (by decide) k hk).r]
      obtain ⟨_, d2, d3, _⟩ := row _ _ xs c2.2 c0 (by omega) c4 (t202 k)
      exact ⟨⟨xs, d2, c0'⟩, ⟨c2.1, by omega⟩, by rw [w _ c2.2]; exact c3, d3⟩
    by_cases e : 99 = l
    · subst e
      rw [psh_l] at hk ⊢
      rw [List.length_append] at hk
      by_cases hk2 : k < (pl D 99).length
      · rw [getD_app_l hk2]; exact old k hk2
      · have hk3 : k = (pl D 99).length := by have : k < (pl D 99).length + 1 := hk; omega
        have n1' : mn M1 = mn M + 2 := n1.1
        obtain ⟨c1, c2, c3⟩ := h99 rfl
        have s1 := sx (mn M + 1) (by omega) (by omega)
        rw [hk3, getD_app_x, (sx (mn M) (Nat.le_refl _) (by omega)).r, c1]
        refine ⟨⟨[], c2.kp n2 (fun o ho => F2.k ho) s1 (fun z => absurd c3 z), by decide⟩, ⟨by omega, by omega⟩, ?_, fun z => absurd c3 (by rw [s1.r] at z; exact z)⟩
        show (if mn M + 1 = mn M1 then 99 else if mn M + 1 = mn M then _ else if mn M + 1 = mn M + 1 then tg (if 99 = 98 then 200 else 201) (pl D 99).length else _) = _
        rw [ifF (by omega), ifF (by omega), ifT rfl, ifF (by decide)]
    · rw [psh_o e] at hk ⊢
      exact old k hk
  · by_cases q : o < mn M
    · rw [(kl2 o q).1]
      rw [w o q] at ho3
      exact h.2.2.2.2 o ho1 q ho3
    · by_cases q2 : o < mn M1
      · rw [F2.k q2]; exact h23 o (by omega) q2
      · rcases cap2 with ⟨_, q4, _⟩ | ⟨q3, q4, _⟩
        · omega
        · have e : o = mn M1 := by omega
          rcases b2.2.2.2.2 with ⟨z, _⟩ | ⟨_, z, _⟩
          · omega
          · rw [e, ← q3, z]; decide
end PUSH
