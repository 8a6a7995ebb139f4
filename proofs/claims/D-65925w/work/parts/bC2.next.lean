/-! Layer B: the flat model: the next object of a row, made or used again -/
set_option maxRecDepth 100000
/-- D' has what D has -/
def Dx (D D' : FQ) (M : CM) : Prop := (∀ l k, k < (pl D l).length → k < (pl D' l).length ∧ (pl D' l).getD k 0 = (pl D l).getD k 0) ∧ ∀ o, o < mn M → ow D' o = ow D o
section NEXT
variable {D D' D2 : FQ} {M M' M1 M2 Mi : CM} {X : Nat → Prop} {l k n R N : Nat} {α : Type}
theorem Dx.rf (D : FQ) (M : CM) : Dx D D M := ⟨fun _ _ h => ⟨h, rfl⟩, fun _ _ => rfl⟩
theorem Dx.tr (h : Dx D D' M) (g : Dx D' D2 M') (hn : mn M ≤ mn M') : Dx D D2 M := ⟨fun l k hk => ⟨(g.1 l k (h.1 l k hk).1).1, ((g.1 l k (h.1 l k hk).1).2).trans (h.1 l k hk).2⟩, fun o ho => (g.2 o (by omega)).trans (h.2 o ho)⟩
theorem psh_dx {x : Nat} (h : mn M ≤ x) (hn : x ≤ n) : Dx D (pshD D l x n) M := by
  refine ⟨fun i k hk => ?_, fun o ho => psh_w (by omega) hn⟩
  by_cases e : i = l
  · subst e
    rw [psh_l, List.length_append]
    exact ⟨by omega, getD_app_l hk⟩
  · rw [psh_o e]; exact ⟨hk, rfl⟩
/-- what a row's next object needs: D' has it, the rest of memory stays -/
def Nx (D : FQ) (M : CM) (D' : FQ) (M' : CM) (l R : Nat) : Prop := PoW D' M' ∧ R < (pl D' l).length ∧ Dx D D' M ∧ Fz (fun o => o = l ∨ o = mR M 4201 l) M M' ∧ (∀ i, i ≠ l → pl D' i = pl D i) ∧ (rmN D' M' ≤ rmN D M ∧ rmS D' M' ≤ rmS D M) ∧ (R < (pl D l).length → M' = M ∧ D' = D) ∧ ∀ g, g ≠ 4200 → g ≠ 4202 → mI M' g l = mI M g l
theorem pool_next (h : PoW D M) (hn : 167 ≤ mn M) (hl : l ∈ flL) (hR : R ≤ (pl D l).length) (hRx : R < flX l) {init : Nat → CM → Option (Unit × CM)} (hi : R = (pl D l).length → init (mn M) (mnew M (flK l) 0 N) = some ((), Mi)) (F : Fz none_ M Mi) (k1 : mk Mi (mn M) = flK l) (n1 : mn Mi = mn M + flC l ∧ ms Mi = ms M + flZ l) (hN : N ≤ flZ l) (h98 : l = 98 → mR Mi 3204 (mn M) = mn M + 1 ∧ mk Mi (mn M + 1) = 50 ∧ ml Mi (mn M + 1) = 3) (h99 : l = 99 → mR Mi 2605 (mn M) = mn M + 1 ∧ Ls Mi (mn M + 1) [] ∧ mR Mi 4201 (mn M + 1) = 4398046511104) (h23 : ∀ o, mn M ≤ o → o < mn Mi → mk Mi o ≠ 23) (cN : rmN D M ≤ 601024) (cS : rmS D M + 60100 ≤ 7293034) (cont : CM → Option α) :
    ∃ D' M', (ob (K_J2_size l M) fun r2 M1 => if nI R = r2 then if mn M1 ≤ 601024 ∧ ms M1 + N ≤ 7293034 then nm (mn M1) fun v => nm (mnew M1 (flK l) 0 N) fun M2 => if ¬ v = 0 then ob (init v M2) fun _ M3 => ob (K_J2_add l v M3) fun _ M4 => cont M4 else none else none else cont M1) = cont M' ∧ Nx D M D' M' l R := by
  have hlA := flL_A l hl
  obtain ⟨a1, a2, a3⟩ := h.1 l hlA
  have lz : flX l ≤ 40000 := by
    have : ∀ l, l ∈ flL → flX l ≤ 40000 := by decide
    exact this l hl
  have c1 : mn M ≤ rmN D M := Nat.le_add_right _ _
  have c2 : ms M ≤ rmS D M := Nat.le_add_right _ _
  rw [ls_size a1, ob_some]
  by_cases e : R = (pl D l).length
  · obtain ⟨M2, b1, b2, b3, b4, b5, b6, b7⟩ := pool_push h hn F hl (by omega) k1 n1 h98 h99 h23 cN cS
    refine ⟨_, M2, ?_, b2, ?_, psh_dx (Nat.le_refl _) (by omega), ?_, fun i hi => psh_o hi, ⟨b4, b5⟩, fun z => absurd e (by omega), fun g g1 g2 => ?_⟩
    · have hz : flZ l ≤ 23 := by
        have : ∀ l, l ∈ flL → flZ l ≤ 23 := by decide
        exact this l hl
      rw [ifT (show nI R = nI (pl D l).length by rw [e]), ifT ⟨by omega, by omega⟩, nm_eq, nm_eq, ifT (show ¬ mn M = 0 by omega), hi e, ob_some, b1, ob_some]
    · rw [psh_l, List.length_append]; show R < (pl D l).length + 1; omega
    · exact (F.mono (fun _ _ z => absurd z (fun q => q))).tr2 b3 (fun _ _ z => z)
    · rw [b6 g g1 g2]
      have r := flA_rng l hlA
      exact (F.so (by omega) (fun z => z)).i g
  · refine ⟨D, M, ?_, h, by omega, Dx.rf _ _, Fz.rf, fun _ _ => rfl, ⟨Nat.le_refl _, Nat.le_refl _⟩, fun _ => ⟨rfl, rfl⟩, fun _ _ _ => rfl⟩
    rw [ifF (show ¬ nI R = nI (pl D l).length from fun z => e ((bI_eq (by omega) (by omega)).mp z))]
/-- a plain object -/
theorem al_plain (k N : Nat) (hk : k ≠ 23) : Fz none_ M (mnew M k 0 N) ∧ mk (mnew M k 0 N) (mn M) = k ∧ mn (mnew M k 0 N) = mn M + 1 ∧ ms (mnew M k 0 N) = ms M + N ∧ ∀ o, mn M ≤ o → o < mn (mnew M k 0 N) → mk (mnew M k 0 N) o ≠ 23 := ⟨Fz.rf.mnew, by rw [mk_mnew, ifT rfl], rfl, rfl, fun o h1 h2 => by
  have h2 : o < mn M + 1 := h2
  rw [show o = mn M by omega, mk_mnew, ifT rfl]; exact hk⟩
theorem nx_get (h : Nx D M D' M' l R) (hl : l ∈ flA) : K_J2_get l (nI R) M' = some ((pl D' l).getD R 0, M') := ls_get (h.1.1 l hl).1 h.2.1
/-- an object of a row is written: the rows stay -/
theorem PoW.wr (h : PoW D M) (hn : 167 ≤ mn M) (hl : l ∈ flL) (hk : k < (pl D l).length) (F : Fz (fun o => o = (pl D l).getD k 0) M M') (h98 : l = 98 → mR M' 3204 ((pl D l).getD k 0) = mR M 3204 ((pl D l).getD k 0)) (h99 : l = 99 → mR M' 2605 ((pl D l).getD k 0) = mR M 2605 ((pl D l).getD k 0)) (h23 : ∀ o, mn M ≤ o → o < mn M' → mk M' o ≠ 23) : PoW D M' := by
  obtain ⟨v1, v2, v3⟩ := h.2.1 l hl k hk
  have rl := flA_rng l (flL_A l hl)
  have mx : ∀ l, l ∈ flA → flX l ≤ 40000 := by decide
  have hx := (h.1 l (flL_A l hl)).2.2
  have hx2 := mx l (flL_A l hl)
  have so : ∀ o, o < mn M → ow D o ≠ tg l k → So M M' o := fun o ho hne => F.so ho (fun z => hne (by rw [z]; exact v3))
  have sI : ∀ o, o < 167 → So M M' o := fun o ho => F.so (by omega) (by omega)
  have n := F.1
  have tl : ∀ l', l' < 1000 → l' ≠ tg l k := fun l' hl' => by unfold tg; omega
  have t2 : ∀ k', tg 201 k' ≠ tg l k ∧ tg 202 k' ≠ tg l k := fun k' => by unfold tg; omega
  have arr : ∀ l' a xs, Ls M l' xs → AQ D M l' a → a ≠ tg l k → So M M' l' → Ls M' l' xs ∧ AQ D M' l' a := fun l' a xs hL hq hm s => by
    have sa : mR M 4201 l' ≠ 4398046511104 → So M M' (mR M 4201 l') := fun z => by
      rcases hL.lt with q | q
      · exact absurd q z
      · exact so _ q (by rw [(hq z).1.1]; exact hm)
    refine ⟨hL.kp n (fun o ho => F.k ho) s sa, fun z => ?_⟩
    rw [s.r] at z ⊢
    exact ⟨(hq z).1, by rw [(sa z).l]; exact (hq z).2⟩
  refine ⟨fun l' hl' => ?_, fun l' hl' k' hk' => ?_, fun k' hk' => ?_, fun k' hk' => ?_, fun o ho1 ho2 ho3 => ?_⟩
  · obtain ⟨a1, a2, a3⟩ := h.1 l' hl'
    have r' := flA_rng l' hl'
    obtain ⟨b1, b2⟩ := arr l' l' _ a1 a2 (tl _ (by omega)) (sI l' (by omega))
    exact ⟨b1, b2, a3⟩
  · obtain ⟨a1, a2, a3⟩ := h.2.1 l' hl' k' hk'
    exact ⟨by rw [F.k a2.2]; exact a1, ⟨a2.1, by omega⟩, a3⟩
  · obtain ⟨a1, a2, a3⟩ := h.2.2.1 k' hk'
    have e : mR M' 3204 ((pl D 98).getD k' 0) = mR M 3204 ((pl D 98).getD k' 0) := by
      by_cases q : (pl D 98).getD k' 0 = (pl D l).getD k 0
      · obtain ⟨q1, q2⟩ := h.inj (by decide) hl hk' hk q
        subst q1; subst q2
        exact h98 rfl
      · exact (F.so (h.2.1 98 (by decide) k' hk').2.1.2 q).r _
    rw [e]
    exact ⟨⟨by rw [F.k a2.2]; exact a1.1, by rw [(F.2.1 _ a2.2).2]; exact a1.2⟩, ⟨a2.1, by omega⟩, a3⟩
  · obtain ⟨⟨xs, a0, a1⟩, a2, a3, a4⟩ := h.2.2.2.1 k' hk'
    have e : mR M' 2605 ((pl D 99).getD k' 0) = mR M 2605 ((pl D 99).getD k' 0) := by
      by_cases q : (pl D 99).getD k' 0 = (pl D l).getD k 0
      · obtain ⟨q1, q2⟩ := h.inj (by decide) hl hk' hk q
        subst q1; subst q2
        exact h99 rfl
      · exact (F.so (h.2.1 99 (by decide) k' hk').2.1.2 q).r _
    have s2 := so _ a2.2 (by rw [a3]; exact (t2 _).1)
    rw [e]
    obtain ⟨c1, c2⟩ := arr _ _ xs a0 a4 (t2 _).2 s2
    exact ⟨⟨xs, c1, a1⟩, ⟨a2.1, by omega⟩, a3, c2⟩
  · by_cases q : o < mn M
    · rw [F.k q]; exact h.2.2.2.2 o ho1 q ho3
    · exact h23 o (by omega) ho2
end NEXT
