/-! Layer B: the flat model: a row of others gets shorter -/
set_option maxRecDepth 100000
/-- row l is xs -/
def d9 (l : Nat) (xs : List Nat) (D : FQ) : FQ := (fun i => if i = l then xs else pl D i, ow D)
section CUT
variable {C : PC} {P : Nat → Prop} {D D' D2 : FQ} {M M' M1 M2 Mi : CM} {σ σ' : TS} {X : Nat → Prop} {l k n R N x B V I Bm : Nat} {xs mss fss : List Nat} {α : Type} {S : List Nat} {z7 : Nat → Nat}
theorem d9_l : pl (d9 l xs D) l = xs := ifT rfl
theorem d9_o {i : Nat} (h : i ≠ l) : pl (d9 l xs D) i = pl D i := ifF h
theorem row_cut (h : PoW D M) (hn : 167 ≤ mn M) (hc : mn M ≤ 601024) (hl : l = 102 ∨ l = 109) (b2 : Ls M' l xs) (hx : xs.length ≤ (pl D l).length) (F2 : Fz (fun o => o = l ∨ o = mR M 4201 l) M M') (hm : mn M' = mn M) (hs : ms M' = ms M) (hr : ∀ g o, mR M' g o = mR M g o) : PoW (d9 l xs D) M' ∧ rmN (d9 l xs D) M' ≤ rmN D M ∧ rmS (d9 l xs D) M' ≤ rmS D M := by
  have hlA : l ∈ flA := by rcases hl with q | q <;> rw [q] <;> decide
  have hlL : l ∉ flL := by rcases hl with q | q <;> rw [q] <;> decide
  have hlr : 98 ≤ l ∧ l ≤ 109 := by omega
  obtain ⟨hL, y4, y5⟩ := h.1 l hlA
  obtain ⟨D', hD'⟩ : ∃ D' : FQ, D' = d9 l xs D := ⟨_, rfl⟩
  rw [← hD']
  have hp : pl D' l = xs := by rw [hD']; exact d9_l
  have hpo : ∀ i, i ≠ l → pl D' i = pl D i := fun i hi => by rw [hD']; exact d9_o hi
  have hpL : ∀ i, i ∈ flL → pl D' i = pl D i := fun i hi => hpo i (fun z => hlL (z ▸ hi))
  have hw : ∀ o, ow D' o = ow D o := fun o => by rw [hD']; rfl
  have b5 := F2.2.1
  have n := F2.1
  have kl2 : ∀ o, o < mn M → ml M' o = ml M o := fun o ho => (b5 o ho).2
  have capE : ∀ l' xs, Ls M l' xs → cap M' l' = cap M l' := fun l' xs hl => by
    unfold cap
    rw [hr]
    by_cases z : mR M 4201 l' = 4398046511104
    · rw [ifT z, ifT z]
    · rw [ifF z, ifF z]
      rcases hl.lt with q | q
      · exact absurd q z
      · exact kl2 _ q
  have aq : ∀ l' a xs, Ls M l' xs → AQ D M l' a → AQ D' M' l' a := fun l' a xs hL hq z => by
    rw [hr] at z ⊢
    rw [hw]
    rcases hL.lt with q | q
    · exact absurd q z
    · rw [kl2 _ q]; exact hq z
  have so : ∀ o, o < mn M → o ≠ l → (o < 167 ∨ ow D o ≠ l) → So M M' o := fun o ho hne h => F2.so ho (fun z => by
    rcases z with z | z
    · exact hne z
    · by_cases g : mR M 4201 l = 4398046511104
      · omega
      · rcases h with q | q
        · have := (y4 g).1.2; omega
        · rw [z] at q; exact q (y4 g).1.1)
  have tt : ∀ l' k', l' ∈ flL → k' < (pl D l').length → tg l' k' ≠ l := fun l' k' hl' hk' => by
    have := flA_rng l' (flL_A l' hl')
    unfold tg; omega
  have arr : ∀ l' a xs, Ls M l' xs → AQ D M l' a → a ≠ l → l' < mn M → l' ≠ l → So M M' l' → Ls M' l' xs := fun l' a xs hL hq hm hlt hne s => by
    have sa : mR M 4201 l' ≠ 4398046511104 → So M M' (mR M 4201 l') := fun z => by
      rcases hL.lt with q | q
      · exact absurd q z
      · exact so _ q (fun y => by have := (hq z).1.2; omega) (Or.inr (by rw [(hq z).1.1]; exact hm))
    exact hL.kp n (fun o ho => F2.k ho) s sa
  refine ⟨?_, ?_⟩
  · unfold PoW
    rw [hpL 98 (by decide), hpL 99 (by decide)]
    refine ⟨fun l' hl' => ?_, fun l' hl' k' hk' => ?_, fun k' hk' => ?_, fun k' hk' => ?_, fun o ho1 ho2 ho3 => ?_⟩
    · by_cases e : l' = l
      · rw [e, hp]
        exact ⟨b2, aq l l _ hL y4, by omega⟩
      · rw [hpo l' e]
        obtain ⟨a1, a2, a3⟩ := h.1 l' hl'
        have r' := flA_rng l' hl'
        exact ⟨arr l' l' _ a1 a2 e (by omega) e (so l' (by omega) e (Or.inl (by omega))), aq l' l' _ a1 a2, a3⟩
    · rw [hpL l' hl'] at hk' ⊢
      obtain ⟨a1, a2, a3⟩ := h.2.1 l' hl' k' hk'
      exact ⟨by rw [F2.k a2.2]; exact a1, ⟨a2.1, by omega⟩, by rw [hw]; exact a3⟩
    · obtain ⟨a1, a2, a3⟩ := h.2.2.1 k' hk'
      rw [hr]
      exact ⟨⟨by rw [F2.k a2.2]; exact a1.1, by rw [(F2.2.1 _ a2.2).2]; exact a1.2⟩, ⟨a2.1, by omega⟩, by rw [hw]; exact a3⟩
    · obtain ⟨⟨zs, a0, a1⟩, a2, a3, a4⟩ := h.2.2.2.1 k' hk'
      rw [hr]
      exact ⟨⟨zs, arr _ _ zs a0 a4 (by unfold tg; omega) a2.2 (by omega) (so _ a2.2 (by omega) (Or.inr (by rw [a3]; unfold tg; omega))), a1⟩, ⟨a2.1, by omega⟩, by rw [hw]; exact a3, aq _ _ zs a0 a4⟩
    · rw [F2.k (by omega)]
      rw [hw] at ho3
      exact h.2.2.2.2 o ho1 (by omega) ho3
  · have eqI : ∀ i, i ∈ flI → capI D' M' i = capI D M i := fun i hi => by
      unfold capI ll
      rw [hpL 99 (by decide), hr]
      rcases flI_lt hi with q | q
      · have ri := flA_rng i q
        rw [ifT (show i < 1000 by omega), ifF (show ¬ i = 0 by omega), capE i _ (h.1 i q).1]; rw [ifF (show ¬ i = 0 by omega)]
      · rw [ifF (show ¬ i < 1000 by omega)]
        by_cases hj : i - 1000 < (pl D 99).length
        · obtain ⟨⟨zs, z0, z1⟩, z2, z3, z4⟩ := h.2.2.2.1 _ hj
          rw [ifT hj, capE _ zs z0]
        · rw [ifF hj, ifT (rfl : (0 : Nat) = 0), ifT (rfl : (0 : Nat) = 0)]
    have fc : flC l = 0 ∧ flZ l = 0 := by rcases hl with q | q <;> rw [q] <;> decide
    have oth : ∀ i, i ∈ flI → ptN D' M' i = ptN D M i ∧ ptS D' M' i = ptS D M i := fun i hi => by
      unfold ptN ptS
      rw [eqI i hi]
      by_cases e : i = l
      · rw [e, fc.1, fc.2, Nat.zero_mul, Nat.zero_mul]
        exact ⟨rfl, rfl⟩
      · rw [hpo i e]
        exact ⟨rfl, rfl⟩
    have u1 := lsum_le (g := ptN D' M') (f := ptN D M) flI (fun i hi => Nat.le_of_eq (oth i hi).1)
    have u2 := lsum_le (g := ptS D' M') (f := ptS D M) flI (fun i hi => Nat.le_of_eq (oth i hi).2)
    unfold rmN rmS
    omega
/-- as FW.mv2, when a row gets shorter -/
theorem FW.mv3 (W : FW C B P mss fss D M σ) (F : Fq D TG M M') (h9 : mI M' 9 1 = mI M 9 1) (hp : PoW D' M') (hx : ∀ o, o < mn M → ow D' o = ow D o) (hr : rmN D' M' ≤ rmN D M ∧ rmS D' M' ≤ rmS D M) (hb : ∀ q, q ∈ bfR → mR M' q.1 q.2.1 = mR M q.1 q.2.1) (hbi : ∀ q, q ∈ bfI → mI M' q.1 q.2.1 = mI M q.1 q.2.1) (f : Ft S σ σ') (hK : itK.all (fun k => !S.contains k) = true) : FW C B P mss fss D' M' σ' ∧ Wz C C P M M' σ σ' := by
  have hn := W.n167
  obtain ⟨I', v⟩ := W.1.mv F (fun o ho z => W.ntx2 ho z) h9 f hK
  have s0 : ∀ o, o < 167 → ¬ TG o → So M M' o := fun o ho h => Fz.so F (by omega) (fun z => h (by rw [tgo_s ho] at z; exact z))
  have s4 := s0 4 (by decide) (fun z => by unfold TG at z; omega)
  have ar : ∀ l, l ∈ arL → mR M' 4201 l = mR M 4201 l := fun l hl => (s0 l (by have := arL_lt hl; omega) (fun z => by have := arL_lt hl; unfold TG at z; omega)).r _
  have tx : ∀ o, Tx P M' o → Tx P M o := fun o z => by
    rcases z with z | z | z | ⟨l, hl, z⟩
    · exact Or.inl z
    · exact Or.inr (Or.inl z)
    · rw [s4.r] at z; exact Or.inr (Or.inr (Or.inl z))
    · rw [ar l hl] at z; exact Or.inr (Or.inr (Or.inr ⟨l, hl, z⟩))
  have hc := W.2.2.2.2
  have hm := W.rm
  refine ⟨⟨I', hp, fun o h1 h2 h3 => ?_, W.2.2.2.1.mv hn F hb hbi, ⟨by omega, by omega⟩, hc.2⟩, v⟩
  by_cases ho : o < mn M
  · rw [hx o ho]; exact W.2.2.1 o (tx o h1) ho h3
  · exfalso
    rcases tx o h1 with z | z | z | ⟨l, hl, z⟩
    · omega
    · have := (W.1.2.2.2.2.2.1.nx z).1; omega
    · obtain ⟨L, WN⟩ := W.1.1.2.1
      have := WN.2.2.2.2.2.2.2.1
      omega
    · have hp2 : mn M' ≤ rmN D' M' := Nat.le_add_right _ _
      rcases (W.1.2.2.2.1.2.2.2.2.2.2.2 l hl).2 with q | q
      · omega
      · omega
/-- the row and its array -/
theorem FW.cut (W : FW C B P mss fss D M σ) (hl : l = 102 ∨ l = 109) (b2 : Ls M' l xs) (hx : xs.length ≤ (pl D l).length) (F2 : Fz (fun o => o = l ∨ o = mR M 4201 l) M M') (hm : mn M' = mn M) (hs : ms M' = ms M) (hr : ∀ g o, mR M' g o = mR M g o) (f : Ft S σ σ') (hK : itK.all (fun k => !S.contains k) = true) : FW C B P mss fss (d9 l xs D) M' σ' ∧ Wz C C P M M' σ σ' ∧ Fq D (fun t => t = l) M M' := by
  have h167 := W.n167
  have rm := W.rm
  have hlA : l ∈ flA := by rcases hl with q | q <;> rw [q] <;> decide
  have fq : Fq D (fun t => t = l) M M' := F2.mono (fun o ho z => by
    rcases z with z | z
    · rw [z, tgo_s (by omega)]
    · exact (W.2.1.1 l hlA).2.1.tg (by omega) ho z)
  obtain ⟨p1, p2, p3⟩ := row_cut W.2.1 h167 (by omega) hl b2 hx F2 hm hs hr
  obtain ⟨a, b⟩ := W.mv3 (D' := d9 l xs D) (fq.mono (fun t z => by unfold TG; omega)) (by
    have s1 : So M M' 1 := Fz.so fq (by omega) (fun z => by rw [tgo_s (by decide)] at z; omega)
    exact s1.i 9) p1 (fun _ _ => rfl) ⟨p2, p3⟩ (fun q hq => hr _ _) (fun q hq => by
    have := fixI q hq
    have r : ∀ q, q ∈ bfI → q.2.1 ≠ 102 ∧ q.2.1 ≠ 109 := by decide +kernel
    have r := r q hq
    exact (Fz.so fq (by omega) (fun z => by rw [tgo_s (by omega)] at z; omega) : So M M' q.2.1).i _) f hK
  exact ⟨a, b, fq⟩
theorem flx_d9 (h : FlX z7 C P D mss M σ V I Bm) : FlX z7 C P (d9 109 xs D) mss M σ V I Bm := by
  have h98 : pl (d9 109 xs D) 98 = pl D 98 := d9_o (by decide)
  have h99 : pl (d9 109 xs D) 99 = pl D 99 := d9_o (by decide)
  have h100 : pl (d9 109 xs D) 100 = pl D 100 := d9_o (by decide)
  have h102 : pl (d9 109 xs D) 102 = pl D 102 := d9_o (by decide)
  unfold FlX FInZ InR MbZ VrR VzR AxR MbC InnR at h ⊢
  rw [h98, h99, h100, h102]
  exact h
end CUT
