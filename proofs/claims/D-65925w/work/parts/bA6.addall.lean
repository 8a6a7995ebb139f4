/-! Layer B: rows: all of another row come behind -/
set_option maxRecDepth 100000
/-- all slots of a row's array may be copied; it's short -/
def Lg (M : CM) (l : Nat) : Prop := mR M 4201 l ≠ 4398046511104 → ml M (mR M 4201 l) ≤ 60 ∧ ∀ i, i < ml M (mR M 4201 l) → mX M (mR M 4201 l) i = 0 ∨ gR M (mX M (mR M 4201 l) i)
section ADDALL
variable {M M' M3 : CM} {l l1 l2 a C c n : Nat} {xs ys : List Nat}
theorem k_copyOf (ha : (a = 4398046511104 ∧ C = 0) ∨ (a < mn M ∧ a ≠ 4398046511104 ∧ mk M a = 55 ∧ ml M a = C)) (hC : C < 2000000) (hc : c < 2000000) (hg : ∀ i, i < min C c → mX M a i = 0 ∨ gR M (mX M a i)) (cap : mn M ≤ 601024 ∧ ms M + c ≤ 7293034) : K_J7_copyOf a (nI c) M = some (mn M, mcX (mnew M 55 c c) a 0 (mn M) 0 (min C c)) := by
  have hc0 : ¬ nI c < 0 := by rw [nI_ltL (by omega) (by decide)]; exact Nat.not_lt_zero _
  have hm0 : ¬ nI (min C c) < 0 := by rw [nI_ltL (by omega) (by decide)]; exact Nat.not_lt_zero _
  have hal : alen (mnew M 55 c c) a = nI C := by
    unfold alen
    rcases ha with ⟨h1, h2⟩ | ⟨h1, h2, h3, h4⟩
    · rw [ifT h1, h2]; rfl
    · rw [ifF h2, ml_mnew, ifF (by omega), h4]
  have h55 : a = 4398046511104 ∨ mk M a = 55 := by
    rcases ha with ⟨h1, _⟩ | ⟨_, _, h3, _⟩
    · exact Or.inl h1
    · exact Or.inr h3
  have h50 : a = 4398046511104 ∨ 50 ≤ mk (mnew M 55 c c) a := by
    rcases ha with ⟨h1, _⟩ | ⟨h1, _, h3, _⟩
    · exact Or.inl h1
    · right; rw [mk_mnew, ifF (by omega), h3]; decide
  have hok : okCopy (mnew M 55 c c) a 0 (mn M) 0 (nI (min C c)) := by
    refine ⟨by rw [mk_mnew, ifT rfl], by decide, by decide, hm0, ?_, ?_⟩
    · rw [ml_mnew, ifT rfl, ix_nI (by omega)]; show 0 + min C c ≤ c; omega
    · rcases ha with ⟨h1, h2⟩ | ⟨h1, h2, h3, h4⟩
      · exact Or.inl ⟨h1, by rw [h2, ix_nI (by omega)]; omega, rfl⟩
      · refine Or.inr ⟨by rw [mk_mnew, ifF (by omega)]; exact h3, ?_, ?_⟩
        · rw [ml_mnew, ifF (by omega), h4, ix_nI (by omega)]; show 0 + min C c ≤ C; omega
        · unfold goodRefs
          rw [List.all_eq_true]
          intro i hi
          rw [ix_nI (by omega), List.mem_range] at hi
          have : goodRef (mnew M 55 c c) (mX (mnew M 55 c c) a (ix 0 + i)) := by
            rw [mX_mnew, ifF (by omega), show ix 0 + i = i from by show 0 + i = i; omega]
            rcases hg i hi with q | q
            · exact Or.inl q
            · exact (q.kp (M' := mnew M 55 c c) (by rw [mn_mnew]; omega) (fun o ho => by rw [mk_mnew, ifF (by omega)])).good
          exact decide_eq_true this
  unfold K_J7_copyOf K_J7_copyOf_2
  rw [ifT h55, ifT rfl, ix_nI (by omega), ifT ⟨hc0, cap⟩, nm_eq, nm_eq, ifT h50, hal, nI_min (by omega) (by omega), ifT hok, nm_eq, ob_some, ix_nI (by omega)]
  rfl
theorem k_toArray (h2 : Ls M l2 ys) (hn : ys.length ≤ 60) (cap : mn M ≤ 601024 ∧ ms M + 60 ≤ 7293034) : ∃ M2, K_J2_toArray l2 M = some (mn M, M2) ∧ Fz none_ M M2 ∧ mn M2 = mn M + 1 ∧ ms M2 ≤ ms M + 60 ∧ mk M2 (mn M) = 55 ∧ ml M2 (mn M) = ys.length ∧ ∀ i, i < ys.length → mX M2 (mn M) i = ys.getD i 0 := by
  obtain ⟨a1, a2, a3, a5, a4⟩ := h2
  unfold K_J2_toArray
  rw [ifT a1, ifT a1, a2]
  rcases a4 with ⟨q, qx⟩ | ⟨q1, q2, q3, q4, q5, q6⟩
  · have e0 : ys.length = 0 := by rw [qx]; rfl
    rw [k_copyOf (C := 0) (Or.inl ⟨q, rfl⟩) (by decide) (by omega) (fun i hi => absurd hi (by omega)) ⟨cap.1, by omega⟩, ob_some]
    refine ⟨_, rfl, Fz.rf.mnew.mcX (fun z => absurd z (Nat.lt_irrefl _)), rfl, ?_, ?_, ?_, fun i hi => by omega⟩
    · show ms M + ys.length ≤ _; omega
    · rw [mk_mcX, mk_mnew, ifT rfl]
    · rw [ml_mcX, ml_mnew, ifT rfl]
  · rw [k_copyOf (C := ml M (mR M 4201 l2)) (Or.inr ⟨q1.1, q1.2, q2, rfl⟩) q4 (by omega) (fun i hi => by
      have : i < ys.length := by omega
      rw [q6 i this]; exact Or.inr (a5 i this)) ⟨cap.1, by omega⟩, ob_some]
    refine ⟨_, rfl, Fz.rf.mnew.mcX (fun z => absurd z (Nat.lt_irrefl _)), rfl, ?_, ?_, ?_, fun i hi => ?_⟩
    · show ms M + ys.length ≤ _; omega
    · rw [mk_mcX, mk_mnew, ifT rfl]
    · rw [ml_mcX, ml_mnew, ifT rfl]
    · rw [mX_mcX, ifT ⟨rfl, by omega, by omega⟩, mX_mnew, ifF (by omega), show 0 + (i - 0) = i by omega]; exact q6 i hi
/-- a longer array for a row -/
theorem k_grow2 (h : Ls M l xs) (g : Lg M l) (hl : l < mn M) (hx : xs.length < n) (hn : n ≤ 40) (hC : mR M 4201 l ≠ 4398046511104 → ml M (mR M 4201 l) < n) (cap : mn M ≤ 601024 ∧ ms M + 60 ≤ 7293034) : ∃ M2 nc, K_J2_grow_2 l (nI n) M = some (mn M, M2) ∧ mn M2 = mn M + 1 ∧ ms M2 = ms M + nc ∧ (n ≤ nc ∧ nc ≤ 60) ∧ mk M2 (mn M) = 55 ∧ ml M2 (mn M) = nc ∧ (∀ i, i < xs.length → mX M2 (mn M) i = xs.getD i 0) ∧ (∀ i, i < nc → mX M2 (mn M) i = 0 ∨ gR M (mX M2 (mn M) i)) ∧ mR M2 4201 l = mn M ∧ Fz (fun o => o = l) M M2 ∧ ∀ g, mI M2 g l = mI M g l := by
  obtain ⟨a1, a2, a3, a5, a4⟩ := h
  rcases a4 with ⟨q, qx⟩ | ⟨q1, q2, q3, q4, q5, q6⟩
  · subst qx
    have hmx : mmax 10 (nI n) = nI (max 10 n) := by rw [show (10 : Int32) = nI 10 from rfl, nI_max (by decide) (by omega)]
    refine ⟨msR (mnew M 55 (max 10 n) (max 10 n)) 4201 l (mn M), max 10 n, ?_, rfl, rfl, by omega, ?_, ?_, fun i hi => absurd hi (Nat.not_lt_zero _), fun i hi => Or.inl ?_, ?_, Fz.rf.mnew.msR (fun _ => rfl), fun g => ?_⟩
    · unfold K_J2_grow_2
      rw [ifT a1, q, ifT (Or.inl rfl), nm_eq, show alen M 4398046511104 = 0 from by unfold alen; rw [ifT rfl], ifF (by decide), ifT a1, ifT (Or.inl rfl), ifT rfl, hmx, ix_nI (by omega), ifT ⟨by rw [nI_ltL (by omega) (by decide)]; exact Nat.not_lt_zero _, cap.1, by omega⟩, nm_eq, nm_eq, ifT (show mk (mnew M 55 (max 10 n) (max 10 n)) l = 22 from by rw [mk_mnew, ifF (by omega)]; exact a1), nm_eq]
    · show mk (mnew M 55 _ _) (mn M) = 55; rw [mk_mnew, ifT rfl]
    · show ml (mnew M 55 _ _) (mn M) = _; rw [ml_mnew, ifT rfl]
    · rw [mX_msR, mX_mnew, ifT rfl]
    · rw [mR_msR, ifT ⟨rfl, rfl⟩]
    · rw [mI_msR, mI_mnew, ifF (by omega)]
  · obtain ⟨g1, g2⟩ := g q1.2
    have hC := hC q1.2
    generalize hA : mR M 4201 l = A at *
    generalize hCC : ml M A = C at *
    have hal : alen M A = nI C := by unfold alen; rw [ifF q1.2, hCC]
    obtain ⟨nc, hnc⟩ : ∃ nc, nc = C + max (n - C) (C / 2) := ⟨_, rfl⟩
    refine ⟨msR (mcX (mnew M 55 nc nc) A 0 (mn M) 0 (min C nc)) 4201 l (mn M), nc, ?_, rfl, rfl, by omega, ?_, ?_, fun i hi => ?_, fun i hi => ?_, ?_, (Fz.rf.mnew.mcX (fun z => absurd z (Nat.lt_irrefl _))).msR (fun _ => rfl), fun g => ?_⟩
    · unfold K_J2_grow_2 KJ_J2_grow_2_20 K_J9_newLength
      rw [ifT a1, hA, ifT (Or.inr (by omega)), nm_eq, hal, ifT ((nI_Llt (by omega) (by decide)).mpr (by show 0 < C; omega)), nI_sub (by omega), nI_shr1 (by omega), nI_max (by omega) (by omega), bI_add, nm_eq, ← hnc, ifF (by rw [show (0 : Int32) = nI 0 from rfl, bI_le (by omega) (by decide)]; omega), ifF (by rw [show (2147483639 : Int32) = nI 2147483639 from rfl, bI_lt (by decide) (by omega)]; omega), ob_some, ifT a1, hA, k_copyOf (C := C) (Or.inr ⟨q1.1, q1.2, q2, hCC⟩) (by omega) (by omega) (fun i hi => g2 i (by omega)) ⟨cap.1, by omega⟩, ob_some, ifT (show mk (mcX (mnew M 55 nc nc) A 0 (mn M) 0 (min C nc)) l = 22 from by rw [mk_mcX, mk_mnew, ifF (by omega)]; exact a1), nm_eq]
    · rw [mk_msR, mk_mcX, mk_mnew, ifT rfl]
    · rw [ml_msR, ml_mcX, ml_mnew, ifT rfl]
    · rw [mX_msR, mX_mcX, ifT ⟨rfl, by omega, by omega⟩, mX_mnew, ifF (by omega), show 0 + (i - 0) = i by omega]; exact q6 i hi
    · rw [mX_msR, mX_mcX]
      by_cases z : i < C
      · rw [ifT ⟨rfl, by omega, by omega⟩, mX_mnew, ifF (by omega), show 0 + (i - 0) = i by omega]; exact g2 i z
      · rw [ifF (by omega), mX_mnew, ifT rfl]; exact Or.inl rfl
    · rw [mR_msR, ifT ⟨rfl, rfl⟩]
    · rw [mI_msR, mI_mcX, mI_mnew, ifF (by omega)]
theorem ad_fin {Ar src L : Nat} (hk : mk M l = 22) (hr : mR M 4201 l = Ar) (hA : Ar < mn M ∧ Ar ≠ 4398046511104 ∧ mk M Ar = 55 ∧ ml M Ar = L) (hL : xs.length + ys.length ≤ L ∧ L ≤ 60) (h1 : ∀ i, i < xs.length → mX M Ar i = xs.getD i 0) (hg : ∀ i, i < L → mX M Ar i = 0 ∨ gR M (mX M Ar i)) (gx : ∀ i, i < xs.length → gR M (xs.getD i 0)) (hs : src < mn M ∧ mk M src = 55 ∧ ml M src = ys.length ∧ src ≠ Ar ∧ ∀ i, i < ys.length → mX M src i = ys.getD i 0) (gy : ∀ i, i < ys.length → gR M (ys.getD i 0)) (hn : 0 < ys.length) : okCopy M src 0 Ar (nI xs.length) (nI ys.length) ∧ Ls (msI (mcX M src 0 Ar xs.length ys.length) 4202 l (nI (xs.length + ys.length))) l (xs ++ ys) ∧ Lg (msI (mcX M src 0 Ar xs.length ys.length) 4202 l (nI (xs.length + ys.length))) l := by
  obtain ⟨b1, b2, b3, b4⟩ := hA
  obtain ⟨c1, c2, c3, c4, c5⟩ := hs
  have hlen : (xs ++ ys).length = xs.length + ys.length := List.length_append
  have gk : ∀ x, gR M x → gR (msI (mcX M src 0 Ar xs.length ys.length) 4202 l (nI (xs.length + ys.length))) x := fun x h => h.kp (Nat.le_refl _) (fun _ _ => rfl)
  have hX : ∀ j, mX (msI (mcX M src 0 Ar xs.length ys.length) 4202 l (nI (xs.length + ys.length))) Ar j = if xs.length ≤ j ∧ j < xs.length + ys.length then ys.getD (j - xs.length) 0 else mX M Ar j := fun j => by
    rw [mX_msI, mX_mcX]
    by_cases z : xs.length ≤ j ∧ j < xs.length + ys.length
    · rw [ifT ⟨rfl, z⟩, ifT z, Nat.zero_add, c5 _ (by omega)]
    · rw [ifF (fun q => z q.2), ifF z]
  have hR : mR (msI (mcX M src 0 Ar xs.length ys.length) 4202 l (nI (xs.length + ys.length))) 4201 l = Ar := hr
  refine ⟨⟨b3, by decide, ?_, ?_, ?_, Or.inr ⟨c2, ?_, ?_⟩⟩, ⟨hk, ?_, by omega, fun i hi => ?_, Or.inr ⟨⟨by rw [hR]; exact b1, by rw [hR]; exact b2⟩, by rw [hR]; exact b3, ?_, ?_, ?_, fun i hi => ?_⟩⟩, fun _ => ⟨by rw [hR]; show ml M Ar ≤ 60; omega, fun i hi => ?_⟩⟩
  · rw [nI_ltL (by omega) (by decide)]; exact Nat.not_lt_zero _
  · rw [nI_ltL (by omega) (by decide)]; exact Nat.not_lt_zero _
  · rw [ix_nI (by omega), ix_nI (by omega), b4]; exact hL.1
  · rw [ix_nI (by omega), c3]; show 0 + ys.length ≤ ys.length; omega
  · unfold goodRefs
    rw [List.all_eq_true]
    intro i hi
    rw [ix_nI (by omega), List.mem_range] at hi
    have : goodRef M (mX M src (ix 0 + i)) := by
      rw [show ix 0 + i = i from by show 0 + i = i; omega, c5 i hi]
      exact (gy i hi).good
    exact decide_eq_true this
  · rw [mI_msI, ifT ⟨rfl, rfl⟩, hlen]
  · rw [hlen] at hi
    rcases Nat.lt_or_ge i xs.length with z | z
    · rw [getD_app_l z]; exact gk _ (gx i z)
    · rw [show i = xs.length + (i - xs.length) by omega, getD_app_r]; exact gk _ (gy _ (by omega))
  · rw [hR, hlen]; show _ ≤ ml M Ar; omega
  · rw [hR]; show ml M Ar < _; omega
  · rw [hR]; show 1 ≤ ml M Ar; omega
  · rw [hlen] at hi
    rw [hR, hX]
    rcases Nat.lt_or_ge i xs.length with z | z
    · rw [ifF (by omega), getD_app_l z]; exact h1 i z
    · rw [ifT ⟨z, hi⟩]
      have := getD_app_r (xs := xs) (ys := ys) (k := i - xs.length)
      rw [show xs.length + (i - xs.length) = i by omega] at this
      exact this.symm
  · rw [hR] at hi ⊢
    have hi : i < ml M Ar := hi
    rw [hX]
    by_cases z : xs.length ≤ i ∧ i < xs.length + ys.length
    · rw [ifT z]; exact Or.inr (gk _ (gy _ (by omega)))
    · rw [ifF z]
      rcases hg i (by omega) with q | q
      · exact Or.inl q
      · exact Or.inr (gk _ q)
/-- all of a row come behind those of another -/
theorem ls_addAll (h1 : Ls M l1 xs) (g1 : Lg M l1) (h2 : Ls M l2 ys) (hl1 : l1 < mn M) (ha : mR M 4201 l1 ≠ l1) (hlen : xs.length + ys.length ≤ 36) (cap : mn M + 2 ≤ 601024 ∧ ms M + 200 ≤ 7293034) : ∃ r M', K_J2_addAll l1 l2 M = some (r, M') ∧ Ls M' l1 (xs ++ ys) ∧ Lg M' l1 ∧ Fz (fun o => o = l1 ∨ o = mR M 4201 l1) M M' ∧ (mR M' 4201 l1 = mR M 4201 l1 ∨ (mn M ≤ mR M' 4201 l1 ∧ mR M' 4201 l1 < mn M')) ∧ mn M' ≤ mn M + 2 ∧ ms M' ≤ ms M + 120 := by
  obtain ⟨M2, t1, F2, t3, t4, t5, t6, t7⟩ := k_toArray h2 (by omega) ⟨by omega, by omega⟩
  obtain ⟨a1, a2, a3, a5, a4⟩ := h1
  have gy0 := h2.2.2.2.1
  have sl := F2.so hl1 (fun z => z)
  obtain ⟨M3, hM3⟩ : ∃ M3, M3 = msI M2 4200 l1 (mI M2 4200 l1 + 1) := ⟨_, rfl⟩
  have k3 : ∀ o, mk M3 o = mk M2 o := fun o => by rw [hM3]; rfl
  have l3 : ∀ o, ml M3 o = ml M2 o := fun o => by rw [hM3]; rfl
  have r3 : ∀ g o, mR M3 g o = mR M2 g o := fun g o => by rw [hM3]; rfl
  have x3 : ∀ o j, mX M3 o j = mX M2 o j := fun o j => by rw [hM3]; rfl
  have n3 : mn M3 = mn M + 1 := by rw [hM3]; exact t3
  have s3 : ms M3 ≤ ms M + 60 := by rw [hM3]; exact t4
  have F3 : Fz (fun o => o = l1) M M3 := by rw [hM3]; exact (F2.mono (fun _ _ z => absurd z (fun q => q))).msI (fun _ => rfl)
  have i3 : mI M3 4202 l1 = nI xs.length := by rw [hM3, mI_msI, ifF (by omega), sl.i]; exact a2
  have hR : mR M3 4201 l1 = mR M 4201 l1 := by rw [r3, sl.r]
  have kl : mk M3 l1 = 22 := by rw [k3, sl.k]; exact a1
  have gk : ∀ x, gR M x → gR M3 x := fun x h => h.kp F3.1 (fun o ho => F3.k ho)
  have sA : mR M 4201 l1 < mn M → So M M3 (mR M 4201 l1) := fun z => F3.so z ha
  have L3 : Ls M3 l1 xs := by
    refine ⟨kl, i3, a3, fun i hi => gk _ (a5 i hi), ?_⟩
    rw [hR]
    rcases a4 with ⟨q, qx⟩ | ⟨q1, q2, q3, q4, q5, q6⟩
    · exact Or.inl ⟨q, qx⟩
    · have s := sA q1.1
      exact Or.inr ⟨⟨by omega, q1.2⟩, by rw [s.k]; exact q2, by rw [s.l]; exact q3, by rw [s.l]; exact q4, by rw [s.l]; exact q5, fun i hi => by rw [s.x]; exact q6 i hi⟩
  have hA : mR M 4201 l1 ≠ 4398046511104 → mR M 4201 l1 < mn M := fun z => by
    rcases a4 with ⟨q, _⟩ | ⟨q, _⟩
    · exact absurd q z
    · exact q.1
  have G3 : Lg M3 l1 := fun z => by
    rw [hR] at z ⊢
    have s := sA (hA z)
    obtain ⟨u1, u2⟩ := g1 z
    exact ⟨by rw [s.l]; exact u1, fun i hi => by
      rw [s.l] at hi
      rw [s.x]
      rcases u2 i hi with q | q
      · exact Or.inl q
      · exact Or.inr (gk _ q)⟩
  have F3' : Fz (fun o => o = l1 ∨ o = mR M 4201 l1) M M3 := F3.mono (fun _ _ z => Or.inl z)
  have hal : alen M3 (mn M) = nI ys.length := by unfold alen; rw [ifF (show ¬ mn M = 4398046511104 by omega), l3, t6]
  unfold K_J2_addAll
  rw [ifT h2.1, t1, ob_some, ifT (show mk M2 l1 = 22 from by rw [sl.k]; exact a1), ifT (show mk M2 l1 = 22 from by rw [sl.k]; exact a1), nm_eq, ← hM3, ifT (show mn M = 4398046511104 ∨ 50 ≤ mk M3 (mn M) from Or.inr (by rw [k3, t5]; decide)), nm_eq, hal]
  by_cases h0 : ys.length = 0
  · have hy : ys = [] := List.eq_nil_of_length_eq_zero h0
    rw [ifT (show nI ys.length = 0 from by rw [h0]; rfl)]
    exact ⟨0, M3, rfl, by rw [hy, List.append_nil]; exact L3, G3, F3', Or.inl hR, by omega, by omega⟩
  have hs3 : ∀ M4, mn M3 ≤ mn M4 → So M3 M4 (mn M) → mn M < mn M4 ∧ mk M4 (mn M) = 55 ∧ ml M4 (mn M) = ys.length ∧ ∀ i, i < ys.length → mX M4 (mn M) i = ys.getD i 0 := fun M4 h s => ⟨by omega, by rw [s.k, k3]; exact t5, by rw [s.l, l3]; exact t6, fun i hi => by rw [s.x, x3]; exact t7 i hi⟩
  have gy3 : ∀ i, i < ys.length → gR M3 (ys.getD i 0) := fun i hi => gk _ (gy0 i hi)
  have hcond : mR M3 4201 l1 = 4398046511104 ∨ 50 ≤ mk M3 (mR M3 4201 l1) := by
    rcases L3.2.2.2.2 with ⟨q, _⟩ | ⟨_, q, _⟩
    · exact Or.inl q
    · exact Or.inr (by rw [q]; decide)
  rw [ifF (show ¬ nI ys.length = 0 from by rw [show (0 : Int32) = nI 0 from rfl, bI_eq (by omega) (by decide)]; exact h0), ifT kl, nm_eq, ifT hcond, ifT kl, nm_eq, i3]
  have grow : (mR M3 4201 l1 ≠ 4398046511104 → ml M3 (mR M3 4201 l1) < xs.length + ys.length) → ∃ r M', (ob (K_J2_grow_2 l1 (nI xs.length + nI ys.length) M3) fun r22 M21 => if okCopy M21 (mn M) 0 r22 (nI xs.length) (nI ys.length) then nm (mcX M21 (mn M) (ix 0) r22 (ix (nI xs.length)) (ix (nI ys.length))) fun M26 => if mk M26 l1 = 22 then nm (msI M26 4202 l1 (nI xs.length + nI ys.length)) fun M28 => some ((1 : Int32), M28) else none else none) = some (r, M') ∧ Ls M' l1 (xs ++ ys) ∧ Lg M' l1 ∧ Fz (fun o => o = l1 ∨ o = mR M 4201 l1) M M' ∧ (mR M' 4201 l1 = mR M 4201 l1 ∨ (mn M ≤ mR M' 4201 l1 ∧ mR M' 4201 l1 < mn M')) ∧ mn M' ≤ mn M + 2 ∧ ms M' ≤ ms M + 120 := fun hC => by
    obtain ⟨M4, nc, u1, u2, u3, u4, u5, u6, u7, u8, u9, u10, u11⟩ := k_grow2 (n := xs.length + ys.length) L3 G3 (by omega) (by omega) (by omega) hC ⟨by omega, by omega⟩
    have g4 : ∀ x, gR M3 x → gR M4 x := fun x h => h.kp u10.1 (fun o ho => u10.k ho)
    obtain ⟨v1, v2, v3, v4⟩ := hs3 M4 (by omega) (u10.so (by omega) (by omega))
    have kl4 : mk M4 l1 = 22 := by rw [u10.k (by omega)]; exact kl
    obtain ⟨w1, w2, w3⟩ := ad_fin (M := M4) (l := l1) (xs := xs) (ys := ys) (Ar := mn M3) (src := mn M) (L := nc) kl4 u9 ⟨by omega, by omega, u5, u6⟩ ⟨u4.1, u4.2⟩ u7 (fun i hi => by
      rcases u8 i hi with q | q
      · exact Or.inl q
      · exact Or.inr (g4 _ q)) (fun i hi => g4 _ (L3.2.2.2.1 i hi)) ⟨v1, v2, v3, by omega, v4⟩ (fun i hi => g4 _ (gy3 i hi)) (by omega)
    rw [bI_add, u1, ob_some, ifT w1, nm_eq, ix_nI (by omega), ix_nI (by omega), ifT (show mk (mcX M4 (mn M) (ix 0) (mn M3) xs.length ys.length) l1 = 22 from kl4), nm_eq]
    refine ⟨1, _, rfl, w2, w3, ?_, Or.inr ?_, ?_, ?_⟩
    · exact (((F3.tr u10).mono (fun _ _ z => Or.inl z)).mcX (fun z => by omega)).msI (fun _ => Or.inl rfl)
    · have e : mR (msI (mcX M4 (mn M) (ix 0) (mn M3) xs.length ys.length) 4202 l1 (nI (xs.length + ys.length))) 4201 l1 = mn M3 := u9
      rw [e]
      show mn M ≤ mn M3 ∧ mn M3 < mn M4
      omega
    · show mn M4 ≤ _; omega
    · show ms M4 ≤ _; omega
  rcases L3.2.2.2.2 with ⟨q, qx⟩ | ⟨q1, q2, q3, q4, q5, q6⟩
  · have e0 : alen M3 (mR M3 4201 l1) = 0 := by unfold alen; rw [ifT q]
    have hx0 : xs.length = 0 := by rw [qx]; rfl
    rw [e0, ifF (show ¬ nI ys.length ≤ 0 - nI xs.length from by rw [hx0, show (0 : Int32) - nI 0 = nI 0 from rfl, bI_le (by omega) (by decide)]; omega), ifT kl]
    exact grow (fun z => absurd q z)
  · have e0 : alen M3 (mR M3 4201 l1) = nI (ml M3 (mR M3 4201 l1)) := by unfold alen; rw [ifF q1.2]
    obtain ⟨u1, u2⟩ := G3 q1.2
    rw [e0, nI_sub q3]
    by_cases hf : ys.length ≤ ml M3 (mR M3 4201 l1) - xs.length
    · rw [ifT (show nI ys.length ≤ nI (ml M3 (mR M3 4201 l1) - xs.length) from by rw [bI_le (by omega) (by omega)]; exact hf)]
      obtain ⟨v1, v2, v3, v4⟩ := hs3 M3 (Nat.le_refl _) (So.rf _ _)
      have hne : mn M ≠ mR M3 4201 l1 := by
        rw [hR]
        have := hA (by rw [← hR]; exact q1.2)
        omega
      obtain ⟨w1, w2, w3⟩ := ad_fin (M := M3) (l := l1) (xs := xs) (ys := ys) (Ar := mR M3 4201 l1) (src := mn M) (L := ml M3 (mR M3 4201 l1)) kl rfl ⟨q1.1, q1.2, q2, rfl⟩ ⟨by omega, u1⟩ q6 u2 L3.2.2.2.1 ⟨v1, v2, v3, hne, v4⟩ gy3 (by omega)
      rw [ifT w1, nm_eq, ix_nI (by omega), ix_nI (by omega), ifT (show mk (mcX M3 (mn M) (ix 0) (mR M3 4201 l1) xs.length ys.length) l1 = 22 from kl), bI_add, nm_eq]
      refine ⟨1, _, rfl, w2, w3, ?_, Or.inl hR, ?_, ?_⟩
      · exact (F3'.mcX (fun _ => Or.inr hR)).msI (fun _ => Or.inl rfl)
      · show mn M3 ≤ _; omega
      · show ms M3 ≤ _; omega
    · rw [ifF (show ¬ nI ys.length ≤ nI (ml M3 (mR M3 4201 l1) - xs.length) from by rw [bI_le (by omega) (by omega)]; exact hf), ifT kl]
      exact grow (fun _ => by omega)
end ADDALL
