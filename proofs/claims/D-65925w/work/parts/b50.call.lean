/-! Layer B: calls of functions -/
set_option maxRecDepth 100000
section CALL
variable {C : PC} {M M' M0 Mb : CM} {σ σ' σ0 σb : TS} {i dep c s n so ib depb cb' sb' nb' i0 v l p : Nat} {ps : List Nat} {α β γ δ : Type} {G : γ → CM → δ → TS → Prop}
theorem z_add2 (Pb : Pe C Mb σb ib depb cb' sb' nb') (E : Es Mb σb M σ) (P : Pe C M σ i dep c s n) (hL : LsB Mb M l ps) (hx : gR M p) (hn : ps.length ≤ 1281) (hc : 1 ≤ c) (hs : 1932 ≤ s) : ∃ M', K_J2_add l p M = some (1, M') ∧ LsB Mb M' l (ps ++ [p]) ∧ Pe C M' σ i dep (c - 1) (s - 1932) n ∧ Es Mb σb M' σ ∧ Fz (fun o => o = l ∨ o = mR M 4201 l) M M' ∧ mn M' ≤ mn M + 1 ∧ (mR M' 4201 l = mR M 4201 l ∨ mR M' 4201 l = mn M) := by
  obtain ⟨M', b1, b2, b3, b4, b5, b6⟩ := z_add Pb E P hL hx hn hc hs
  obtain ⟨h1, ⟨h2, h3⟩, h4, h5⟩ := hL
  have cap := P.cap hs
  obtain ⟨M2, a1, a2, a3, a4, a5, a6, a7, a8⟩ := ls_add h1 hx h3 h4 (by omega) ⟨cap.1, by omega⟩
  rw [b1] at a1
  injection a1 with a1; injection a1 with _ a1
  subst a1
  refine ⟨M', b1, b2, b3, b4, b5, b6, ?_⟩
  rcases a4 with ⟨q, _⟩ | ⟨q, _⟩
  · exact Or.inl q
  · exact Or.inr q
/-- the twin's look-up in function stands on its names alone -/
theorem t_function_kp {w : Int64} {r : Int32} (h : F_function w σ = some (r, σ)) (hn : tI σ' 48 = tI σ 48) (hb : ∀ j, tB σ' 40 j = tB σ 40 j) : F_function w σ' = some (r, σ') := by
  have loop : ∀ (f : Nat) (k : Int32) (x : Unit ⊕ Int32), L_function_2 f w k σ = some (x, σ) → L_function_2 f w k σ' = some (x, σ') := by
    intro f
    induction f with
    | zero => intro k x h; cases h
    | succ f ih =>
      intro k x h
      rw [L_function_2] at h ⊢
      rw [hn]
      by_cases c1 : tI σ 48 ≤ k
      · rw [ifT c1] at h ⊢; injection h with h; injection h with h _; rw [h]
      · rw [ifF c1] at h ⊢
        by_cases c2 : inb k 12
        · rw [ifT c2] at h ⊢
          rw [hb]
          by_cases c3 : lg_cmp (tB σ 40 (ix k)) w = 0
          · rw [ifT c3] at h ⊢; injection h with h; injection h with h _; rw [h]
          · rw [ifF c3, nm_eq] at h ⊢
            exact ih _ _ h
        · rw [ifF c2] at h; cases h
  have hs : ∀ (f : Nat) (k : Int32) (x : Unit ⊕ Int32) (s : TS), L_function_2 f w k σ = some (x, s) → s = σ := by
    intro f
    induction f with
    | zero => intro k x s h; cases h
    | succ f ih =>
      intro k x s h
      rw [L_function_2] at h
      by_cases c1 : tI σ 48 ≤ k
      · rw [ifT c1] at h; injection h with h; injection h with _ h; exact h.symm
      · rw [ifF c1] at h
        by_cases c2 : inb k 12
        · rw [ifT c2] at h
          by_cases c3 : lg_cmp (tB σ 40 (ix k)) w = 0
          · rw [ifT c3] at h; injection h with h; injection h with _ h; exact h.symm
          · rw [ifF c3, nm_eq] at h
            exact ih _ _ _ h
        · rw [ifF c2] at h; cases h
  unfold F_function at h ⊢
  rcases e : L_function_2 FU w 0 σ with _ | ⟨x, s⟩
  · rw [e] at h; cases h
  · have := hs _ _ _ _ e
    subst this
    rw [e] at h
    rw [loop _ _ _ e]
    rcases x with x | x
    · rw [obS_inl] at h ⊢
      injection h with h; injection h with h _; rw [h]
    · rw [obS_inr] at h ⊢
      injection h with h; injection h with h _; rw [h]
/-- the twin's look-up in isFor stands on its names alone -/
theorem t_isFor_kp {w : Int64} {r : Int32} (h : F_isFor w σ = some (r, σ)) (hn : tI σ' 37 = tI σ 37) (hb : ∀ j, tB σ' 35 j = tB σ 35 j) : F_isFor w σ' = some (r, σ') := by
  have loop : ∀ (f : Nat) (k : Int32) (x : Unit ⊕ Int32), L_isFor_2 f w k σ = some (x, σ) → L_isFor_2 f w k σ' = some (x, σ') := by
    intro f
    induction f with
    | zero => intro k x h; cases h
    | succ f ih =>
      intro k x h
      rw [L_isFor_2] at h ⊢
      rw [hn]
      by_cases c1 : tI σ 37 ≤ k
      · rw [ifT c1] at h ⊢; injection h with h; injection h with h _; rw [h]
      · rw [ifF c1] at h ⊢
        by_cases c2 : inb k 20
        · rw [ifT c2] at h ⊢
          rw [hb]
          by_cases c3 : lg_cmp (tB σ 35 (ix k)) w = 0
          · rw [ifT c3] at h ⊢; injection h with h; injection h with h _; rw [h]
          · rw [ifF c3, nm_eq] at h ⊢
            exact ih _ _ h
        · rw [ifF c2] at h; cases h
  have hs : ∀ (f : Nat) (k : Int32) (x : Unit ⊕ Int32) (s : TS), L_isFor_2 f w k σ = some (x, s) → s = σ := by
    intro f
    induction f with
    | zero => intro k x s h; cases h
    | succ f ih =>
      intro k x s h
      rw [L_isFor_2] at h
      by_cases c1 : tI σ 37 ≤ k
      · rw [ifT c1] at h; injection h with h; injection h with _ h; exact h.symm
      · rw [ifF c1] at h
        by_cases c2 : inb k 20
        · rw [ifT c2] at h
          by_cases c3 : lg_cmp (tB σ 35 (ix k)) w = 0
          · rw [ifT c3] at h; injection h with h; injection h with _ h; exact h.symm
          · rw [ifF c3, nm_eq] at h
            exact ih _ _ _ h
        · rw [ifF c2] at h; cases h
  unfold F_isFor at h ⊢
  rcases e : L_isFor_2 FU w 0 σ with _ | ⟨x, s⟩
  · rw [e] at h; cases h
  · have := hs _ _ _ _ e
    subst this
    rw [e] at h
    rw [loop _ _ _ e]
    rcases x with x | x
    · rw [obS_inl] at h ⊢
      injection h with h; injection h with h _; rw [h]
    · rw [obS_inr] at h ⊢
      injection h with h; injection h with h _; rw [h]
/-- the twin's look-up in formal stands on its names alone -/
theorem t_formal_kp {w : Int64} {r : Int32} (h : F_formal w σ = some (r, σ)) (hn : tI σ' 38 = tI σ 38) (hb : ∀ j, tB σ' 36 j = tB σ 36 j) : F_formal w σ' = some (r, σ') := by
  have loop : ∀ (f : Nat) (k : Int32) (x : Unit ⊕ Int32), L_formal_2 f w k σ = some (x, σ) → L_formal_2 f w k σ' = some (x, σ') := by
    intro f
    induction f with
    | zero => intro k x h; cases h
    | succ f ih =>
      intro k x h
      rw [L_formal_2] at h ⊢
      rw [hn]
      by_cases c1 : tI σ 38 ≤ k
      · rw [ifT c1] at h ⊢; injection h with h; injection h with h _; rw [h]
      · rw [ifF c1] at h ⊢
        by_cases c2 : inb k 4
        · rw [ifT c2] at h ⊢
          rw [hb]
          by_cases c3 : lg_cmp (tB σ 36 (ix k)) w = 0
          · rw [ifT c3] at h ⊢; injection h with h; injection h with h _; rw [h]
          · rw [ifF c3, nm_eq] at h ⊢
            exact ih _ _ h
        · rw [ifF c2] at h; cases h
  have hs : ∀ (f : Nat) (k : Int32) (x : Unit ⊕ Int32) (s : TS), L_formal_2 f w k σ = some (x, s) → s = σ := by
    intro f
    induction f with
    | zero => intro k x s h; cases h
    | succ f ih =>
      intro k x s h
      rw [L_formal_2] at h
      by_cases c1 : tI σ 38 ≤ k
      · rw [ifT c1] at h; injection h with h; injection h with _ h; exact h.symm
      · rw [ifF c1] at h
        by_cases c2 : inb k 4
        · rw [ifT c2] at h
          by_cases c3 : lg_cmp (tB σ 36 (ix k)) w = 0
          · rw [ifT c3] at h; injection h with h; injection h with _ h; exact h.symm
          · rw [ifF c3, nm_eq] at h
            exact ih _ _ _ h
        · rw [ifF c2] at h; cases h
  unfold F_formal at h ⊢
  rcases e : L_formal_2 FU w 0 σ with _ | ⟨x, s⟩
  · rw [e] at h; cases h
  · have := hs _ _ _ _ e
    subst this
    rw [e] at h
    rw [loop _ _ _ e]
    rcases x with x | x
    · rw [obS_inl] at h ⊢
      injection h with h; injection h with h _; rw [h]
    · rw [obS_inr] at h ⊢
      injection h with h; injection h with h _; rw [h]
/-- the arguments read so far: their Asts, the twin's nodes of arguments -/
def ArC (C : PC) (Mb : CM) (l v : Nat) (M : CM) (σ : TS) (d : Nat) (as ns : List Nat) : Prop := ns.length = as.length ∧ ∀ k, k < as.length → (Lo C (ns.getD k 0) ∧ ns.getD k 0 < tN σ ∧ tA σ 24 (ns.getD k 0) = 43 ∧ tA σ 26 (ns.getD k 0) = nI (ns.getD (k + 1) 0)) ∧ (∀ j, j < k → ns.getD j 0 < ns.getD k 0) ∧ ∃ e P, tA σ 25 (ns.getD k 0) = nI e ∧ e < 9000 ∧ (∀ o, P o → (mn Mb ≤ o ∧ o < mn M) ∧ o ≠ l ∧ o ≠ mR M 4201 l ∧ o ≠ v) ∧ AR P (ns.getD k 0) (tQ σ) (cm C) (car C) (cnf C) (cfn C) M σ d 0 (as.getD k 0) e
/-- one more argument, behind its expression: its node N is the last, the one ahead is linked to it -/
theorem ArC.step {d d' N o e : Nat} {as ns : List Nat} {P : Nat → Prop} (h : ArC C Mb l v M σ d as ns) (hd : d ≤ d') (hnf : cnf C ≤ 12) (hn : mn M ≤ mn M' ∧ ∀ o, o < mn M → mk M' o = mk M o) (hso : ∀ o, mn Mb ≤ o → o < mn M → o ≠ l → o ≠ mR M 4201 l → o ≠ v → So M M' o) (hw : ∀ w, wc M' w = wc M w) (hN : tN σ ≤ N ∧ tN σ' = N + 1 ∧ Lo C N) (hQ0 : tQ σ ≤ tQ σ') (hA : ∀ k, k = 24 ∨ k = 25 ∨ k = 26 ∨ k = 27 → ∀ j, j < tN σ → ¬ (k = 26 ∧ as.length ≠ 0 ∧ j = ns.getD (as.length - 1) 0) → tA σ' k j = tA σ k j) (hQ : (∀ k, k = 31 ∨ k = 32 ∨ k = 33 → ∀ j, j < tQ σ → tA σ' k j = tA σ k j) ∧ (∀ k, k = 29 ∨ k = 30 → ∀ j, j < tQ σ → tB σ' k j = tB σ k j) ∧ ∀ k, tA σ' 42 k = tA σ 42 k) (harr : mR M' 4201 l = mR M 4201 l ∨ mn M ≤ mR M' 4201 l) (hl : as.length ≠ 0 → tA σ' 26 (ns.getD (as.length - 1) 0) = nI N) (h24 : tA σ' 24 N = 43) (h25 : tA σ' 25 N = nI e) (he : e < 9000) (h26 : tA σ' 26 N = 0) (hP : ∀ o, P o → (mn Mb ≤ o ∧ o < mn M') ∧ o ≠ l ∧ o ≠ mR M' 4201 l ∧ o ≠ v) (hR : AR P N (tQ σ') (cm C) (car C) (cnf C) (cfn C) M' σ' d' 0 o e) : ArC C Mb l v M' σ' d' (as ++ [o]) (ns ++ [N]) := by
  obtain ⟨hlen, h⟩ := h
  refine ⟨by simp [hlen], fun k hk => ?_⟩
  have hk : k < as.length + 1 := by simpa using hk
  have inc : ∀ j k, j ≤ k → k < as.length → ns.getD j 0 ≤ ns.getD k 0 := fun j k h1 h2 => by
    rcases Nat.lt_or_ge j k with g | g
    · exact Nat.le_of_lt ((h k h2).2.1 j g)
    · rw [show j = k by omega]; exact Nat.le_refl _
  rcases Nat.lt_or_ge k as.length with g | g
  · obtain ⟨⟨a1, a2, a3, a4⟩, a5, e', P', b1, b2, b3, b4⟩ := h k g
    have g1 : (ns ++ [N]).getD k 0 = ns.getD k 0 := getD_app_l (by omega)
    have g2 : (as ++ [o]).getD k 0 = as.getD k 0 := getD_app_l g
    have last := inc k (as.length - 1) (by omega) (by omega)
    rw [g1, g2]
    refine ⟨⟨a1, by omega, by rw [hA 24 (by decide) _ a2 (by omega)]; exact a3, ?_⟩, fun j hj => by rw [getD_app_l (by omega)]; exact a5 j hj, e', P', by rw [hA 25 (by decide) _ a2 (by omega)]; exact b1, b2, fun o ho => ?_, ?_⟩
    · rcases Nat.lt_or_ge (k + 1) as.length with g3 | g3
      · have l2 := inc (k + 1) (as.length - 1) (by omega) (by omega)
        have l3 := (h (k + 1) g3).2.1 k (by omega)
        rw [getD_app_l (by omega), hA 26 (by decide) _ a2 (by omega)]; exact a4
      · have e3 : k = as.length - 1 := by omega
        have e4 : (ns ++ [N]).getD (k + 1) 0 = N := by
          rw [show k + 1 = ns.length + 0 by omega, getD_app_r]; rfl
        rw [e4, e3]; exact hl (by omega)
    · obtain ⟨c1, c2, c3, c4⟩ := b3 o ho
      exact ⟨⟨c1.1, by omega⟩, c2, by rcases harr with q | q <;> omega, c4⟩
    · exact AR.mv ⟨hn, fun o ho => by
        obtain ⟨c1, c2, c3, c4⟩ := b3 o ho
        exact hso o c1.1 c1.2 c2 c3 c4, fun w _ => hw w, fun k' hk' j hj => hA k' hk' j (by omega) (by omega), hQ.1, hQ.2.1, hQ.2.2⟩ (fun o ho => ho) (Nat.le_refl _) hQ0 ⟨Nat.le_refl _, hnf, fun _ _ => rfl⟩ d d' 0 _ _ hd b4
  · have ek : k = as.length := by omega
    subst ek
    have g1 : (ns ++ [N]).getD as.length 0 = N := by rw [show as.length = ns.length + 0 by omega, getD_app_r]; rfl
    have g2 : (as ++ [o]).getD as.length 0 = o := by rw [show as.length = as.length + 0 from rfl, getD_app_r]; rfl
    have g3 : (ns ++ [N]).getD (as.length + 1) 0 = 0 := by rw [show as.length + 1 = ns.length + 1 by omega, getD_app_r]; rfl
    rw [g1, g2, g3]
    refine ⟨⟨hN.2.2, by omega, h24, h26⟩, fun j hj => ?_, e, P, h25, he, hP, hR⟩
    rw [getD_app_l (by omega)]
    have := (h j hj).1.2.1
    omega
/-- the row of arguments, as the relation of calls has it -/
theorem ArC.fin {d d' : Nat} {as ns : List Nat} {P : Nat → Prop} (h : ArC C Mb l v M σ d as ns) (h9 : tN σ ≤ 9000) (hd : d ≤ d') (hnf : cnf C ≤ 12) (hP : ∀ o, mn Mb ≤ o → o < mn M → P o) : AgR (AR P (tN σ) (tQ σ) (cm C) (car C) (cnf C) (cfn C) M σ d' 0) (cfn C 1000) (tN σ) σ as (ns.getD 0 0) := by
  obtain ⟨hlen, h⟩ := h
  have key : ∀ r j, j + r = as.length → AgR (AR P (tN σ) (tQ σ) (cm C) (car C) (cnf C) (cfn C) M σ d' 0) (cfn C 1000) (tN σ) σ (as.drop j) (ns.getD j 0) := by
    intro r
    induction r with
    | zero =>
      intro j hj
      rw [List.drop_of_length_le (by omega)]
      show ns.getD j 0 = 0
      rw [List.getD_eq_getElem?_getD, List.getElem?_eq_none (by omega)]; rfl
    | succ r ih =>
      intro j hj
      obtain ⟨⟨a1, a2, a3, a4⟩, a5, e', P', b1, b2, b3, b4⟩ := h j (by omega)
      rw [List.drop_eq_getElem_cons (by omega)]
      have e0 : as[j] = as.getD j 0 := by rw [List.getD_eq_getElem?_getD, List.getElem?_eq_getElem (by omega)]; rfl
      rw [e0]
      have nx : ns.getD (j + 1) 0 < 9000 := by
        rcases Nat.lt_or_ge (j + 1) as.length with g | g
        · have := (h (j + 1) g).1.2.1; omega
        · rw [List.getD_eq_getElem?_getD, List.getElem?_eq_none (by omega)]; exact Nat.zero_lt_of_lt (show 0 < 9000 by decide)
      exact ⟨⟨a1, a2, a3⟩, ⟨e', b1, b2, AR.mv Mv.rf (fun o ho => hP o (b3 o ho).1.1 (b3 o ho).1.2) (by omega) (Nat.le_refl _) ⟨Nat.le_refl _, hnf, fun _ _ => rfl⟩ d d' 0 _ _ hd b4⟩, _, a4, nx, ih (j + 1) (by omega)⟩
  have := key as.length 0 (by omega)
  rw [List.drop_zero] at this
  exact this
def PC.lo (C : PC) (L : Nat) : PC := (cb C, cl C, cm C, ct C, cp C, cN C, cS C, cnf C, fun k => if k = 1000 then L else cfn C k, cnl C, clw C, car C)
theorem Pe.lo (P : Pe C M σ i dep c s n) {L : Nat} (hL : L ≤ tN σ) : Pe (C.lo L) M σ i dep c s n := by
  obtain ⟨a1, a2, a3, a4, N, Q, ⟨a8, a9, a10⟩, a11, a12, a13⟩ := P
  have hN : tN σ = N := by unfold tN; rw [a8, ix_nI (by omega)]
  refine ⟨a1, ⟨a2.1, a2.2.1, a2.2.2.1, ?_, a2.2.2.2.2⟩, a3, a4, N, Q, ⟨a8, ⟨a9.1, ?_⟩, a10⟩, a11, a12, a13⟩
  · obtain ⟨fs, nfs, f1, f2, f3, f4, f5, f6⟩ := a2.2.2.2.1
    refine ⟨fs, nfs, f1, f2, f3, f4, f5, fun k hk => ?_⟩
    have hk : k < cnf C := hk
    have e : cfn (C.lo L) k = cfn C k := if_neg (by omega)
    unfold FnR
    rw [e]
    exact f6 k hk
  · show (if 1000 = 1000 then L else cfn C 1000) ≤ N
    rw [if_pos rfl]; omega
theorem Pe.unlo {L : Nat} (P : Pe (C.lo L) M σ i dep c s n) (hL : cfn C 1000 ≤ L) : Pe C M σ i dep c s n := by
  obtain ⟨a1, a2, a3, a4, N, Q, ⟨a8, a9, a10⟩, a11, a12, a13⟩ := P
  refine ⟨a1, ⟨a2.1, a2.2.1, a2.2.2.1, ?_, a2.2.2.2.2⟩, a3, a4, N, Q, ⟨a8, ⟨a9.1, ?_⟩, a10⟩, a11, a12, a13⟩
  · obtain ⟨fs, nfs, f1, f2, f3, f4, f5, f6⟩ := a2.2.2.2.1
    refine ⟨fs, nfs, f1, f2, f3, f4, f5, fun k hk => ?_⟩
    have f4' : cnf C ≤ 12 := f4
    have e : cfn (C.lo L) k = cfn C k := if_neg (by omega)
    have g := f6 k hk
    unfold FnR at g
    rw [e] at g
    exact g
  · have h : (if 1000 = 1000 then L else cfn C 1000) ≤ N := a9.2
    rw [if_pos rfl] at h; omega
/-- the twin's node p gets its link -/
theorem Es.s26 {p : Nat} {u : Int32} (E : Es Mb σb M σ) (hp : tN σb ≤ p) : Es Mb σb M (tsA σ 26 p u) := by
  obtain ⟨e1, e2, e3, e4, e5⟩ := E
  refine ⟨e1, e2, e3, ⟨e4.1, fun k hk j hj => ?_, fun k hk j hj => ?_, e4.2.2.2⟩, e5.p_tsA rfl⟩
  · rw [tA_tsA, ifF (by omega)]; exact e4.2.1 k hk j hj
  · rw [tA_tsA, ifF (by omega)]; exact e4.2.2.1 k hk j hj
theorem Pe.s26 {p : Nat} {u : Int32} (P : Pe C M σ i dep c s n) : Pe C M (tsA σ 26 p u) i dep c s n := by
  obtain ⟨N, Q, n1, n2, n3, n4, n5, n6, n7, n8⟩ := P.nodes
  exact P.tw (S := [26]) ((Ft.rf _ σ).p_tsA rfl) (by decide) n1 ⟨n3, n4⟩ n5 ⟨n7, n8⟩
theorem FB.s26 {p w : Nat} {u : Int32} (h : FB C Mb σb M w σ) (hp : tN σb ≤ p) : FB C Mb σb M w (tsA σ 26 p u) := ⟨h.1, h.2.1.s26 hp, h.2.2.1, h.2.2.2.1, h.2.2.2.2.1.kp ((Ft.rf [26] σ).p_tsA rfl) rfl rfl, h.2.2.2.2.2⟩
theorem bw_Lcall {cf : TS → Option (Int32 × TS)} {s' : TS} (h : Br C σ s') (n : Nat) (x3 x4 x5 x6 x7 : Int32) : ∃ r, L_call_37 cf (n + 1) x3 x4 x5 x6 x7 s' = some (r, s') := by
  rw [L_call_37, t_isBad1 h.b, ob_some, ifF (by decide)]
  exact ⟨_, rfl⟩
/-- the arguments of a call, all of them -/
theorem args_loop {cfK : CM → Option ((Nat ⊕ Nat) × CM)} {cfT : TS → Option (Int32 × TS)} {x1 : Int32} {x3 : Nat} {y3 y4 : Int32} (Pb : Pe C Mb σb ib depb cb' sb' nb')
    (hexpr : ∀ (L : Nat) (M : CM) (σ : TS) (i' c s n : Nat), ib ≤ i' → 64 ≤ c → 4096 ≤ s → 16 ≤ n → Pe (C.lo L) M σ i' dep c s n → Ok (C.lo L) M σ i' dep c s n 0 (cfK M) (cfT σ)) :
    ∀ (g : Nat) (M : CM) (σ : TS) (i d f f' : Nat) (as ns : List Nat), ct C - i < g → g < f → g < f' → ib ≤ i → Es Mb σb M σ → Pe C M σ i dep c s n → 65 ≤ c → 6028 ≤ s → 17 ≤ n → (mn Mb ≤ v ∧ v < mn M) → mk M v = 8 → mR M 1406 v = l → v ≠ l → v ≠ mR M 4201 l → LsB Mb M l as → ArC C Mb l v M σ d as ns → as.length ≤ i → (∀ k, k < as.length → tN σb ≤ ns.getD k 0) →
    (∃ M' σ' i' d' as' ns', KL_X2_named_85 cfK f x1 x3 v M = some (.inl (), M') ∧ L_call_37 cfT f' y3 y4 (nI (ns.getD 0 0)) (nI (ns.getD (as.length - 1) 0)) (nI as.length) σ = some ((nI (ns'.getD 0 0), nI as'.length), σ') ∧ Pe C M' σ' i' dep (c - 1) (s - 1932) (n - 1) ∧ i < i' ∧ Es Mb σb M' σ' ∧ So M M' v ∧ LsB Mb M' l as' ∧ ArC C Mb l v M' σ' d' as' ns' ∧ as'.length ≤ i' ∧ as' ≠ []) ∨
    (∃ w M' y σ', KL_X2_named_85 cfK f x1 x3 v M = some (.inr (.inr w), M') ∧ L_call_37 cfT f' y3 y4 (nI (ns.getD 0 0)) (nI (ns.getD (as.length - 1) 0)) (nI as.length) σ = some (y, σ') ∧ FB C Mb σb M' w σ') := by
  have h167 := Pb.n167
  intro g
  induction g with
  | zero =>
    intro M σ i d f f' as ns hg
    exact absurd hg (Nat.not_lt_zero _)
  | succ g ih =>
    intro M σ i d f f' as ns hg hf hf' hib E P hc hs hn hv hk hl hvl hva hL hA hai hns
    obtain ⟨f, rfl⟩ : ∃ g, f = g + 1 := ⟨f - 1, by omega⟩
    obtain ⟨f', rfl⟩ : ∃ g, f' = g + 1 := ⟨f' - 1, by omega⟩
    have hit := P.it
    have t1280 := P.t1280
    have hLo : Lo C (tN σ) := by
      obtain ⟨N, Q, n1, n2, n3, n4, n5, n6, n7, n8⟩ := P.nodes
      rw [n2]; exact n3
    have hlen := hA.1
    have hal : mR M 4201 l ≠ 90 := fun z => by
      have := hL.2.2.2 (by rw [z]; decide)
      omega
    rw [KL_X2_named_85, ifT hk, L_call_37, t_isBad0 P.g0, ob_some, ifT (rfl : (0 : Int32) = 0)]
    rcases hexpr (tN σ) M σ i c s n hib (by omega) (by omega) (by omega) (P.lo (Nat.le_refl _)) with ⟨o, M1, x, σ1, i1, a1, a2, P1', hi1, E1, R1⟩ | ⟨w, M1, y, σ1, a1, a2, fb⟩
    · have P1 : Pe C M1 σ1 i1 dep c s n := P1'.unlo hLo.2
      have E01 := E.tr E1
      have n01 := E1.1.1
      have sv : So M M1 v := E1.1.so hv.2 (by omega)
      have sl : So M M1 l := E1.1.so hL.2.1.2 (by have := hL.2.1.1; omega)
      have hL1 : LsB Mb M1 l as := hL.kp E1.1 (by have := hL.2.1.1; omega) hal
      have harr1 : mR M1 4201 l = mR M 4201 l := sl.r 4201
      have bR := R1.b
      obtain ⟨M2, b1, b2, P2, E2, F2, b6, b7⟩ := z_add2 Pb E01 P1 hL1 (p := o) (Or.inl ⟨bR.1.2, by rw [bR.2.1]; decide, by rw [bR.2.1]; decide⟩) (by omega) (by omega) (by omega)
      have n12 := F2.1
      obtain ⟨σ2, c1, c2, c3, c4, c5, ⟨c6, c7, c8, c9⟩, P2', E2'⟩ := y_node (n := n - 1) (P2.wk (c' := c - 1) (s' := s - 1932) (n' := n - 1 + 1) (Nat.le_refl _) (Nat.le_refl _) (by omega)) 43 (nI x) 0 0
      have z1 := E1.2.2.2.1
      have z2 := E2'.2.2.2.1
      have sv2 : So M1 M2 v := F2.so (by omega) (by rw [harr1]; omega)
      have E02 := E2.tr E2'
      rw [a1, obS_inl, hl, ifT hL1.1.1, b1, ob_some, a2, ob_some, c1, ob_some]
      -- the link
      obtain ⟨σ3, hx3, P3, E03, hI, hB3, hA3, hl3⟩ : ∃ σ3, (if nI (ns.getD 0 0) = 0 then nm (nI as.length + 1) fun v37 => ob (F_isSign 44 σ2) fun r39 s38 => if r39 = 0 then some ((nI (tN σ1), v37), s38) else ob (F_next s38) fun _ s42 => L_call_37 cfT f' y3 y4 (nI (tN σ1)) (nI (tN σ1)) v37 s42 else if inb (nI (ns.getD (as.length - 1) 0)) 9000 then nm (tsA σ2 26 (ix (nI (ns.getD (as.length - 1) 0))) (nI (tN σ1))) fun s26 => nm (nI as.length + 1) fun v27 => ob (F_isSign 44 s26) fun r29 s28 => if r29 = 0 then some ((nI (ns.getD 0 0), v27), s28) else ob (F_next s28) fun _ s32 => L_call_37 cfT f' y3 y4 (nI (ns.getD 0 0)) (nI (tN σ1)) v27 s32 else none) = (ob (F_isSign 44 σ3) fun r29 s28 => if r29 = 0 then some ((nI ((ns ++ [tN σ1]).getD 0 0), nI (as ++ [o]).length), s28) else ob (F_next s28) fun _ s32 => L_call_37 cfT f' y3 y4 (nI ((ns ++ [tN σ1]).getD 0 0)) (nI ((ns ++ [tN σ1]).getD ((as ++ [o]).length - 1) 0)) (nI (as ++ [o]).length) s32) ∧ Pe C M2 σ3 i1 dep (c - 1) (s - 1932) (n - 1) ∧ Es Mb σb M2 σ3 ∧ (∀ k, tI σ3 k = tI σ2 k) ∧ (∀ k j, tB σ3 k j = tB σ2 k j) ∧ (∀ k j, ¬ (k = 26 ∧ as.length ≠ 0 ∧ j = ns.getD (as.length - 1) 0) → tA σ3 k j = tA σ2 k j) ∧ (as.length ≠ 0 → tA σ3 26 (ns.getD (as.length - 1) 0) = nI (tN σ1)) := by
        have g1 : (ns ++ [tN σ1]).getD ((as ++ [o]).length - 1) 0 = tN σ1 := by
          rw [show (as ++ [o]).length - 1 = ns.length + 0 by simp [hlen], getD_app_r]; rfl
        have g2 : (as ++ [o]).length = as.length + 1 := by simp
        rw [g1, g2]
        by_cases ha : as.length = 0
        · have e1 : ns = [] := List.eq_nil_of_length_eq_zero (by omega)
          subst e1
          refine ⟨σ2, ?_, P2', E02, fun _ => rfl, fun _ _ => rfl, fun _ _ _ => rfl, fun z => absurd ha z⟩
          rw [ifT (show nI (([] : List Nat).getD 0 0) = 0 from rfl), nm_eq, nI_addL]
          rfl
        · obtain ⟨⟨d1, d2, d3, d4⟩, d5⟩ := hA.2 0 (by omega)
          obtain ⟨⟨e1, e2, e3, e4⟩, e5⟩ := hA.2 (as.length - 1) (by omega)
          have t9 := P.tN9
          have hne : ¬ nI (ns.getD 0 0) = 0 := by
            rw [show (0 : Int32) = nI 0 from rfl, bI_eq (by omega) (by decide)]
            have := d1.1; omega
          have hin : inb (nI (ns.getD (as.length - 1) 0)) 9000 := inb_nI' (by omega) (by decide)
          refine ⟨tsA σ2 26 (ns.getD (as.length - 1) 0) (nI (tN σ1)), ?_, P2'.s26, E02.s26 (hns _ (by omega)), fun _ => rfl, fun _ _ => rfl, fun k j h => by rw [tA_tsA, ifF (by omega)], fun _ => by rw [tA_tsA, ifT ⟨rfl, rfl⟩]⟩
          rw [ifF hne, ifT hin, nm_eq, nm_eq, ix_nI (by omega), nI_addL, getD_app_l (show 0 < ns.length by omega)]
      rw [hx3]
      have tn3 : tN σ3 = tN σ1 + 1 := by unfold tN; rw [hI]; exact c2
      have tq3 : tQ σ3 = tQ σ1 := by unfold tQ; rw [hI]; exact c3
      -- what was read, at the end of this round
      obtain ⟨d1, R1⟩ := R1
      have stp : ∀ (M4 : CM) (σ4 : TS), Es M2 σ3 M4 σ4 → tN σ4 = tN σ3 → Es Mb σb M4 σ4 → ArC C Mb l v M4 σ4 (max d d1) (as ++ [o]) (ns ++ [tN σ1]) := by
        intro M4 σ4 E4 hn4 E04
        have z4 := E4.2.2.2.1
        have n24 := E4.1.1
        have hl2 := b2.2.1
        have F14 : Fz (fun o => o = 90 ∨ o = l ∨ o = mR M 4201 l) M1 M4 := (F2.mono (Y := fun o => o = 90 ∨ o = l ∨ o = mR M 4201 l) (fun o _ z => by rw [harr1] at z; exact Or.inr z)).tr2 E4.1 (fun o _ z => Or.inl z)
        have F04 : Fz (fun o => o = 90 ∨ o = l ∨ o = mR M 4201 l) M M4 := (E1.1.mono (fun o _ z => Or.inl z)).tr F14
        have sl4 : So M2 M4 l := E4.1.so hl2.2 (by have := hl2.1; omega)
        have harr4 : mR M4 4201 l = mR M 4201 l ∨ mn M1 ≤ mR M4 4201 l := by
          rw [sl4.r]
          rcases b7 with q | q
          · left; rw [q, harr1]
          · right; rw [q]; exact Nat.le_refl _
        have wcs : ∀ {M5 : CM} {σ5 : TS}, Es Mb σb M5 σ5 → ∀ w, wc M5 w = wc Mb w := fun E5 w => Pb.wcs E5.1 (fun o z => by rw [z]; exact Pb.en.1) w
        have hA43 : ∀ k, k = 24 ∨ k = 25 ∨ k = 26 ∨ k = 27 → ∀ j, j < tN σ3 → tA σ4 k j = tA σ3 k j := fun k hk j hj => z4.2.1 k hk j hj
        have hA21 : ∀ k, k = 24 ∨ k = 25 ∨ k = 26 ∨ k = 27 → ∀ j, j < tN σ1 → tA σ2 k j = tA σ1 k j := fun k hk j hj => z2.2.1 k hk j hj
        have f41 : ∀ k j, (k = 31 ∨ k = 32 ∨ k = 33) → j < tQ σ1 → tA σ4 k j = tA σ1 k j := fun k j hk hj => by
          rw [z4.2.2.1 k hk j (by omega), hA3 k j (by omega), z2.2.2.1 k hk j hj]
        have f42 : ∀ k j, (k = 29 ∨ k = 30) → j < tQ σ1 → tB σ4 k j = tB σ1 k j := fun k j hk hj => by
          rw [z4.2.2.2 k hk j (by omega), hB3, z2.2.2.2 k hk j hj]
        have f43 : ∀ k, tA σ4 42 k = tA σ1 42 k := fun k => by
          rw [(E4.2.2.2.2 42 rfl).2.2.1, hA3 42 k (by omega), (E2'.2.2.2.2 42 rfl).2.2.1]
        have tq4 := z4.1.2
        refine hA.step (N := tN σ1) (e := x) (P := fun z => mn M ≤ z ∧ z < mn M1) (Nat.le_max_left _ _) P.nf12 ⟨by omega, fun o ho => F04.k ho⟩ (fun o h1 h2 h3 h4 h5 => F04.so h2 (by omega)) (fun w => by rw [wcs E04, wcs E]) ⟨z1.1.1, by omega, c5⟩ (by have := z1.1.2; omega) (fun k hk j hj hne => ?_) ⟨fun k hk j hj => ?_, fun k hk j hj => ?_, fun k => ?_⟩ (by rcases harr4 with q | q <;> omega) (fun hz => ?_) ?_ ?_ ?_ ?_ (fun o ho => ?_) ?_
        · rw [hA43 k hk j (by have := z1.1.1; omega), hA3 k j hne, hA21 k hk j (by have := z1.1.1; omega), z1.2.1 k hk j hj]
        · rw [f41 k j hk (by have := z1.1.2; omega), z1.2.2.1 k hk j hj]
        · rw [f42 k j hk (by have := z1.1.2; omega), z1.2.2.2 k hk j hj]
        · rw [f43, (E1.2.2.2.2 42 rfl).2.2.1]
        · rw [hA43 26 (by decide) _ (by obtain ⟨⟨_, q, _⟩, _⟩ := hA.2 (as.length - 1) (by omega); have := z1.1.1; omega)]
          exact hl3 hz
        · rw [hA43 24 (by decide) _ (by omega), hA3 24 _ (by omega)]; exact c6
        · rw [hA43 25 (by decide) _ (by omega), hA3 25 _ (by omega)]; exact c7
        · omega
        · rw [hA43 26 (by decide) _ (by omega), hA3 26 _ (fun z => ?_)]
          · exact c8
          · obtain ⟨⟨_, q, _⟩, _⟩ := hA.2 (as.length - 1) (by omega)
            have := z1.1.1; omega
        · exact ⟨⟨by have := E.1.1; omega, by omega⟩, by have := hL.2.1.2; omega, by
            rcases harr4 with q | q
            · rw [q]
              rcases hL.1.2.2.2.2 with ⟨q2, _⟩ | ⟨q2, _⟩
              · rw [q2]; have := P2.2.2.2.1; have := n12; omega
              · omega
            · omega, by omega⟩
        · refine AR.mvL (L := tN σ) (fn := cfn (C.lo (tN σ))) (by show tN σ ≤ (if 1000 = 1000 then tN σ else cfn C 1000); rw [if_pos rfl]; exact Nat.le_refl _) (N := tN σ1) (Q := tQ σ1) ⟨⟨by omega, fun o ho => F14.k ho⟩, fun o ho => F14.so (by omega) ?_, fun w _ => by rw [wcs E04, wcs E01], fun k hk j hj1 hj2 => ?_, fun k hk j hj => f41 k j hk hj, fun k hk j hj => f42 k j hk hj, f43⟩ (fun _ z => z) (Nat.le_refl _) (by omega) ⟨Nat.le_refl _, P.nf12, fun k hk => ?_, ?_⟩ d1 _ 0 _ _ (Nat.le_max_right _ _) R1
          · have := hL.2.1.2
            intro z
            rcases z with z | z | z
            · omega
            · omega
            · rcases hL.1.2.2.2.2 with ⟨q2, _⟩ | ⟨q2, _⟩
              · rw [q2] at z; have := P1.2.2.2.1; omega
              · omega
          · rw [hA43 k hk j (by omega), hA3 k j (fun z => ?_), hA21 k hk j hj2]
            obtain ⟨⟨_, q, _⟩, _⟩ := hA.2 (as.length - 1) (by omega)
            omega
          · have h12 := P.nf12
            have hk : k < cnf C := hk
            exact (if_neg (show ¬ k = 1000 by omega)).symm
          · show cfn C 1000 ≤ (if 1000 = 1000 then tN σ else cfn C 1000)
            rw [if_pos rfl]; exact hLo.2
      have hns' : ∀ k, k < (as ++ [o]).length → tN σb ≤ (ns ++ [tN σ1]).getD k 0 := fun k hk => by
        have hk : k < as.length + 1 := by simpa using hk
        rcases Nat.lt_or_ge k as.length with g | g
        · rw [getD_app_l (by omega)]; exact hns k g
        · rw [show k = ns.length + 0 by omega, getD_app_r]
          have := E01.2.2.2.1.1.1
          exact this
      have hai' : (as ++ [o]).length ≤ i1 := by rw [show (as ++ [o]).length = as.length + 1 by simp]; omega
      rcases z_take P3 (x := 44) (by decide) with ⟨σ4, u1, u2, u3, P4, E4, u6⟩ | ⟨u1, u2⟩
      · rw [u1, ob_some, ifF (show ¬ (1 : Int32) = 0 from by decide), u2, ob_some, ifF (show ¬ (1 : Int32) = 0 from by decide), u3, ob_some]
        have E04 := E03.tr E4
        have fr := fS_F_next _ _ _ u3
        have hn4 : tN σ4 = tN σ3 := by unfold tN; rw [(fr 28 rfl).1]
        have hl2 := b2.2.1
        have sv4 : So M2 (msI M2 405 90 (nI (i1 + 1))) v := E4.1.so (by omega) (by omega)
        have sl4 : So M2 (msI M2 405 90 (nI (i1 + 1))) l := E4.1.so hl2.2 (by have := hl2.1; omega)
        have hva2 : v ≠ mR M2 4201 l := by
          rcases b7 with q | q
          · rw [q, harr1]; exact hva
          · rw [q]; omega
        have hal2 : mR M2 4201 l ≠ 90 := fun z => by
          have := b2.2.2.2 (by rw [z]; decide)
          omega
        rcases ih _ σ4 (i1 + 1) _ f f' (as ++ [o]) (ns ++ [tN σ1]) (by omega) (by omega) (by omega) (by omega) E04 (P4.wk (c' := c) (s' := s) (n' := n) (by omega) (by omega) (by omega)) hc hs hn ⟨hv.1, by show v < mn M2; omega⟩ (by rw [sv4.k, sv2.k, sv.k]; exact hk) (by rw [sv4.r, sv2.r, sv.r]; exact hl) hvl (by rw [sl4.r]; exact hva2) (b2.kp E4.1 (by have := hl2.1; omega) hal2) (stp _ _ E4 hn4 E04) (by omega) hns' with ⟨M5, σ5, i5, d5, as5, ns5, q1, q2, q3, q4, q5, q6, q7, q8, q9, q10⟩ | q
        · exact Or.inl ⟨M5, σ5, i5, d5, as5, ns5, q1, q2, q3, by omega, q5, ((sv.tr sv2).tr sv4).tr q6, q7, q8, q9, q10⟩
        · exact Or.inr q
      · rw [u1, ob_some, ifT (rfl : (0 : Int32) = 0), u2, ob_some, ifT (rfl : (0 : Int32) = 0)]
        exact Or.inl ⟨M2, σ3, i1, max d d1, as ++ [o], ns ++ [tN σ1], rfl, rfl, P3, hi1, E03, sv.tr sv2, b2, stp _ _ (Es.rf _ _) rfl E03, by omega, by simp⟩
    · rw [a1, obS_inr, a2, ob_some]
      have fb : FB C M σ M1 w σ1 := fb
      obtain ⟨r6, s6, e6, hb6⟩ := bw_node fb.bd 43 y 0 0
      have fb6 : FB C Mb σb M1 w s6 := (fb.br hb6).tr E
      rw [e6, ob_some]
      right
      obtain ⟨f', rfl⟩ : ∃ g, f' = g + 1 := ⟨f' - 1, by omega⟩
      have fin : ∀ (s : TS), FB C Mb σb M1 w s → ∀ (p1 p2 p3 p4 p5 : Int32), ∃ y σ', (ob (F_isSign 44 s) fun r39 s38 => if r39 = 0 then some ((p1, p2), s38) else ob (F_next s38) fun _ s42 => L_call_37 cfT (f' + 1) y3 y4 p3 p4 p5 s42) = some (y, σ') ∧ FB C Mb σb M1 w σ' := by
        intro s hs p1 p2 p3 p4 p5
        obtain ⟨y, σ', e, g⟩ := (BW.bo (bw_isSign hs.bd 44) fun r s2 hb => BW.ite (BW.sm hb) (BW.bo (bw_next hb) fun _ s3 hb3 => by
          obtain ⟨r, e⟩ := bw_Lcall (cf := cfT) hb3 f' y3 y4 p3 p4 p5
          rw [e]; exact BW.sm hb3) : BW C s (ob (F_isSign 44 s) fun r39 s38 => if r39 = 0 then some ((p1, p2), s38) else ob (F_next s38) fun _ s42 => L_call_37 cfT (f' + 1) y3 y4 p3 p4 p5 s42))
        exact ⟨y, σ', e, hs.br g⟩
      by_cases ha : as.length = 0
      · have e1 : ns = [] := List.eq_nil_of_length_eq_zero (by omega)
        subst e1
        rw [ifT (show nI (([] : List Nat).getD 0 0) = 0 from rfl), nm_eq]
        obtain ⟨y', σ', e, g⟩ := fin s6 fb6 r6 (nI as.length + 1) r6 r6 (nI as.length + 1)
        exact ⟨w, M1, y', σ', rfl, e, g⟩
      · obtain ⟨⟨d1, d2, d3, d4⟩, d5⟩ := hA.2 0 (by omega)
        obtain ⟨⟨e1, e2, e3, e4⟩, e5⟩ := hA.2 (as.length - 1) (by omega)
        have t9 := P.tN9
        have hne : ¬ nI (ns.getD 0 0) = 0 := by
          rw [show (0 : Int32) = nI 0 from rfl, bI_eq (by omega) (by decide)]
          have := d1.1; omega
        have hin : inb (nI (ns.getD (as.length - 1) 0)) 9000 := inb_nI' (by omega) (by decide)
        rw [ifF hne, ifT hin, nm_eq, nm_eq, ix_nI (by omega)]
        obtain ⟨y', σ', e, g⟩ := fin _ (fb6.s26 (hns _ (by omega)) (p := ns.getD (as.length - 1) 0) (u := r6)) (nI (ns.getD 0 0)) (nI as.length + 1) (nI (ns.getD 0 0)) r6 (nI as.length + 1)
        exact ⟨w, M1, y', σ', rfl, e, g⟩
theorem Es.lst {k u : Nat} (h167 : 167 ≤ mn M) : Es M σ (msR (mnew M 22 0 3) 4201 (mn M) u) σ := Es.al (Fz.rf.mnew.msR (fun z => by omega)) h167
/-- the Ast of a call and its list -/
def clM (M : CM) (fo : Nat) : CM := msR (msR (msI (mnew (msR (msI (mnew M 8 0 8) 1400 (mn M) 108) 1407 (mn M) fo) 22 0 3) 4200 (mn M + 1) 0) 4201 (mn M + 1) 4398046511104) 1406 (mn M) (mn M + 1)
theorem clM_ok (M : CM) (fo : Nat) (h6 : mn M ≤ 601024) : Fz none_ M (clM M fo) ∧ mn (clM M fo) = mn M + 2 ∧ ms (clM M fo) = ms M + 11 ∧ mk (clM M fo) (mn M) = 8 ∧ mI (clM M fo) 1400 (mn M) = 108 ∧ mR (clM M fo) 1407 (mn M) = fo ∧ mR (clM M fo) 1406 (mn M) = mn M + 1 ∧ LsB M (clM M fo) (mn M + 1) [] ∧ mR (clM M fo) 4201 (mn M + 1) = 4398046511104 := by
  have h42 : mR (clM M fo) 4201 (mn M + 1) = 4398046511104 := by unfold clM; rw [mR_msR, ifF (by omega), mR_msR, ifT ⟨rfl, rfl⟩]
  have k : ∀ o, mk (clM M fo) o = mk (mnew (mnew M 8 0 8) 22 0 3) o := fun _ => rfl
  have n1 : mn (msR (msI (mnew M 8 0 8) 1400 (mn M) 108) 1407 (mn M) fo) = mn M + 1 := rfl
  have n2 : mn (mnew M 8 0 8) = mn M + 1 := rfl
  refine ⟨(((((Fz.rf (X := none_)).mnew).msI (fun z => by omega)).msR (fun z => by omega)).mnew.msI (fun z => by omega)).msR (fun z => by omega) |>.msR (fun z => by omega), rfl, rfl, ?_, ?_, ?_, ?_, ⟨⟨?_, ?_, by decide, fun i hi => absurd hi (Nat.not_lt_zero _), Or.inl ⟨h42, rfl⟩⟩, ⟨by omega, ?_⟩, by rw [h42]; omega, fun z => absurd h42 z⟩, h42⟩
  · rw [k, mk_mnew, ifF (by omega), mk_mnew, ifT rfl]
  · show mI (msI (mnew (msR (msI (mnew M 8 0 8) 1400 (mn M) 108) 1407 (mn M) fo) 22 0 3) 4200 (mn M + 1) 0) 1400 (mn M) = 108
    rw [mI_msI, ifF (by omega), mI_mnew, ifF (by omega)]
    show mI (msI (mnew M 8 0 8) 1400 (mn M) 108) 1400 (mn M) = 108
    rw [mI_msI, ifT ⟨rfl, rfl⟩]
  · unfold clM
    rw [mR_msR, ifF (by omega), mR_msR, ifF (by omega)]
    show mR (mnew (msR (msI (mnew M 8 0 8) 1400 (mn M) 108) 1407 (mn M) fo) 22 0 3) 1407 (mn M) = fo
    rw [mR_mnew, ifF (by omega), mR_msR, ifT ⟨rfl, rfl⟩]
  · unfold clM; rw [mR_msR, ifT ⟨rfl, rfl⟩]
  · rw [k, mk_mnew, ifT (by omega)]
  · show mI (msI (mnew (msR (msI (mnew M 8 0 8) 1400 (mn M) 108) 1407 (mn M) fo) 22 0 3) 4200 (mn M + 1) 0) 4202 (mn M + 1) = nI 0
    rw [mI_msI, ifF (by omega), mI_mnew, ifT (by omega)]; rfl
  · show mn M + 1 < mn M + 2; omega
theorem cl_al {α : Type} (M : CM) (fo : Nat) (k : Nat → CM → Option α) (hc : mn M + 2 ≤ 601024 ∧ ms M + 16 ≤ 7293034) (h0 : 167 ≤ mn M) : (if mn M ≤ 601024 ∧ ms M + 8 ≤ 7293034 then nm (mn M) fun v72 => nm (mnew M 8 0 8) fun M73 => if ¬ v72 = 0 then ob (K_X8_init v72 108 M73) fun _ M75 => if mk M75 v72 = 8 then nm (msR M75 1407 v72 fo) fun M80 => if mn M80 ≤ 601024 ∧ ms M80 + 3 ≤ 7293034 then nm (mn M80) fun v82 => nm (mnew M80 22 0 3) fun M83 => if ¬ v82 = 0 then ob (K_J2_init v82 M83) fun _ M85 => if mk M85 v72 = 8 then nm (msR M85 1406 v72 v82) fun M90 => k v72 M90 else none else none else none else none else none else none) = k (mn M) (clM M fo) := by
  have n1 : mn (msR (msI (mnew M 8 0 8) 1400 (mn M) 108) 1407 (mn M) fo) = mn M + 1 := rfl
  have s1 : ms (msR (msI (mnew M 8 0 8) 1400 (mn M) 108) 1407 (mn M) fo) = ms M + 8 := rfl
  have k1 : mk (msI (mnew M 8 0 8) 1400 (mn M) 108) (mn M) = 8 := by show mk (mnew M 8 0 8) (mn M) = 8; rw [mk_mnew, ifT rfl]
  have kl : mk (mnew (msR (msI (mnew M 8 0 8) 1400 (mn M) 108) 1407 (mn M) fo) 22 0 3) (mn (msR (msI (mnew M 8 0 8) 1400 (mn M) 108) 1407 (mn M) fo)) = 22 := by rw [mk_mnew, ifT rfl]
  have si : mI (mnew (msR (msI (mnew M 8 0 8) 1400 (mn M) 108) 1407 (mn M) fo) 22 0 3) 4202 (mn (msR (msI (mnew M 8 0 8) 1400 (mn M) 108) 1407 (mn M) fo)) = 0 := by rw [mI_mnew, ifT rfl]
  obtain ⟨l1, l2⟩ := ls_init kl (by omega) si
  have k2 : mk (msR (msI (mnew (msR (msI (mnew M 8 0 8) 1400 (mn M) 108) 1407 (mn M) fo) 22 0 3) 4200 (mn (msR (msI (mnew M 8 0 8) 1400 (mn M) 108) 1407 (mn M) fo)) 0) 4201 (mn (msR (msI (mnew M 8 0 8) 1400 (mn M) 108) 1407 (mn M) fo)) 4398046511104) (mn M) = 8 := by
    show mk (mnew (mnew M 8 0 8) 22 0 3) (mn M) = 8
    have n2 : mn (mnew M 8 0 8) = mn M + 1 := rfl
    rw [mk_mnew, ifF (by omega), mk_mnew, ifT rfl]
  rw [ifT ⟨by omega, by omega⟩, nm_eq, nm_eq, ifT (by omega), k_ast ⟨by omega, by omega⟩ (by omega) 108, ob_some, ifT k1, nm_eq, ifT ⟨by omega, by omega⟩, nm_eq, nm_eq, ifT (by omega), l1, ob_some, ifT k2, nm_eq]
  rfl
/-- a fault where the component stands at one state, the twin at one further on -/
theorem Pe.fbx {i' : Nat} {c' s' n' : Nat} {M1 : CM} {σ1 : TS} (P : Pe C M σ i dep c s n) (P1 : Pe C M1 σ1 i' dep c' s' n') (E1 : Es M σ M1 σ1) (h1 : 1 ≤ c) (h2 : 8 ≤ s) {r q : Int32} (hr : r ≠ 0) : FB C M σ (wM M r q) (mn M) (tsI (tsI σ1 0 r) 1 q) := by
  have P0 := P
  obtain ⟨a1, a2, a3, ⟨a4, a5, a6, a7⟩, -⟩ := P
  obtain ⟨w1, w2⟩ := wM_n M r q
  have fr : Ft [0, 1] σ1 (tsI (tsI σ1 0 r) 1 q) := ((Ft.rf _ σ1).p_tsI rfl).p_tsI rfl
  obtain ⟨e1, e2, e3, e4⟩ := Es.al (σ := σ) (wM_f M r q) P0.n167
  exact ⟨flt_w hr, ⟨e1, e2, e3, E1.2.2.2.1.tr (Tz.ft fr (by decide)), E1.2.2.2.2.tr (fr.mono (by decide))⟩, ⟨by omega, by omega⟩, P1.bd0 hr⟩
def kCall (cfK : CM → Option ((Nat ⊕ Nat) × CM)) (x1 v2 : Int32) (M : CM) : Option ((Nat ⊕ Nat) × CM) :=
  ob (K_X2_functionOf v2 M) fun r62 M61 => if r62 = 0 then ob (K_X0_wrong 5 x1 M61) fun r136 M135 => if mk M135 r136 = 7 then some (.inr r136, M135) else none else nm (msI M61 405 90 ((mI M61 405 90) + 1)) fun M65 => obS (K_X2_opens M65) (fun w70 M66 => some (.inr w70, M66)) fun _ M66 => if mn M66 ≤ 601024 ∧ ms M66 + 8 ≤ 7293034 then nm (mn M66) fun v72 => nm (mnew M66 8 0 8) fun M73 => if ¬ v72 = 0 then ob (K_X8_init v72 108 M73) fun _ M75 => if mk M75 v72 = 8 then nm (msR M75 1407 v72 r62) fun M80 => if mn M80 ≤ 601024 ∧ ms M80 + 3 ≤ 7293034 then nm (mn M80) fun v82 => nm (mnew M80 22 0 3) fun M83 => if ¬ v82 = 0 then ob (K_J2_init v82 M83) fun _ M85 => if mk M85 v72 = 8 then nm (msR M85 1406 v72 v82) fun M90 => obS (KL_X2_named_85 cfK FU x1 r62 v72 M90) (fun r134 M108 => some (r134, M108)) fun _ M108 => obS (K_X2_closes M108) (fun w114 M110 => some (.inr w114, M110)) fun _ M110 => if mk M110 v72 = 8 then if mk M110 (mR M110 1406 v72) = 22 then ob (K_J2_size (mR M110 1406 v72) M110) fun r118 M117 => if mk M117 r62 = 6 then if mk M117 (mR M117 1001 r62) = 22 then ob (K_J2_size (mR M117 1001 r62) M117) fun r124 M123 => if r118 = r124 then some (.inl v72, M123) else ob (K_X0_wrong 6 x1 M123) fun r128 M127 => if mk M127 r128 = 7 then some (.inr r128, M127) else none else none else none else none else none else none else none else none else none else none else none
theorem call_ok {cfK : CM → Option ((Nat ⊕ Nat) × CM)} {cfT : TS → Option (Int32 × TS)} {w : Nat} {σ1 : TS}
    (hexpr : ∀ (L : Nat) (M : CM) (σ : TS) (i' c s n : Nat), i < i' → 64 ≤ c → 4096 ≤ s → 16 ≤ n → Pe (C.lo L) M σ i' (dep + 1) c s n → Ok (C.lo L) M σ i' (dep + 1) c s n 0 (cfK M) (cfT σ)) (hbE : ∀ σ1 s, Br C σ1 s → BW C σ1 (cfT s))
    (P : Pe C M σ i dep c s n) (hc : 64 ≤ c) (hs : 4096 ≤ s) (hn : 16 ≤ n) (hw : w < 38 + cm C) (n1 : F_next σ = some ((), σ1)) (P1 : Pe C (msI M 405 90 (nI (i + 1))) σ1 (i + 1) dep (c + 16) (s + 2048) (n + 4)) (E1 : Es M σ (msI M 405 90 (nI (i + 1))) σ1) (h11 : tI σ1 11 = 3) (h14 : tI σ1 14 = 40) (x1 : Int32) : Ok C M σ i dep c s n 0 (kCall cfK x1 (nI w) M) (B_call cfT (wc M w) x1 σ1) := by
  have h167 := P.n167
  have fr1 := fS_F_next _ _ _ n1
  unfold kCall B_call
  rcases z_functionOf P hw with ⟨k, hk, h12, f1, f2, f3, f4⟩ | ⟨f1, f2⟩
  · have f2' : F_function (wc M w) σ1 = some (nI k, σ1) := t_function_kp f2 (fr1 48 rfl).1 (fun j => (fr1 40 rfl).2.2.2 j)
    have h0k : (0 : Int32) ≤ nI k := by rw [show (0 : Int32) = nI 0 from rfl, bI_le (by decide) (by omega)]; exact Nat.zero_le _
    rw [f1, ob_some, ifF f3, f2', ob_some, ifT h0k, nm_eq, P.i5, nI_addL]
    rcases z_opens2 P1 (by omega) (by omega) h11 h14 with ⟨M2, t1, σ2, o1, o2, o3, P2, E2, hd, hm⟩ | ⟨w', M2, σ2, o1, o2, fb⟩
    · have cap := P2.2.2.2.1
      rw [o1, obS_inl, o2, ob_some, o3, ob_some]
      rw [cl_al M2 (cfn C k) (fun v72 M90 => obS (KL_X2_named_85 cfK FU x1 (cfn C k) v72 M90) (fun r134 M108 => some (r134, M108)) fun _ M108 => obS (K_X2_closes M108) (fun w114 M110 => some (.inr w114, M110)) fun _ M110 => if mk M110 v72 = 8 then if mk M110 (mR M110 1406 v72) = 22 then ob (K_J2_size (mR M110 1406 v72) M110) fun r118 M117 => if mk M117 (cfn C k) = 6 then if mk M117 (mR M117 1001 (cfn C k)) = 22 then ob (K_J2_size (mR M117 1001 (cfn C k)) M117) fun r124 M123 => if r118 = r124 then some (.inl v72, M123) else ob (K_X0_wrong 6 x1 M123) fun r128 M127 => if mk M127 r128 = 7 then some (.inr r128, M127) else none else none else none else none else none) ⟨by omega, by omega⟩ P2.n167]
      obtain ⟨j1, j2, j3, j4, j5, j6, j7, j8, j9⟩ := clM_ok M2 (cfn C k) (by omega)
      have P3 := P2.al j1 (c' := c + 16 + 16 - 2) (s' := s + 2048 + 2048 - 11) (by omega) (by omega)
      have E3 : Es M2 σ2 (clM M2 (cfn C k)) σ2 := Es.al j1 P2.n167
      have E03 := (E1.tr E2).tr E3
      have hn2 : mn M2 = mn M := by rw [hm]; rfl
      rcases args_loop (x1 := x1) (x3 := cfn C k) (y3 := x1) (y4 := nI k) (v := mn M2) (l := mn M2 + 1) P2 (fun L M σ i' c s n h1 h2 h3 h4 h5 => hexpr L M σ i' c s n (by omega) h2 h3 h4 h5) 2001 _ σ2 (i + 1 + 1) 0 FU FU [] [] (by have := P.it; omega) (by have := FUb; omega) (by have := FUb; omega) (Nat.le_refl _) E3 P3 (by omega) (by omega) (by omega) ⟨Nat.le_refl _, by omega⟩ j4 j7 (by omega) (by rw [j9]; omega) j8 ⟨rfl, fun k hk => absurd hk (Nat.not_lt_zero _)⟩ (Nat.zero_le _) (fun k hk => absurd hk (Nat.not_lt_zero _)) with ⟨M5, σ5, i5, d5, as5, ns5, q1, q2, P5, q4, E5, sv, hL5, hA5, hl5, hne5⟩ | ⟨w', M5, y, σ5, q1, q2, fb⟩
      · have q2 : L_call_37 cfT FU x1 (nI k) 0 0 0 σ2 = some ((nI (ns5.getD 0 0), nI as5.length), σ5) := q2
        rw [q1, obS_inl, q2, ob_some]
        show Ok C M σ i dep c s n 0 _ (J_call_105 cfT x1 (nI k) (nI (ns5.getD 0 0)) (nI as5.length) σ5)
        unfold J_call_105
        have E05 := (E1.tr E2).tr E5
        have n25 := E5.1.1
        refine Ok.of (Rj.cl E05 P5 (by omega) (by omega) (fun M6 σ6 P6 E06 E56 hm6 => ?_) ?_)
        · have n56 := E56.1.1
          obtain ⟨fs, nfs, a1, a2, a3, a4, a5, a6⟩ := P6.en.2.2.2.1
          obtain ⟨-, ⟨c1, c1', c1''⟩, -, bs, c2, c3, c4, c5, c6⟩ := a6 k hk
          have sv6 : So M5 M6 (mn M2) := E56.1.so (by have := hL5.2.1.2; omega) (by have := P2.n167; omega)
          have hl5' := hL5.2.1
          have hal5 : mR M5 4201 (mn M2 + 1) ≠ 90 := fun z => by
            have := hL5.2.2.2 (by rw [z]; decide)
            have := P2.n167
            omega
          have hL6 := hL5.kp E56.1 (by have := P2.n167; omega) hal5
          have hk6 : mk M6 (mn M2) = 8 := by rw [sv6.k, sv.k]; exact j4
          have hr6 : mR M6 1406 (mn M2) = mn M2 + 1 := by rw [sv6.r, sv.r]; exact j7
          rw [ifT hk6, hr6, ifT hL6.1.1, ls_size hL6.1, ob_some, ifT c1, ifT c2.1, ls_size c2, ob_some, t_isBad0 P6.g0, ob_some, ifT (rfl : (0 : Int32) = 0), ifT (show inb (nI k) 12 from inb_nI' (by omega) (by decide)), ix_nI (by omega), c4]
          by_cases e : nI as5.length = nI bs.length
          · rw [ifT e, ifT e]
            obtain ⟨σ7, n1, n2, n3, n4, n5, ⟨n6, n7, n8, n9⟩, P7, E7⟩ := y_node (n := n) (P6.wk (c' := c) (s' := s) (n' := n + 1) (by omega) (by omega) (by omega)) 40 (nI k) (nI (ns5.getD 0 0)) 0
            rw [n1, ob_some]
            have E57 := E56.tr E7
            have z57 := E57.2.2.2.1
            have hag := hA5.fin (P := fun x => mn M ≤ x ∧ x < mn M5) P5.tN9.1 (Nat.le_refl _) P.nf12 (fun o h1 h2 => ⟨by omega, h2⟩)
            have hns : ns5.getD 0 0 < 9000 := by
              rcases as5 with _ | ⟨a, as5⟩
              · exact absurd rfl hne5
              · obtain ⟨⟨_, q, _⟩, _⟩ := hA5.2 0 (by simp)
                have := P5.tN9.1
                omega
            refine Or.inl ⟨mn M2, M6, _, σ7, rfl, rfl, tN σ6, _, rfl, P7, by omega, E06.tr E7, d5 + 1, ⟨⟨by omega, by omega⟩, hk6, n5, by omega⟩, Or.inr (Or.inr (Or.inr (Or.inr (Or.inr (Or.inr (Or.inl ⟨rfl, by rw [sv6.i, sv.i]; exact j5, n6, k, as5, ns5.getD 0 0, by rw [sv6.r, sv.r]; exact j6, hk, h12, n7, ?_, ?_, n8, hns, ?_⟩))))))⟩
            · rw [hr6]
              refine ⟨hL6.1, ⟨by omega, by have := hL6.2.1.2; omega⟩, fun z => ?_⟩
              have := hL6.2.2.2 z
              rcases hL6.1.2.2.2.2 with ⟨q, _⟩ | ⟨q, _⟩
              · exact absurd q z
              · exact ⟨by omega, q.1⟩
            · rw [(E7.2.2.2.2 42 rfl).2.2.1, c4, e]
            · exact AgR.mv (L1 := 0) (fun k' hk' j _ hj => z57.2.1 k' hk' j hj) (fun o e h => AR.mv (P5.mv E57 (fun o z => ⟨z.2, by have := z.1; omega⟩)) (fun o z => ⟨z.1, by have := z.2; omega⟩) z57.1.1 z57.1.2 ⟨Nat.le_refl _, P.nf12, fun _ _ => rfl⟩ d5 d5 0 o e (Nat.le_refl _) h) z57.1.1 (Nat.zero_le _) (Nat.le_refl _) _ _ hag
          · have cap6 := P6.cap (k := 8) (by omega)
            rw [ifF e, ifF e, k_wrong cap6 (by have := P6.n167; omega), ob_some, ifT (wM_k _ _ _), t_bad P6.g0, ob_some]
            have fb := (P6.fb (by omega) (by omega) (r := 6) (q := x1) (by decide)).tr E06
            exact Or.inr (FB.ko fb (BW.bo (bw_node fb.bd _ _ _ _) fun r s hs => BW.sm hs))
        · intro σ6 _ s6 hb
          exact BW.isBad hb (BW.bo (bw_node hb _ _ _ _) fun r s hs => BW.sm hs)
      · have q2 : L_call_37 cfT FU x1 (nI k) 0 0 0 σ2 = some (y, σ5) := q2
        rw [q1, obS_inr, q2, ob_some]
        unfold J_call_105
        have fb := fb.tr (E1.tr E2)
        exact Or.inr (FB.ko fb (BW.bo (bw_pass fb.bd _) fun _ s hb => BW.nm20 hb fun s hb => BW.isBad hb (BW.bo (bw_node hb _ _ _ _) fun r s hs => BW.sm hs)))
    · rw [o1, obS_inr, o2, ob_some]
      have fb := fb.tr E1
      refine Or.inr (FB.ko fb (BW.bo (bw_next fb.bd) fun _ s hb => ?_))
      obtain ⟨r, e⟩ := bw_Lcall (cf := cfT) hb (FU - 1) x1 (nI k) 0 0 0
      have e : L_call_37 cfT FU x1 (nI k) 0 0 0 s = some (r, s) := e
      rw [e, ob_some]
      unfold J_call_105
      exact BW.bo (bw_pass hb _) fun _ s hb => BW.nm20 hb fun s hb => BW.isBad hb (BW.bo (bw_node hb _ _ _ _) fun r s hs => BW.sm hs)
  · have f2' : F_function (wc M w) σ1 = some (-1, σ1) := t_function_kp f2 (fr1 48 rfl).1 (fun j => (fr1 40 rfl).2.2.2 j)
    have cap := P.cap (k := 8) (by omega)
    rw [f1, ob_some, ifT rfl, k_wrong cap (by omega), ob_some, ifT (wM_k _ _ _), f2', ob_some, ifF (by decide), t_bad P1.g0, ob_some]
    exact Or.inr (FB.ko0 (P.fbx P1 E1 (by omega) (by omega) (r := 5) (q := x1) (by decide)))
end CALL
