/-! Layer B: elements: the last steps -/
set_option maxRecDepth 100000
/-- elements' rows, as they are but at e -/
def Eo (e : Nat) (σ σ' : TS) : Prop := (∀ f, f = 52 ∨ f = 53 ∨ f = 54 ∨ f = 55 ∨ f = 56 ∨ f = 57 → ∀ j, j ≠ e → tA σ' f j = tA σ f j) ∧ ∀ f, f = 50 ∨ f = 51 → ∀ j, j ≠ e → tB σ' f j = tB σ f j
/-- an element is being read, since M0 -/
def EP (e : Nat) (M0 : CM) (σ0 : TS) (M : CM) (σ : TS) : Prop := Es M0 σ0 M σ ∧ Mz σ0 σ ∧ Eo e σ0 σ ∧ (tI σ 58 = tI σ0 58 ∧ ∀ f, f = 42 ∨ f = 44 ∨ f = 45 ∨ f = 46 ∨ f = 47 → ∀ j, tA σ f j = tA σ0 f j) ∧ mn M0 + 3 ≤ mn M ∧ mk M (mn M0) = 11 ∧ mR M 2005 (mn M0) = mn M0 + 1 ∧ mR M 2006 (mn M0) = mn M0 + 2
/-- what is known of it but its name -/
def EF (C : PC) (M0 M : CM) (σ : TS) (e fl sz : Nat) (os : List Nat) (k0 : Nat) : Prop := (mI M 2000 (mn M0) = 0 ∧ tA σ 57 e = 0 ∧ (tB σ 51 e = 0 ∨ tA σ 54 e = 0)) ∧ (fl < 64 ∧ mI M 2001 (mn M0) = nI (32 * fl) ∧ tA σ 52 e = nI fl) ∧ ((mI M 2002 (mn M0) = 12 ∧ tB σ 51 e = 0) ∨ ∃ w, mI M 2002 (mn M0) = nI w ∧ 38 ≤ w ∧ w < 38 + cm C ∧ tB σ 51 e = wc M w) ∧ UnR M σ (mn M0 + 1) e ∧ (mI M 2004 (mn M0) = nI sz ∧ tA σ 53 e = nI sz ∧ sz ≤ 9) ∧ (LsB M0 M (mn M0 + 2) os ∧ MdsR C M0 (mn M0 + 2) (mn M0) M σ k0 os ∧ tA σ 55 e = (if os.length = 0 then 0 else nI k0) ∧ 1 ≤ k0 ∧ k0 + os.length ≤ tM σ ∧ 3 * os.length ≤ 1280)
/-- its value, if there is one -/
def VaR (C : PC) (M0 M : CM) (σ : TS) (e : Nat) (x5 : Int32) : Prop := (mR M 2007 (mn M0) = 0 ∧ tA σ 56 e = 0 ∧ x5 = 0) ∨ (x5 = 1 ∧ mR M 2007 (mn M0) ≠ 0 ∧ ∃ x d, tA σ 56 e = nI x ∧ 1 ≤ x ∧ x < 9000 ∧ AR (fun o => mn M0 ≤ o ∧ o < mn M) (tN σ) (tQ σ) (cm C) (car C) (cnf C) (cfn C) M σ d 0 (mR M 2007 (mn M0)) x)
/-- the class that is read, with its elements -/
def ClX (C : PC) (Mb M : CM) (σ : TS) (cur ce c E0 : Nat) (es : List Nat) : Prop := (mR M 411 90 = cur ∧ (mn Mb ≤ cur ∧ cur < mn M) ∧ mk M cur = 10 ∧ mR M 1802 cur = ce ∧ cur ≠ ce) ∧ ((mI M 1801 cur = 0 ∧ tA σ 44 c = 0) ∨ (mI M 1801 cur = 1 ∧ tA σ 44 c = 1)) ∧ LsB Mb M ce es ∧ (c < 24 ∧ tA σ 45 c = nI E0 ∧ tA σ 46 c = nI es.length ∧ tI σ 58 = nI (E0 + es.length) ∧ es.length ≤ 20 ∧ E0 ≤ 20 * c ∧ ce + 1 < mn M) ∧ ∀ j, j < es.length → ∃ P, (∀ o, P o → (mn Mb ≤ o ∧ o < mn M) ∧ o ≠ ce ∧ o ≠ mR M 4201 ce ∧ o ≠ cur ∧ o ≠ ce + 1) ∧ ElR C P M σ (es.getD j 0) (E0 + j)
section EL5
variable {C : PC} {M M' M0 Mb : CM} {σ σ' σ0 σb s1 : TS} {i dep c s n so ib depb cb' sb' nb' i0 v l p w m Q Q' N k k0 el le e K fl sz cc E0 cur ce : Nat} {bs qs bs' os es : List Nat} {P P' X : Nat → Prop} {α β : Type}
theorem Eo.rf : Eo e σ σ := ⟨fun _ _ _ _ => rfl, fun _ _ _ _ => rfl⟩
theorem Eo.tr {σ1 σ2 σ3 : TS} (h : Eo e σ1 σ2) (g : Eo e σ2 σ3) : Eo e σ1 σ3 := ⟨fun f hf j hj => (g.1 f hf j hj).trans (h.1 f hf j hj), fun f hf j hj => (g.2 f hf j hj).trans (h.2 f hf j hj)⟩
theorem Eo.ft {S : List Nat} (f : Ft S σ σ') (h : [50, 51, 52, 53, 54, 55, 56, 57].all (fun k => !S.contains k) = true) : Eo e σ σ' := by
  have hf : ∀ k, k ∈ [50, 51, 52, 53, 54, 55, 56, 57] → S.contains k = false := fun k hk => by
    have := List.all_eq_true.mp h k hk
    simpa using this
  exact ⟨fun g hg j _ => (f g (hf g (by rcases hg with rfl | rfl | rfl | rfl | rfl | rfl <;> decide))).2.2.1 j, fun g hg j _ => (f g (hf g (by rcases hg with rfl | rfl <;> decide))).2.2.2 j⟩
theorem Eo.sA {f : Nat} {u : Int32} : Eo e σ (tsA σ f e u) := ⟨fun _ _ j hj => by rw [tA_tsA, ifF (by omega)], fun _ _ _ _ => rfl⟩
theorem Eo.sB {f : Nat} {u : Int64} : Eo e σ (tsB σ f e u) := ⟨fun _ _ _ _ => rfl, fun _ _ j hj => by rw [tB_tsB, ifF (by omega)]⟩
theorem EP.st {S : List Nat} (h : EP e M0 σ0 M σ) (E : Es M σ M' σ') (h90 : 90 < mn M0) (f : Ft S σ σ') (hS : [42, 44, 45, 46, 47, 50, 51, 52, 53, 54, 55, 56, 57, 58, 59, 60, 61, 62, 63, 64, 65].all (fun k => !S.contains k) = true) : EP e M0 σ0 M' σ' := by
  have hf : ∀ k, k ∈ [42, 44, 45, 46, 47, 50, 51, 52, 53, 54, 55, 56, 57, 58, 59, 60, 61, 62, 63, 64, 65] → S.contains k = false := fun k hk => by
    have := List.all_eq_true.mp hS k hk
    simpa using this
  obtain ⟨a1, a2, a3, ⟨a4, a5⟩, a6, a7, a8, a9⟩ := h
  have sv : So M M' (mn M0) := E.1.so (by omega) (by omega)
  have sub : ∀ L : List Nat, (∀ k, k ∈ L → k ∈ [42, 44, 45, 46, 47, 50, 51, 52, 53, 54, 55, 56, 57, 58, 59, 60, 61, 62, 63, 64, 65]) → L.all (fun k => !S.contains k) = true := fun L hL => by
    rw [List.all_eq_true]; intro k hk; rw [hf k (hL k hk)]; rfl
  refine ⟨a1.tr E, a2.tr (Mz.ft f (sub _ (by decide))), a3.tr (Eo.ft f (sub _ (by decide))), ⟨by rw [(f 58 (hf 58 (by decide))).1]; exact a4, fun g hg j => by rw [(f g (hf g (by rcases hg with rfl | rfl | rfl | rfl | rfl <;> decide))).2.2.1]; exact a5 g hg j⟩, by have := E.1.1; omega, by rw [sv.k]; exact a7, by rw [sv.r]; exact a8, by rw [sv.r]; exact a9⟩
theorem EF.st {S : List Nat} (h : EF C M0 M σ e fl sz os k0) (hnf : cnf C ≤ 12) (hm : mn M0 + 3 ≤ mn M) (h90 : 90 < mn M0) (k90 : mk M 90 ≠ 23) (E : Es M σ M' σ') (hw : ∀ w, wc M' w = wc M w) (f : Ft S σ σ') (hS : [42, 44, 45, 46, 47, 50, 51, 52, 53, 54, 55, 56, 57, 58, 59, 60, 61, 62, 63, 64, 65].all (fun k => !S.contains k) = true) : EF C M0 M' σ' e fl sz os k0 := by
  have hf : ∀ k, k ∈ [42, 44, 45, 46, 47, 50, 51, 52, 53, 54, 55, 56, 57, 58, 59, 60, 61, 62, 63, 64, 65] → S.contains k = false := fun k hk => by
    have := List.all_eq_true.mp hS k hk
    simpa using this
  obtain ⟨⟨a1, a2, ax⟩, ⟨a3, a4, a5⟩, a6, ⟨a7, a8, vv, a9, a10⟩, ⟨a11, a12, a13⟩, a14, a15, a16, a17⟩ := h
  have sv : So M M' (mn M0) := E.1.so (by omega) (by omega)
  have su : So M M' (mn M0 + 1) := E.1.so (by omega) (by omega)
  have sl : So M M' (mn M0 + 2) := E.1.so (by omega) (by omega)
  have hal : mR M 4201 (mn M0 + 2) ≠ 90 := fun z => by
    have := a14.2.2.2 (by rw [z]; decide)
    omega
  have tm : tM σ' = tM σ := by unfold tM; rw [(f 65 (hf 65 (by decide))).1]
  refine ⟨⟨by rw [sv.i]; exact a1, by rw [(f 57 (hf 57 (by decide))).2.2.1]; exact a2, by rw [(f 51 (hf 51 (by decide))).2.2.2, (f 54 (hf 54 (by decide))).2.2.1]; exact ax⟩, ⟨a3, by rw [sv.i]; exact a4, by rw [(f 52 (hf 52 (by decide))).2.2.1]; exact a5⟩, ?_, ⟨by rw [su.k]; exact a7, by rw [su.l]; exact a8, vv, fun k hk => by rw [su.a]; exact a9 k hk, by rw [(f 54 (hf 54 (by decide))).2.2.1]; exact a10⟩, ⟨by rw [sv.i]; exact a11, by rw [(f 53 (hf 53 (by decide))).2.2.1]; exact a12, a13⟩, a14.kp E.1 (by omega) hal, fun j hj => ?_, by rw [(f 55 (hf 55 (by decide))).2.2.1]; exact a16, by rw [tm]; exact a17⟩
  · rw [(f 51 (hf 51 (by decide))).2.2.2, sv.i]
    rcases a6 with q | ⟨w, q1, q2, q3, q4⟩
    · exact Or.inl q
    · exact Or.inr ⟨w, q1, q2, q3, by rw [hw]; exact q4⟩
  · obtain ⟨⟨P', b1, b2⟩, b3⟩ := a15 j hj
    refine ⟨⟨P', fun o ho => by rw [sl.r]; have := E.1.1; exact ⟨⟨(b1 o ho).1.1, by have := (b1 o ho).1.2; omega⟩, (b1 o ho).2⟩, b2.mv hnf E.1 (fun o z => ⟨fun hp => ?_, by rw [z]; exact k90⟩) (fun o ho => (b1 o ho).1.2) (fun _ z => z) hw E.2.2.2.1 (fun j => (f 42 (hf 42 (by decide))).2.2.1 j) (fun g hg => (f g (hf g (by rcases hg with rfl | rfl | rfl <;> decide))).2.2.1 _) (fun g hg => (f g (hf g (by rcases hg with rfl | rfl <;> decide))).2.2.2 _)⟩, by rw [(f 61 (hf 61 (by decide))).2.2.1]; exact b3⟩
    have := (b1 o hp).1.1; omega
theorem EP.wr (h : EP e M0 σ0 M σ) (E' : Es M0 σ0 M' σ') (mz : Mz σ σ') (eo : Eo e σ σ') (f58 : tI σ' 58 = tI σ 58 ∧ ∀ f, f = 42 ∨ f = 44 ∨ f = 45 ∨ f = 46 ∨ f = 47 → ∀ j, tA σ' f j = tA σ f j) (hn : mn M ≤ mn M') (hk : mk M' (mn M0) = mk M (mn M0)) (hr : mR M' 2005 (mn M0) = mR M 2005 (mn M0) ∧ mR M' 2006 (mn M0) = mR M 2006 (mn M0)) : EP e M0 σ0 M' σ' := by
  obtain ⟨a1, a2, a3, ⟨a4, a5⟩, a6, a7, a8, a9⟩ := h
  exact ⟨E', a2.tr mz, a3.tr eo, ⟨f58.1.trans a4, fun f hf j => (f58.2 f hf j).trans (a5 f hf j)⟩, by omega, hk.trans a7, hr.1.trans a8, hr.2.trans a9⟩
theorem EF.wr (h : EF C M0 M σ e fl sz os k0) (hnf : cnf C ≤ 12) (hm : mn M0 + 3 ≤ mn M ∧ mn M ≤ 601024) (h90 : 90 < mn M0) (hk11 : mk M (mn M0) = 11) (F : Fz (fun o => o = 90 ∨ o = mn M0) M M') (k90 : mk M 90 ≠ 23) {sz' : Nat} (hi : ∀ g, g = 2000 ∨ g = 2001 ∨ g = 2002 → mI M' g (mn M0) = mI M g (mn M0)) (hsz : mI M' 2004 (mn M0) = nI sz' ∧ tA σ' 53 e = nI sz' ∧ sz' ≤ 9) (hw : ∀ w, wc M' w = wc M w) (hz : Tz σ σ') (hm2 : Mz σ σ') (h42 : ∀ j, tA σ' 42 j = tA σ 42 j) (ha : ∀ f, f = 52 ∨ f = 54 ∨ f = 55 ∨ f = 57 → tA σ' f e = tA σ f e) (hb : tB σ' 51 e = tB σ 51 e) : EF C M0 M' σ' e fl sz' os k0 := by
  obtain ⟨⟨a1, a2, ax⟩, ⟨a3, a4, a5⟩, a6, ⟨a7, a8, vv, a9, a10⟩, ⟨a11, a12, a13⟩, a14, a15, a16, a17, a18⟩ := h
  have su : So M M' (mn M0 + 1) := F.so (by omega) (by omega)
  have sl : So M M' (mn M0 + 2) := F.so (by omega) (by omega)
  have hX : ∀ o, o = 90 ∨ o = mn M0 → mk M o ≠ 23 := fun o z => by
    rcases z with rfl | rfl
    · exact k90
    · rw [hk11]; decide
  refine ⟨⟨by rw [hi 2000 (by decide)]; exact a1, by rw [ha 57 (by decide)]; exact a2, by rw [hb, ha 54 (by decide)]; exact ax⟩, ⟨a3, by rw [hi 2001 (by decide)]; exact a4, by rw [ha 52 (by decide)]; exact a5⟩, ?_, ⟨by rw [su.k]; exact a7, by rw [su.l]; exact a8, vv, fun k hk => by rw [su.a]; exact a9 k hk, by rw [ha 54 (by decide)]; exact a10⟩, hsz, a14.kp F (by omega) (fun z => ?_), fun j hj => ?_, by rw [ha 55 (by decide)]; exact a16, a17, by have := hm2.1; omega, a18.2⟩
  · rw [hb, hi 2002 (by decide)]
    rcases a6 with q | ⟨w, q1, q2, q3, q4⟩
    · exact Or.inl q
    · exact Or.inr ⟨w, q1, q2, q3, by rw [hw]; exact q4⟩
  · by_cases e4 : mR M 4201 (mn M0 + 2) = 4398046511104
    · rcases a14.1.2.2.2.2 with ⟨q, _⟩ | ⟨⟨_, q⟩, _⟩
      · rcases z with z | z
        · rw [q] at z; exact absurd z (by decide)
        · rw [q] at z; omega
      · exact q e4
    · have := a14.2.2.2 e4
      rcases z with z | z
      · omega
      · rcases a14.1.2.2.2.2 with ⟨q, _⟩ | ⟨_, q, _⟩
        · exact e4 q
        · rw [z, hk11] at q; exact absurd q (by decide)
  · obtain ⟨⟨P', b1, b2⟩, b3⟩ := a15 j hj
    have h1 := F.1
    refine ⟨⟨P', fun o ho => by rw [sl.r]; exact ⟨⟨(b1 o ho).1.1, by have := (b1 o ho).1.2; omega⟩, (b1 o ho).2⟩, b2.mv hnf F (fun o z => ⟨fun hp => ?_, hX o z⟩) (fun o ho => (b1 o ho).1.2) (fun _ z => z) hw hz h42 (fun f hf => ?_) (fun f hf => ?_)⟩, ?_⟩
    · obtain ⟨q1, q2, q3, q4⟩ := b1 o hp
      rcases z with z | z
      · omega
      · exact q4 z
    · exact (hm2.2 (k0 + j) (by omega)).1 f (by rcases hf with rfl | rfl | rfl <;> decide)
    · exact (hm2.2 (k0 + j) (by omega)).2 f hf
    · rw [(hm2.2 (k0 + j) (by omega)).1 61 (by decide)]; exact b3
/-- a name that stands already -/
theorem el_dup {x : Int32} (P : Pe C M σ i dep c s n) (hc : 1 ≤ c) (hs : 8 ≤ s) (hcur : mR M 411 90 = cur ∧ mk M cur = 10 ∧ mR M 1802 cur = ce) (hL : Ls M ce es) (hv : mk M v = 11) (hes : es.length ≤ 20) (hE : E0 + es.length = e ∧ e < 481) (hw : mI M 2003 v = nI w ∧ 38 ≤ w ∧ w < 38 + cm C ∧ tB σ 50 e = wc M w) (hx : tI σ 0 = 0) (hN : ∀ j, j < es.length → mk M (es.getD j 0) = 11 ∧ ((∃ w', mI M 2003 (es.getD j 0) = nI w' ∧ 38 ≤ w' ∧ w' < 38 + cm C ∧ tB σ 50 (E0 + j) = wc M w' ∧ tA σ 57 (E0 + j) = 0) ∨ (mI M 2003 (es.getD j 0) = -1 ∧ tA σ 57 (E0 + j) = 1))) :
    ∀ (d k f f' : Nat), k + d = es.length → d < f → d < f' → (KL_X2_element_331 f v x (nI k) M = some (.inl (), M) ∧ L_component_429 f' (nI e) x (nI (E0 + k)) σ = some ((), σ)) ∨ (∃ w' M', KL_X2_element_331 f v x (nI k) M = some (.inr (.inr w'), M') ∧ ∃ σ', L_component_429 f' (nI e) x (nI (E0 + k)) σ = some ((), σ') ∧ FB C M σ M' w' σ') := by
  obtain ⟨L, W, h1280⟩ := P.wb
  obtain ⟨hc1, hc2, hc3⟩ := hcur
  have hin : inb (nI e) 481 := inb_nI' hE.2 (by decide)
  have hix : ix (nI e) = e := ix_nI (by omega)
  -- with a fault the twin goes on to the end
  have bad : ∀ (d k f' : Nat) (s1 : TS), k + d = es.length → d < f' → tI s1 0 ≠ 0 → L_component_429 f' (nI e) x (nI (E0 + k)) s1 = some ((), s1) := by
    intro d
    induction d with
    | zero =>
      intro k f' s1 hk hf' h0
      obtain ⟨f', rfl⟩ : ∃ g, f' = g + 1 := ⟨f' - 1, by omega⟩
      rw [L_component_429, ifT ((bI_le (by omega) (by omega)).mpr (by omega))]
    | succ d ih =>
      intro k f' s1 hk hf' h0
      obtain ⟨f', rfl⟩ : ∃ g, f' = g + 1 := ⟨f' - 1, by omega⟩
      have ik : inb (nI (E0 + k)) 481 := inb_nI' (by omega) (by decide)
      have hb : F_bad 3 x s1 = some ((), s1) := by unfold F_bad; rw [ifF h0]
      have nx := ih (k + 1) f' s1 (by omega) (by omega) h0
      rw [L_component_429, ifF (by rw [bI_le (by omega) (by omega)]; omega)]
      simp only [ifT ik, ifT hin, nm_eq, nI_addL, hb, ob_some]
      rw [show E0 + k + 1 = E0 + (k + 1) by omega, nx]
      split
      · split <;> rfl
      · rfl
  intro d
  induction d with
  | zero =>
    intro k f f' hk hf hf'
    obtain ⟨f, rfl⟩ : ∃ g, f = g + 1 := ⟨f - 1, by omega⟩
    obtain ⟨f', rfl⟩ : ∃ g, f' = g + 1 := ⟨f' - 1, by omega⟩
    left
    rw [KL_X2_element_331, hc1, ifT hc2, hc3, ifT hL.1, ls_size hL, ob_some, ifT ((bI_le (by omega) (by omega)).mpr (by omega)), L_component_429, ifT ((bI_le (by omega) (by omega)).mpr (by omega))]
    exact ⟨rfl, rfl⟩
  | succ d ih =>
    intro k f f' hk hf hf'
    obtain ⟨f, rfl⟩ : ∃ g, f = g + 1 := ⟨f - 1, by omega⟩
    obtain ⟨f', rfl⟩ : ∃ g, f' = g + 1 := ⟨f' - 1, by omega⟩
    have ik : inb (nI (E0 + k)) 481 := inb_nI' (by omega) (by decide)
    have hixk : ix (nI (E0 + k)) = E0 + k := ix_nI (by omega)
    obtain ⟨n1, n2⟩ := hN k (by omega)
    rw [KL_X2_element_331, hc1, ifT hc2, hc3, ifT hL.1, ls_size hL, ob_some, ifF (by rw [bI_le (by omega) (by omega)]; omega), hc1, ifT hc2, hc3, ifT hL.1, ls_get hL (by omega), ob_some, ifT (Or.inr n1), ifT n1, ifT hv, hw.1, L_component_429, ifF (show ¬ nI e ≤ nI (E0 + k) from by rw [bI_le (by omega) (by omega)]; omega), ifT ik, hixk]
    rcases n2 with ⟨w', m1, m2, m3, m4, m5⟩ | ⟨m1, m2⟩
    · rw [m1, ifT m5, ifT ik, ifT hin, hix, m4, hw.2.2.2]
      by_cases ew : w' = w
      · subst ew
        have cap := P.cap hs
        right
        rw [ifT rfl, k_wrong cap (by have := P.n167; omega), ob_some, ifT (wM_k _ _ _), ifT (lg_eq.mpr rfl), t_bad hx, ob_some, nm_eq, nI_addL, show E0 + k + 1 = E0 + (k + 1) by omega, bad d (k + 1) f' _ (by omega) (by omega) (show tI (tsI (tsI σ 0 3) 1 x) 0 ≠ 0 from by show (3 : Int32) ≠ 0; decide)]
        exact ⟨_, _, rfl, _, rfl, P.fb hc hs (by decide)⟩
      · rw [ifF (fun z => ew ((bI_eq (by omega) (by omega)).mp z)), nm_eq, nI_addL, ifF (fun z => ew ((wc_inj W m3 hw.2.2.1).mp (lg_eq.mp z))), nm_eq, nI_addL, show E0 + k + 1 = E0 + (k + 1) by omega]
        exact ih (k + 1) f f' (by omega) (by omega) (by omega)
    · have hne : ¬ (-1 : Int32) = nI w := fun z => by
        have h0 : (-1 : Int32).toInt = (nI w).toInt := by rw [z]
        rw [bI_toInt (by omega)] at h0
        have : (-1 : Int32).toInt = -1 := rfl
        omega
      rw [m1, ifF hne, nm_eq, nI_addL, m2, ifF (show ¬ (1 : Int32) = 0 from by decide), nm_eq, nI_addL, show E0 + k + 1 = E0 + (k + 1) by omega]
      exact ih (k + 1) f f' (by omega) (by omega) (by omega)
theorem VaR.st {S : List Nat} {x5 : Int32} (h : VaR C M0 M σ e x5) (P : Pe C M σ i dep c s n) (hm : mn M0 + 3 ≤ mn M) (h90 : 90 < mn M0) (E : Es M σ M' σ') (f : Ft S σ σ') (hS : [56].all (fun k => !S.contains k) = true) : VaR C M0 M' σ' e x5 := by
  have hf : S.contains 56 = false := by simpa using List.all_eq_true.mp hS 56 (by decide)
  have sv : So M M' (mn M0) := E.1.so (by omega) (by omega)
  have hn := E.1.1
  have hz := E.2.2.2.1
  unfold VaR
  rw [sv.r, (f 56 hf).2.2.1]
  rcases h with q | ⟨q1, q2, x, d, q3, q4, q5, q6⟩
  · exact Or.inl q
  · exact Or.inr ⟨q1, q2, x, d, q3, q4, q5, AR.mv (P.mv E (fun o z => ⟨z.2, by have := z.1; omega⟩)) (fun o z => ⟨z.1, by have := z.2; omega⟩) hz.1.1 hz.1.2 ⟨Nat.le_refl _, P.nf12, fun _ _ => rfl⟩ d d 0 _ x (Nat.le_refl _) q6⟩
/-- an element is whole: it comes to its class -/
theorem el_fin (Pb : Pe C Mb σb ib depb cb' sb' nb') (E : Es Mb σb M0 σ0) (X0 : ClX C Mb M0 σ0 cur ce cc E0 es) (he : E0 + es.length = e) (h20 : es.length < 20) (P0 : 167 ≤ mn M0) (Pe0 : Pe C M σ i dep c s n) (hc : 1 ≤ c) (hs : 1932 ≤ s) (hEP : EP e M0 σ0 M σ) (hP1 : ∀ o, P o → mn M0 ≤ o ∧ o < mn M) (hR : ElR C P M σ (mn M0) e) : ∃ M' σ', (if mk M (mR M 411 90) = 10 then if mk M (mR M 1802 (mR M 411 90)) = 22 then ob (K_J2_add (mR M 1802 (mR M 411 90)) (mn M0) M) fun _ M115 => some ((.inl () : Unit ⊕ Nat), M115) else none else none) = some (.inl (), M') ∧ J_element_162 (nI cc) σ = some ((), σ') ∧ Pe C M' σ' i dep (c - 1) (s - 1932) n ∧ Es Mb σb M' σ' ∧ ClX C Mb M' σ' cur ce cc E0 (es ++ [mn M0]) ∧ Fz (fun o => o = 90 ∨ o = ce ∨ o = mR M0 4201 ce) M0 M' ∧ (mR M' 4201 ce = mR M0 4201 ce ∨ mn M0 ≤ mR M' 4201 ce) := by
  obtain ⟨⟨x1, ⟨x2, x2'⟩, x3, x4, x5⟩, x6, x7, ⟨x8, x9, x10, x11, x12, x13⟩, x14⟩ := X0
  obtain ⟨p1, p2, p3, ⟨p4, p5⟩, p6, p7, p8, p9⟩ := hEP
  have h67 := Pb.n167
  have n0 := p1.1.1
  have hlb := x7.2.1
  have hal : mR M0 4201 ce ≠ 90 := fun z => by
    have := x7.2.2.2 (by rw [z]; decide)
    omega
  have sc : So M0 M cur := p1.1.so x2' (by omega)
  have sl : So M0 M ce := p1.1.so hlb.2 (by omega)
  have hL : LsB Mb M ce es := x7.kp p1.1 (by omega) hal
  have E0M := E.tr p1
  obtain ⟨M', c1, c2, P', E', F', c6, c7⟩ := z_add2 Pb E0M Pe0 hL (p := mn M0) (Or.inl ⟨by omega, by rw [p7]; decide, by rw [p7]; decide⟩) (by omega) hc hs
  have n1 := F'.1
  have hin : inb (nI cc) 24 := inb_nI' x8 (by decide)
  have hix : ix (nI cc) = cc := ix_nI (by omega)
  obtain ⟨σ', hσ'⟩ : ∃ σ', σ' = tsA (tsI σ 58 (nI (e + 1))) 46 cc (nI (es.length + 1)) := ⟨_, rfl⟩
  have fr : Ft [58, 46] σ σ' := by rw [hσ']; exact ((Ft.rf _ _).p_tsI rfl).p_tsA rfl
  have hcap := Pe0.2.2.2.1
  have F01 : Fz (fun o => o = 90 ∨ o = ce ∨ o = mR M0 4201 ce) M0 M' := (p1.1.mono (fun o _ z => Or.inl z)).tr2 F' (fun o _ z => by rw [sl.r] at z; exact Or.inr z)
  have F1 : Fz (fun o => o = ce ∨ o = mR M0 4201 ce) M M' := F'.mono (fun o _ z => by rw [sl.r] at z; exact z)
  have harr : mR M' 4201 ce = mR M0 4201 ce ∨ mn M ≤ mR M' 4201 ce := by
    rcases c7 with q | q
    · left; rw [q, sl.r]
    · right; rw [q]; exact Nat.le_refl _
  have wcs : ∀ {M5 : CM} {σ5 : TS}, Es Mb σb M5 σ5 → ∀ w, wc M5 w = wc Mb w := fun E5 w => Pb.wcs E5.1 (fun o z => by rw [z]; exact Pb.en.1) w
  have sc' : So M0 M' cur := F01.so x2' (fun z => by
    rcases z with z | z | z
    · omega
    · exact x5 z
    · rcases x7.1.2.2.2.2 with ⟨q, _⟩ | ⟨_, q, _⟩
      · rw [q] at z; omega
      · rw [← z, x3] at q; exact absurd q (by decide))
  have hka : ∀ o, o = 90 ∨ o = ce ∨ o = mR M0 4201 ce → o < mn M → mk M0 o ≠ 23 ∧ o < mn M0 := fun o z hlt => by
    rcases z with rfl | rfl | rfl
    · exact ⟨by rw [← p1.1.k (by omega : 90 < mn M0), Pe0.en.1]; decide, by omega⟩
    · exact ⟨by rw [x7.1.1]; decide, hlb.2⟩
    · rcases x7.1.2.2.2.2 with ⟨q, _⟩ | ⟨q0, q, _⟩
      · rw [q] at hlt; omega
      · exact ⟨by rw [q]; decide, q0.1⟩
  rw [p1.2.1 411, x1, ifT (show mk M cur = 10 from by rw [sc.k]; exact x3), sc.r, x4, ifT hL.1.1, c1, ob_some]
  refine ⟨M', σ', rfl, ?_, P'.tx fr (by decide), E'.tx fr (by decide), ⟨⟨by rw [(F'.so (by omega) (by rw [sl.r]; omega)).r, p1.2.1 411]; exact x1, ⟨x2, by omega⟩, by rw [sc'.k]; exact x3, by rw [sc'.r]; exact x4, x5⟩, ?_, c2, ⟨x8, ?_, ?_, ?_, by rw [show (es ++ [mn M0]).length = es.length + 1 by simp]; omega, x13.1, by have := x13.2; omega⟩, fun j hj => ?_⟩, F01, by rcases harr with q | q; exact Or.inl q; exact Or.inr (Nat.le_trans n0 q)⟩
  · unfold J_element_162
    rw [t_isBad0 Pe0.g0, ob_some, ifT (rfl : (0 : Int32) = 0), nm_eq, p4, x11, nI_addL, he, ifT hin, ifT hin, nm_eq, hix, show tA (tsI σ 58 (nI (e + 1))) 46 cc = nI es.length from by show tA σ 46 cc = _; rw [p5 46 (by decide), x10], nI_addL, hσ']
  · rw [sc'.i, (fr 44 rfl).2.2.1, p5 44 (by decide)]; exact x6
  · rw [(fr 45 rfl).2.2.1, p5 45 (by decide)]; exact x9
  · rw [hσ', tA_tsA, ifT ⟨rfl, rfl⟩, show (es ++ [mn M0]).length = es.length + 1 by simp]
  · rw [hσ', show (es ++ [mn M0]).length = es.length + 1 by simp, ← he]; rfl
  · have hj : j < es.length + 1 := by simpa using hj
    have fz : Tz σ σ' := Tz.tx fr (by decide)
    have fm : Mz σ σ' := Mz.ft fr (by decide)
    rcases Nat.lt_or_ge j es.length with g | g
    · obtain ⟨P2, b1, b2⟩ := x14 j g
      rw [getD_app_l g]
      refine ⟨P2, fun o ho => ?_, b2.mv Pe0.nf12 F01.lt (fun o z => ⟨fun hp => ?_, (hka o z.2 (by have := z.1; omega)).1⟩) (fun o ho => (b1 o ho).1.2) (fun _ z => z) (fun w => by rw [wcs E', wcs E]) (p1.2.2.2.1.tr fz) (fun j => by rw [(fr 42 rfl).2.2.1, p5 42 (by decide)]) (p2.tr fm) (fun f hf => ?_) (fun f hf => ?_)⟩
      · obtain ⟨q1, q2, q3, q4⟩ := b1 o ho
        exact ⟨⟨q1.1, by omega⟩, q2, by rcases harr with q | q <;> omega, q4⟩
      · obtain ⟨q1, q2, q3, q4⟩ := b1 o hp
        rcases z.2 with q | q | q <;> omega
      · rw [(fr f (by rcases hf with rfl | rfl | rfl | rfl | rfl | rfl <;> rfl)).2.2.1]
        exact p3.1 f hf _ (by omega)
      · rw [(fr f (by rcases hf with rfl | rfl <;> rfl)).2.2.2]
        exact p3.2 f hf _ (by omega)
    · have ej : j = es.length := by omega
      subst ej
      rw [show (es ++ [mn M0]).getD es.length 0 = mn M0 from by rw [show es.length = es.length + 0 from rfl, getD_app_r]; rfl, he]
      refine ⟨P, fun o ho => ?_, hR.mv Pe0.nf12 F1.lt (fun o z => ⟨fun hp => ?_, ?_⟩) (fun o ho => (hP1 o ho).2) (fun _ z => z) (fun w => by rw [wcs E', wcs E0M]) fz (fun j => (fr 42 rfl).2.2.1 j) fm (fun f hf => (fr f (by rcases hf with rfl | rfl | rfl | rfl | rfl | rfl <;> rfl)).2.2.1 _) (fun f hf => (fr f (by rcases hf with rfl | rfl <;> rfl)).2.2.2 _)⟩
      · have q1 := hP1 o ho
        have e1 := E.1.1
        refine ⟨⟨by omega, by omega⟩, by omega, ?_, by omega⟩
        rcases harr with q | q
        · intro z
          rw [q] at z
          have := (hka o (Or.inr (Or.inr z)) (by omega)).2
          omega
        · omega
      · have := hP1 o hp
        have := (hka o (Or.inr z.2) z.1).2
        omega
      · obtain ⟨q1, q2⟩ := hka o (Or.inr z.2) z.1
        rw [p1.1.k q2]; exact q1
end EL5
