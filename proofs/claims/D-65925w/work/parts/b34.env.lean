/-! Layer B: texts are read: what both sides keep -/
set_option maxRecDepth 100000
/-- bytes, length, words, tokens, places; caps; functions; names of fors; arguments -/
abbrev sF_txt : List Nat := [0, 1, 10, 11, 12, 13, 14, 15, 16, 17, 18, 20, 21, 24, 25, 26, 27, 28, 29, 30, 31, 32, 33, 34, 41, 44, 45, 46, 47, 49, 50, 51, 52, 53, 54, 55, 56, 57, 58, 59, 60, 61, 62, 63, 64, 65]
abbrev PC : Type := (Nat → Int32) × Nat × Nat × Nat × (Nat → Nat) × Nat × Nat × Nat × (Nat → Nat) × Nat × (Nat → Nat) × Nat
def cb (C : PC) : Nat → Int32 := C.1
def cl (C : PC) : Nat := C.2.1
def cm (C : PC) : Nat := C.2.2.1
def ct (C : PC) : Nat := C.2.2.2.1
def cp (C : PC) : Nat → Nat := C.2.2.2.2.1
def cN (C : PC) : Nat := C.2.2.2.2.2.1
def cS (C : PC) : Nat := C.2.2.2.2.2.2.1
def cnf (C : PC) : Nat := C.2.2.2.2.2.2.2.1
def cfn (C : PC) : Nat → Nat := C.2.2.2.2.2.2.2.2.1
def cnl (C : PC) : Nat := C.2.2.2.2.2.2.2.2.2.1
def clw (C : PC) : Nat → Nat := C.2.2.2.2.2.2.2.2.2.2.1
def car (C : PC) : Nat := C.2.2.2.2.2.2.2.2.2.2.2
/-- how far the tables of modifications and equations may go -/
def cX (C : PC) : Nat := 2400 - cfn C 1001
theorem cX_le (C : PC) : cX C ≤ 2400 := Nat.sub_le _ _
/-- a boxed word -/
def BxR (M : CM) (m o w : Nat) : Prop := ((mk M o = 23 ∧ o < mn M ∧ o < 1099511627776 ∧ mI M 4400 o = nI w) ∨ (1099511627776 ≤ o ∧ o < 1099511628032 ∧ nI (o - 1099511627776) - 128 = nI w)) ∧ 38 ≤ w ∧ w < 38 + m
theorem BxR.fz {X : Nat → Prop} {M M' : CM} {m o w : Nat} (h : BxR M m o w) (F : Fz X M M') (hX : ∀ o, X o → mk M o ≠ 23) : BxR M' m o w := by
  obtain ⟨h1, h2⟩ := h
  refine ⟨?_, h2⟩
  rcases h1 with ⟨a1, a2, a3, a4⟩ | h1
  · have s := F.so a2 (fun z => hX o z a1)
    exact Or.inl ⟨by rw [s.k]; exact a1, Nat.lt_of_lt_of_le a2 F.1, a3, by rw [s.i]; exact a4⟩
  · exact Or.inr h1
theorem BxR.val {M : CM} {m o w : Nat} (h : BxR M m o w) : isBox M o ∧ K_J16_intValue o M = some (nI w, M) ∧ (o = 0 ∨ mk M o = 23 ∨ (1099511627776 ≤ o ∧ o < 1099511628032)) := by
  obtain ⟨h1, -⟩ := h
  unfold K_J16_intValue iVal
  rcases h1 with ⟨a1, a2, a3, a4⟩ | ⟨a1, a2, a3⟩
  · rw [ifT (Or.inl a1), ifF (by omega), a4]; exact ⟨Or.inl a1, rfl, Or.inr (Or.inl a1)⟩
  · rw [ifT (Or.inr ⟨a1, a2⟩), ifT a1, a3]; exact ⟨Or.inr ⟨a1, a2⟩, rfl, Or.inr (Or.inr ⟨a1, a2⟩)⟩
theorem Ls.fz {X : Nat → Prop} {M M' : CM} {l : Nat} {xs : List Nat} (h : Ls M l xs) (F : Fz X M M') (hl : l < mn M) (hX : ∀ o, X o → mk M o ≠ 22 ∧ mk M o ≠ 55) : Ls M' l xs := by
  refine h.kp F.1 (fun o ho => F.k ho) (F.so hl (fun z => (hX l z).1 h.1)) (fun z => ?_)
  rcases h.2.2.2.2 with ⟨q, _⟩ | ⟨q1, q2, _⟩
  · exact absurd q z
  · exact F.so q1.1 (fun y => (hX _ y).2 q2)
def LoR (C : PC) (M : CM) (σ : TS) : Prop := ∃ bs, Ls M 95 bs ∧ bs.length = cnl C ∧ cnl C ≤ 16 ∧ tI σ 37 = nI (cnl C) ∧ ∀ k, k < cnl C → BxR M (cm C) (bs.getD k 0) (clw C k) ∧ tB σ 35 k = wc M (clw C k)
def FnR (C : PC) (M : CM) (σ : TS) (k : Nat) : Prop := (mk M (cfn C k) = 6 ∧ cfn C k < mn M ∧ cfn C k ≠ 0) ∧ (∃ w, mI M 1000 (cfn C k) = nI w ∧ 38 ≤ w ∧ w < 38 + cm C ∧ tB σ 40 k = wc M w) ∧ ∃ bs, Ls M (mR M 1001 (cfn C k)) bs ∧ mR M 1001 (cfn C k) < mn M ∧ tA σ 42 k = nI bs.length ∧ 1 ≤ bs.length ∧ bs.length ≤ 4
def FuR (C : PC) (M : CM) (σ : TS) : Prop := ∃ fs nfs, Ls M 89 fs ∧ Ls M 96 nfs ∧ cnf C = fs.length + nfs.length ∧ cnf C ≤ 12 ∧ tI σ 48 = nI (cnf C) ∧ ∀ k, k < cnf C → cfn C k = (fs ++ nfs).getD k 0 ∧ FnR C M σ k
def MaR (C : PC) (M : CM) (σ : TS) : Prop := (car C = 0 ∧ mR M 408 90 = 0 ∧ tI σ 39 = 0) ∨ (1 ≤ car C ∧ car C ≤ 4 ∧ mR M 408 90 ≠ 0 ∧ mR M 408 90 < mn M ∧ mk M (mR M 408 90) = 6 ∧ tI σ 39 = 1 ∧ tI σ 38 = nI (car C) ∧ ∃ bs, Ls M (mR M 1001 (mR M 408 90)) bs ∧ mR M 1001 (mR M 408 90) < mn M ∧ bs.length = car C ∧ ∀ k, k < car C → ∃ w, BxR M (cm C) (bs.getD k 0) w ∧ tB σ 36 k = wc M w)
def En (C : PC) (M : CM) (σ : TS) : Prop := mk M 90 = 3 ∧ 167 ≤ mn M ∧ LoR C M σ ∧ FuR C M σ ∧ MaR C M σ
theorem En.fz {C : PC} {X : Nat → Prop} {M M' : CM} {σ σ' : TS} {S : List Nat} (h : En C M σ) (F : Fz X M M') (hX : ∀ o, X o → mk M o = 3) (h90 : mR M' 408 90 = mR M 408 90) (hw : ∀ w, w < 38 + cm C → wc M' w = wc M w) (f : Ft S σ σ') (hS : [35, 36, 37, 38, 39, 40, 42, 48].all (fun k => !S.contains k) = true) : En C M' σ' := by
  obtain ⟨h1, h2, h3, h4, h5⟩ := h
  have hf : ∀ k, k ∈ [35, 36, 37, 38, 39, 40, 42, 48] → S.contains k = false := fun k hk => by
    have := List.all_eq_true.mp hS k hk
    simpa using this
  have hX1 : ∀ o, X o → mk M o ≠ 22 ∧ mk M o ≠ 55 := fun o z => by rw [hX o z]; exact ⟨by decide, by decide⟩
  have hX2 : ∀ o, X o → mk M o ≠ 23 := fun o z => by rw [hX o z]; decide
  have f35 := f 35 (hf 35 (by decide))
  have f36 := f 36 (hf 36 (by decide))
  have f37 := f 37 (hf 37 (by decide))
  have f38 := f 38 (hf 38 (by decide))
  have f39 := f 39 (hf 39 (by decide))
  have f40 := f 40 (hf 40 (by decide))
  have f42 := f 42 (hf 42 (by decide))
  have f48 := f 48 (hf 48 (by decide))
  refine ⟨by rw [F.k (by omega)]; exact h1, Nat.le_trans h2 F.1, ?_, ?_, ?_⟩
  · obtain ⟨bs, a1, a2, a3, a4, a5⟩ := h3
    refine ⟨bs, a1.fz F (by omega) hX1, a2, a3, by rw [f37.1]; exact a4, fun k hk => ?_⟩
    obtain ⟨b1, b2⟩ := a5 k hk
    exact ⟨b1.fz F hX2, by rw [f35.2.2.2, hw _ b1.2.2]; exact b2⟩
  · obtain ⟨fs, nfs, a1, a2, a3, a4, a5, a6⟩ := h4
    refine ⟨fs, nfs, a1.fz F (by omega) hX1, a2.fz F (by omega) hX1, a3, a4, by rw [f48.1]; exact a5, fun k hk => ?_⟩
    obtain ⟨b1, ⟨c1, c2, c3⟩, ⟨w, d1, d2, d3, d4⟩, bs, e1, e2, e3, e4, e5⟩ := a6 k hk
    have s := F.so c2 (fun z => by have := hX _ z; rw [c1] at this; exact absurd this (by decide))
    exact ⟨b1, ⟨by rw [s.k]; exact c1, Nat.lt_of_lt_of_le c2 F.1, c3⟩, ⟨w, by rw [s.i]; exact d1, d2, d3, by rw [f40.2.2.2, hw w d3]; exact d4⟩, bs, by rw [s.r]; exact e1.fz F e2 hX1, by rw [s.r]; exact Nat.lt_of_lt_of_le e2 F.1, by rw [f42.2.2.1]; exact e3, e4, e5⟩
  · rcases h5 with ⟨a1, a2, a3⟩ | ⟨a1, a2, a3, a4, a5, a6, a7, bs, b1, b2, b3, b4⟩
    · exact Or.inl ⟨a1, by rw [h90]; exact a2, by rw [f39.1]; exact a3⟩
    · have s := F.so a4 (fun z => by have := hX _ z; rw [a5] at this; exact absurd this (by decide))
      refine Or.inr ⟨a1, a2, by rw [h90]; exact a3, by rw [h90]; exact Nat.lt_of_lt_of_le a4 F.1, by rw [h90, s.k]; exact a5, by rw [f39.1]; exact a6, by rw [f38.1]; exact a7, bs, by rw [h90, s.r]; exact b1.fz F b2 hX1, by rw [h90, s.r]; exact Nat.lt_of_lt_of_le b2 F.1, b3, fun k hk => ?_⟩
      obtain ⟨w, c1, c2⟩ := b4 k hk
      exact ⟨w, c1.fz F hX2, by rw [f36.2.2.2, hw w c1.2.2]; exact c2⟩
/-- nodes made now (what is read now: from cfn C 1000 on) -/
def Lo (C : PC) (N : Nat) : Prop := 1 ≤ N ∧ cfn C 1000 ≤ N
theorem Lo.up {C : PC} {N N' : Nat} (h : Lo C N) (g : N ≤ N') : Lo C N' := ⟨Nat.le_trans h.1 g, Nat.le_trans h.2 g⟩
/-- both readers at token i, dep deep; what may still be made: c cells, s slots, n nodes and parts -/
def Pe (C : PC) (M : CM) (σ : TS) (i dep c s n : Nat) : Prop := Px M σ (cb C) (cl C) (cm C) (ct C) (cp C) i ∧ En C M σ ∧ (mI M 406 90 = nI dep ∧ tI σ 20 = nI dep ∧ dep ≤ 16) ∧ (mn M + 16 * (ct C - i) + c ≤ cN C ∧ ms M + 2048 * (ct C - i) + s ≤ cS C ∧ cN C ≤ 601024 ∧ cS C ≤ 7293034 ∧ ct C ≤ 1280) ∧ ∃ N Q, (tI σ 28 = nI N ∧ Lo C N ∧ N + 4 * (ct C - i) + n ≤ 7000) ∧ tI σ 34 = nI Q ∧ 1 ≤ Q ∧ Q + 4 * (ct C - i) + n ≤ 7000
def tN (σ : TS) : Nat := ix (tI σ 28)
def tQ (σ : TS) : Nat := ix (tI σ 34)
/-- nodes and parts that were there stay -/
def Tz (σ σ' : TS) : Prop := (tN σ ≤ tN σ' ∧ tQ σ ≤ tQ σ') ∧ (∀ k, k = 24 ∨ k = 25 ∨ k = 26 ∨ k = 27 → ∀ n, n < tN σ → tA σ' k n = tA σ k n) ∧ (∀ k, k = 31 ∨ k = 32 ∨ k = 33 → ∀ n, n < tQ σ → tA σ' k n = tA σ k n) ∧ ∀ k, k = 29 ∨ k = 30 → ∀ n, n < tQ σ → tB σ' k n = tB σ k n
theorem Tz.rf (σ : TS) : Tz σ σ := ⟨⟨Nat.le_refl _, Nat.le_refl _⟩, fun _ _ _ _ => rfl, fun _ _ _ _ => rfl, fun _ _ _ _ => rfl⟩
theorem Tz.tr {σ1 σ2 σ3 : TS} (h : Tz σ1 σ2) (g : Tz σ2 σ3) : Tz σ1 σ3 := ⟨⟨Nat.le_trans h.1.1 g.1.1, Nat.le_trans h.1.2 g.1.2⟩, fun k hk n hn => (g.2.1 k hk n (Nat.lt_of_lt_of_le hn h.1.1)).trans (h.2.1 k hk n hn), fun k hk n hn => (g.2.2.1 k hk n (Nat.lt_of_lt_of_le hn h.1.2)).trans (h.2.2.1 k hk n hn), fun k hk n hn => (g.2.2.2 k hk n (Nat.lt_of_lt_of_le hn h.1.2)).trans (h.2.2.2 k hk n hn)⟩
/-- nothing of nodes and parts was written -/
theorem Tz.ft {S : List Nat} {σ σ' : TS} (f : Ft S σ σ') (h : [24, 25, 26, 27, 28, 29, 30, 31, 32, 33, 34].all (fun k => !S.contains k) = true) : Tz σ σ' := by
  have hf : ∀ k, k ∈ [24, 25, 26, 27, 28, 29, 30, 31, 32, 33, 34] → S.contains k = false := fun k hk => by
    have := List.all_eq_true.mp h k hk
    simpa using this
  refine ⟨⟨by unfold tN; rw [(f 28 (hf 28 (by decide))).1]; exact Nat.le_refl _, by unfold tQ; rw [(f 34 (hf 34 (by decide))).1]; exact Nat.le_refl _⟩, fun k hk n _ => ?_, fun k hk n _ => ?_, fun k hk n _ => ?_⟩
  · exact (f k (hf k (by rcases hk with rfl | rfl | rfl | rfl <;> decide))).2.2.1 n
  · exact (f k (hf k (by rcases hk with rfl | rfl | rfl <;> decide))).2.2.1 n
  · exact (f k (hf k (by rcases hk with rfl | rfl <;> decide))).2.2.2 n
/-- a step of both -/
def Es (M : CM) (σ : TS) (M' : CM) (σ' : TS) : Prop := Fz (fun o => o = 90) M M' ∧ (∀ g, mR M' g 90 = mR M g 90) ∧ (∀ g, g ≠ 405 → g ≠ 406 → mI M' g 90 = mI M g 90) ∧ Tz σ σ' ∧ Ft sF_txt σ σ'
theorem Es.rf (M : CM) (σ : TS) : Es M σ M σ := ⟨Fz.rf, fun _ => rfl, fun _ _ _ => rfl, Tz.rf σ, Ft.rf _ σ⟩
theorem Es.tr {M1 M2 M3 : CM} {σ1 σ2 σ3 : TS} (h : Es M1 σ1 M2 σ2) (g : Es M2 σ2 M3 σ3) : Es M1 σ1 M3 σ3 := ⟨h.1.tr g.1, fun k => (g.2.1 k).trans (h.2.1 k), fun k h1 h2 => (g.2.2.1 k h1 h2).trans (h.2.2.1 k h1 h2), h.2.2.2.1.tr g.2.2.2.1, h.2.2.2.2.tr g.2.2.2.2⟩
/-- a step of the component that changes nothing old -/
theorem Es.al {M M' : CM} {σ : TS} (F : Fz none_ M M') (h : 167 ≤ mn M) : Es M σ M' σ := ⟨F.mono (fun _ _ z => absurd z (fun q => q)), fun g => (F.so (by omega : 90 < mn M) (fun q => q)).r g, fun g _ _ => (F.so (by omega : 90 < mn M) (fun q => q)).i g, Tz.rf σ, Ft.rf _ σ⟩
/-- a step of the twin -/
theorem Es.tw {M : CM} {σ σ' : TS} {S : List Nat} (f : Ft S σ σ') (hS : S.all sF_txt.contains = true) (z : Tz σ σ') : Es M σ M σ' := ⟨Fz.rf, fun _ => rfl, fun _ _ _ => rfl, z, f.mono hS⟩
section PE
variable {C : PC} {M M' : CM} {σ σ' : TS} {i dep c s n c' s' n' : Nat}
theorem Pe.px (P : Pe C M σ i dep c s n) : Px M σ (cb C) (cl C) (cm C) (ct C) (cp C) i := P.1
theorem Pe.en (P : Pe C M σ i dep c s n) : En C M σ := P.2.1
theorem Pe.g0 (P : Pe C M σ i dep c s n) : tI σ 0 = 0 := P.1.2.2.2.1.2.2.1
theorem Pe.n167 (P : Pe C M σ i dep c s n) : 167 ≤ mn M := P.2.1.2.1
theorem Pe.cap (P : Pe C M σ i dep c s n) {k : Nat} (h : k ≤ s) : mn M ≤ 601024 ∧ ms M + k ≤ 7293034 := by
  obtain ⟨a1, a2, a3, a4, a5⟩ := P.2.2.2.1
  omega
theorem Pe.it (P : Pe C M σ i dep c s n) : i ≤ ct C ∧ ct C < 2001 := ⟨P.1.2.2.1.2.2, P.1.2.1.1⟩
theorem Pe.t1280 (P : Pe C M σ i dep c s n) : ct C ≤ 1280 := P.2.2.2.1.2.2.2.2
theorem Pe.i5 (P : Pe C M σ i dep c s n) : mI M 405 90 = nI i := P.1.2.2.1.2.1
theorem Pe.wk (P : Pe C M σ i dep c s n) (h1 : c' ≤ c) (h2 : s' ≤ s) (h3 : n' ≤ n) : Pe C M σ i dep c' s' n' := by
  obtain ⟨a1, a2, a3, ⟨a4, a5, a6, a7⟩, N, Q, ⟨a8, a9, a10⟩, a11, a12, a13⟩ := P
  exact ⟨a1, a2, a3, ⟨by omega, by omega, a6, a7⟩, N, Q, ⟨a8, a9, by omega⟩, a11, a12, by omega⟩
theorem Pe.wcs {X : Nat → Prop} (P : Pe C M σ i dep c s n) (F : Fz X M M') (hX : ∀ o, X o → mk M o = 3) (w : Nat) : wc M' w = wc M w := by
  obtain ⟨⟨⟨hK, ⟨L, W⟩, -, h167⟩, -⟩, -⟩ := P
  refine wc_so (F.so (by omega) (fun z => ?_)) (F.so W.2.2.2.2.2.2.2.1 (fun z => ?_)) w
  · have := hX 4 z; rw [hK.1.2.2.2.2.2] at this; exact absurd this (by decide)
  · have := hX _ z; rw [W.2.1] at this; exact absurd this (by decide)
/-- what is made anew by the component leaves all as it is -/
theorem Pe.al (P : Pe C M σ i dep c s n) (F : Fz none_ M M') (h1 : mn M' + c' ≤ mn M + c) (h2 : ms M' + s' ≤ ms M + s) : Pe C M' σ i dep c' s' n := by
  have P0 := P
  obtain ⟨a1, a2, a3, ⟨a4, a5, a6, a7⟩, a8⟩ := P
  have h90 : So M M' 90 := F.so (by have := a2.2.1; omega) (fun q => q)
  refine ⟨a1.go F (fun o z => absurd z (fun q => q)) (h90.i _) (by rw [h90.i]; exact a1.2.2.1.2.1) a1.2.2.1.2.2 a1.2.2.2.1.1 a1.2.2.2.1.2.1 a1.2.2.2.1.2.2.1 a1.2.2.2.1.2.2.2 a1.2.2.2.2.1 a1.2.2.2.2.2, a2.fz F (fun o z => absurd z (fun q => q)) (h90.r _) (fun w _ => P0.wcs F (fun o z => absurd z (fun q => q)) w) (Ft.rf [] σ) (by decide), ⟨by rw [h90.i]; exact a3.1, a3.2⟩, ⟨by omega, by omega, a6, a7⟩, a8⟩
/-- the next token -/
theorem Pe.nx (P : Pe C M σ i dep c s n) (h : F_next σ = some ((), σ')) (hp : Px (msI M 405 90 (nI (i + 1))) σ' (cb C) (cl C) (cm C) (ct C) (cp C) (i + 1)) (hi : i < ct C) : Pe C (msI M 405 90 (nI (i + 1))) σ' (i + 1) dep (c + 16) (s + 2048) (n + 4) ∧ Es M σ (msI M 405 90 (nI (i + 1))) σ' := by
  have P0 := P
  obtain ⟨a1, a2, a3, ⟨a4, a5, a6, a7⟩, N, Q, ⟨a8, a9, a10⟩, a11, a12, a13⟩ := P
  have fr := fS_F_next _ _ _ h
  have F : Fz (fun o => o = 90) M (msI M 405 90 (nI (i + 1))) := Fz.rf.msI (fun _ => rfl)
  have hX : ∀ o, o = 90 → mk M o = 3 := fun o z => by rw [z]; exact a2.1
  refine ⟨⟨hp, a2.fz F hX rfl (fun w _ => rfl) fr (by decide), ⟨by rw [mI_msI, ifF (by omega)]; exact a3.1, by rw [(fr 20 rfl).1]; exact a3.2.1, a3.2.2⟩, ⟨?_, ?_, a6, a7⟩, N, Q, ⟨by rw [(fr 28 rfl).1]; exact a8, a9, by omega⟩, by rw [(fr 34 rfl).1]; exact a11, a12, by omega⟩, F, fun _ => rfl, fun g h1 h2 => by rw [mI_msI, ifF (fun z => h1 z.1)], Tz.ft fr (by decide), fr.mono (by decide)⟩
  · show mn M + _ + _ ≤ _; omega
  · show ms M + _ + _ ≤ _; omega
/-- the twin makes nodes and parts -/
theorem Pe.tw {S : List Nat} {N Q : Nat} (P : Pe C M σ i dep c s n) (f : Ft S σ σ') (hS : S.all [24, 25, 26, 27, 28, 29, 30, 31, 32, 33, 34].contains = true) (h28 : tI σ' 28 = nI N) (hN : Lo C N ∧ N + 4 * (ct C - i) + n' ≤ 7000) (h34 : tI σ' 34 = nI Q) (hQ : 1 ≤ Q ∧ Q + 4 * (ct C - i) + n' ≤ 7000) : Pe C M σ' i dep c s n' := by
  obtain ⟨a1, a2, a3, a4, -⟩ := P
  have f' := f.mono hS
  have g := fun k (hk : [24, 25, 26, 27, 28, 29, 30, 31, 32, 33, 34].contains k = false) => f' k hk
  refine ⟨a1.go (X := none_) Fz.rf (fun o z => absurd z (fun q => q)) rfl a1.2.2.1.2.1 a1.2.2.1.2.2 (a1.2.2.2.1.1.kp f' (by decide) (by decide)) (a1.2.2.2.1.2.1.kp f' (by decide) (by decide)) (by rw [(g 0 (by decide)).1]; exact a1.2.2.2.1.2.2.1) (by rw [(g 18 (by decide)).1]; exact a1.2.2.2.1.2.2.2) ?_ ?_, a2.fz (X := none_) Fz.rf (fun o z => absurd z (fun q => q)) rfl (fun w _ => rfl) f' (by decide), ⟨a3.1, by rw [(g 20 (by decide)).1]; exact a3.2.1, a3.2.2⟩, a4, N, Q, ⟨h28, hN⟩, h34, hQ⟩
  · obtain ⟨kd, s, b1, b2⟩ := a1.2.2.2.2.1
    refine ⟨kd, s, by rw [(g 11 (by decide)).1, (g 12 (by decide)).1]; exact b1, ?_⟩
    rw [(g 14 (by decide)).1, (g 15 (by decide)).1, (g 17 (by decide)).1, (g 16 (by decide)).2.1]; exact b2
  · rw [(g 10 (by decide)).1]; exact a1.2.2.2.2.2
/-- deeper, and back -/
theorem Pe.dp {d : Nat} (P : Pe C M σ i dep c s n) (hd : d ≤ 16) : Pe C (msI M 406 90 (nI d)) (tsI σ 20 (nI d)) i d c s n ∧ Es M σ (msI M 406 90 (nI d)) (tsI σ 20 (nI d)) := by
  obtain ⟨a1, a2, a3, a4, a5⟩ := P
  have F : Fz (fun o => o = 90) M (msI M 406 90 (nI d)) := Fz.rf.msI (fun _ => rfl)
  have hX : ∀ o, o = 90 → mk M o = 3 := fun o z => by rw [z]; exact a2.1
  have fr : Ft [20] σ (tsI σ 20 (nI d)) := (Ft.rf _ σ).p_tsI rfl
  exact ⟨⟨a1.go F (fun o z => Or.inl z) (by rw [mI_msI, ifF (by omega)]) (by rw [mI_msI, ifF (by omega)]; exact a1.2.2.1.2.1) a1.2.2.1.2.2 a1.2.2.2.1.1 a1.2.2.2.1.2.1 a1.2.2.2.1.2.2.1 a1.2.2.2.1.2.2.2 a1.2.2.2.2.1 a1.2.2.2.2.2, a2.fz F hX rfl (fun w _ => rfl) fr (by decide), ⟨by rw [mI_msI, ifT ⟨rfl, rfl⟩], rfl, hd⟩, a4, a5⟩, F, fun _ => rfl, fun g h1 h2 => by rw [mI_msI, ifF (fun z => h2 z.1)], Tz.ft fr (by decide), fr.mono (by decide)⟩
theorem Pe.nodes (P : Pe C M σ i dep c s n) : ∃ N Q, tI σ 28 = nI N ∧ tN σ = N ∧ Lo C N ∧ N + 4 * (ct C - i) + n ≤ 7000 ∧ tI σ 34 = nI Q ∧ tQ σ = Q ∧ 1 ≤ Q ∧ Q + 4 * (ct C - i) + n ≤ 7000 := by
  obtain ⟨-, -, -, -, N, Q, ⟨a8, a9, a10⟩, a11, a12, a13⟩ := P
  exact ⟨N, Q, a8, by unfold tN; rw [a8, ix_nI (by omega)], a9, a10, a11, by unfold tQ; rw [a11, ix_nI (by omega)], a12, a13⟩
/-- a node of the twin -/
theorem t_node {N : Nat} (h : tI σ 28 = nI N) (hN : N < 9000) (k a b d : Int32) : ∃ σ', F_node k a b d σ = some (nI N, σ') ∧ tI σ' 28 = nI (N + 1) ∧ tA σ' 24 N = k ∧ tA σ' 25 N = a ∧ tA σ' 26 N = b ∧ tA σ' 27 N = d ∧ ∀ k j, ¬ j = N → tA σ' k j = tA σ k j := by
  unfold F_node
  have g : inb (nI N) 9000 := inb_nI' hN (by decide)
  rw [h, ifF (fun z => by rw [show (9000 : Int32) = nI 9000 from rfl, bI_eq (by omega) (by decide)] at z; omega), ifT g, nm_eq]
  rw [show tI (tsA σ 24 (ix (nI N)) k) 28 = nI N from h, ifT g, nm_eq]
  rw [show tI (tsA (tsA σ 24 (ix (nI N)) k) 25 (ix (nI N)) a) 28 = nI N from h, ifT g, nm_eq]
  rw [show tI (tsA (tsA (tsA σ 24 (ix (nI N)) k) 25 (ix (nI N)) a) 26 (ix (nI N)) b) 28 = nI N from h, ifT g, nm_eq]
  rw [show tI (tsA (tsA (tsA (tsA σ 24 (ix (nI N)) k) 25 (ix (nI N)) a) 26 (ix (nI N)) b) 27 (ix (nI N)) d) 28 = nI N from h, nm_eq, nI_addL, ix_nI (by omega)]
  refine ⟨tsI (tsA (tsA (tsA (tsA σ 24 N k) 25 N a) 26 N b) 27 N d) 28 (nI (N + 1)), ?_, rfl, ?_, ?_, ?_, ?_, fun k' j hj => ?_⟩
  · rw [show tI (tsI (tsA (tsA (tsA (tsA σ 24 N k) 25 N a) 26 N b) 27 N d) 28 (nI (N + 1))) 28 = nI (N + 1) from rfl, show (1 : Int32) = nI 1 from rfl, nI_sub (by omega), show N + 1 - 1 = N by omega]
  · simp [tA_tsI, tA_tsA]
  · simp [tA_tsI, tA_tsA]
  · simp [tA_tsI, tA_tsA]
  · simp [tA_tsI, tA_tsA]
  · simp [tA_tsI, tA_tsA, hj]
theorem y_node (P : Pe C M σ i dep c s (n + 1)) (k a b d : Int32) : ∃ σ', F_node k a b d σ = some (nI (tN σ), σ') ∧ tN σ' = tN σ + 1 ∧ tQ σ' = tQ σ ∧ tN σ < 9000 ∧ Lo C (tN σ) ∧ (tA σ' 24 (tN σ) = k ∧ tA σ' 25 (tN σ) = a ∧ tA σ' 26 (tN σ) = b ∧ tA σ' 27 (tN σ) = d) ∧ Pe C M σ' i dep c s n ∧ Es M σ M σ' := by
  obtain ⟨N, Q, n1, n2, n3, n4, n5, n6, n7, n8⟩ := P.nodes
  obtain ⟨σ', e1, e2, e3, e4, e5, e6, e7⟩ := t_node n1 (by omega) k a b d
  have fr := fS_F_node _ _ _ _ _ _ _ e1
  have h34 : tI σ' 34 = nI Q := by rw [(fr 34 rfl).1]; exact n5
  have hN' : tN σ' = N + 1 := by unfold tN; rw [e2, ix_nI (by omega)]
  have hQ' : tQ σ' = Q := by unfold tQ; rw [h34, ix_nI (by omega)]
  rw [n2, n6]
  refine ⟨σ', e1, hN', hQ', by omega, n3, ⟨e3, e4, e5, e6⟩, P.tw fr (by decide) e2 ⟨n3.up (by omega), by omega⟩ h34 ⟨n7, by omega⟩, Es.tw fr (by decide) ⟨⟨by omega, by omega⟩, fun k' hk j hj => e7 k' j (by omega), fun k' hk j hj => ?_, fun k' hk j hj => ?_⟩⟩
  · exact (fr k' (by rcases hk with rfl | rfl | rfl <;> rfl)).2.2.1 j
  · exact (fr k' (by rcases hk with rfl | rfl <;> rfl)).2.2.2 j
/-- a part of the twin -/
theorem t_newPart {Q : Nat} (h : tI σ 34 = nI Q) (hQ : Q < 7000) (v : Int64) : ∃ σ', F_newPart v σ = some (nI Q, σ') ∧ tI σ' 34 = nI (Q + 1) ∧ tB σ' 29 Q = v ∧ tA σ' 31 Q = 0 ∧ tA σ' 32 Q = 0 ∧ tA σ' 33 Q = 0 ∧ (∀ k j, ¬ j = Q → tA σ' k j = tA σ k j) ∧ ∀ k j, ¬ j = Q → tB σ' k j = tB σ k j := by
  unfold F_newPart J_newPart_20
  have g : inb (nI Q) 7000 := inb_nI' hQ (by decide)
  rw [h, ifF (fun z => by rw [show (7000 : Int32) = nI 7000 from rfl, bI_eq (by omega) (by decide)] at z; omega), ifT g, nm_eq]
  rw [show tI (tsB σ 29 (ix (nI Q)) v) 34 = nI Q from h, ifT g, nm_eq]
  rw [show tI (tsA (tsB σ 29 (ix (nI Q)) v) 31 (ix (nI Q)) 0) 34 = nI Q from h, ifT g, nm_eq]
  rw [show tI (tsA (tsA (tsB σ 29 (ix (nI Q)) v) 31 (ix (nI Q)) 0) 32 (ix (nI Q)) 0) 34 = nI Q from h, ifT g, nm_eq]
  rw [show tI (tsB (tsA (tsA (tsB σ 29 (ix (nI Q)) v) 31 (ix (nI Q)) 0) 32 (ix (nI Q)) 0) 30 (ix (nI Q)) 0) 34 = nI Q from h, ifT g, nm_eq]
  rw [show tI (tsA (tsB (tsA (tsA (tsB σ 29 (ix (nI Q)) v) 31 (ix (nI Q)) 0) 32 (ix (nI Q)) 0) 30 (ix (nI Q)) 0) 33 (ix (nI Q)) 0) 34 = nI Q from h, nm_eq, nI_addL, ix_nI (by omega)]
  refine ⟨tsI (tsA (tsB (tsA (tsA (tsB σ 29 Q v) 31 Q 0) 32 Q 0) 30 Q 0) 33 Q 0) 34 (nI (Q + 1)), ?_, rfl, ?_, ?_, ?_, ?_, fun k' j hj => ?_, fun k' j hj => ?_⟩
  · rw [show tI (tsI (tsA (tsB (tsA (tsA (tsB σ 29 Q v) 31 Q 0) 32 Q 0) 30 Q 0) 33 Q 0) 34 (nI (Q + 1))) 34 = nI (Q + 1) from rfl, show (1 : Int32) = nI 1 from rfl, nI_sub (by omega), show Q + 1 - 1 = Q by omega]
  · simp [tB_tsI, tB_tsA, tB_tsB]
  · simp [tA_tsI, tA_tsA, tA_tsB]
  · simp [tA_tsI, tA_tsA, tA_tsB]
  · simp [tA_tsI, tA_tsA, tA_tsB]
  · simp [tA_tsI, tA_tsA, tA_tsB, hj]
  · simp [tB_tsI, tB_tsA, tB_tsB, hj]
theorem y_newPart (P : Pe C M σ i dep c s (n + 1)) (v : Int64) : ∃ σ', F_newPart v σ = some (nI (tQ σ), σ') ∧ tQ σ' = tQ σ + 1 ∧ tN σ' = tN σ ∧ tQ σ < 7000 ∧ 1 ≤ tQ σ ∧ (tB σ' 29 (tQ σ) = v ∧ tA σ' 31 (tQ σ) = 0 ∧ tA σ' 32 (tQ σ) = 0 ∧ tA σ' 33 (tQ σ) = 0) ∧ Pe C M σ' i dep c s n ∧ Es M σ M σ' := by
  obtain ⟨N, Q, n1, n2, n3, n4, n5, n6, n7, n8⟩ := P.nodes
  obtain ⟨σ', e1, e2, e3, e4, e5, e6, e7, e8⟩ := t_newPart n5 (by omega) v
  have fr := fS_F_newPart _ _ _ _ e1
  have h28 : tI σ' 28 = nI N := by rw [(fr 28 rfl).1]; exact n1
  have hN' : tN σ' = N := by unfold tN; rw [h28, ix_nI (by omega)]
  have hQ' : tQ σ' = Q + 1 := by unfold tQ; rw [e2, ix_nI (by omega)]
  rw [n2, n6]
  refine ⟨σ', e1, hQ', hN', by omega, n7, ⟨e3, e4, e5, e6⟩, P.tw fr (by decide) h28 ⟨n3, by omega⟩ e2 ⟨by omega, by omega⟩, Es.tw fr (by decide) ⟨⟨by omega, by omega⟩, fun k' hk j hj => ?_, fun k' hk j hj => e7 k' j (by omega), fun k' hk j hj => e8 k' j (by omega)⟩⟩
  exact (fr k' (by rcases hk with rfl | rfl | rfl | rfl <;> rfl)).2.2.1 j
end PE
