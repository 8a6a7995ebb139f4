/-! Layer B: equations: what both keep; faults -/
set_option maxRecDepth 100000
abbrev txQ : List Nat := [66, 67, 68, 69, 70, 71, 72, 73]
abbrev sFq : List Nat := [35, 37, 66, 67, 68, 69, 70, 71, 72, 73, 0, 1, 10, 11, 12, 13, 14, 15, 16, 17, 18, 20, 21, 24, 25, 26, 27, 28, 29, 30, 31, 32, 33, 34, 41, 44, 45, 46, 47, 49, 50, 51, 52, 53, 54, 55, 56, 57, 58, 59, 60, 61, 62, 63, 64, 65]
def tE (σ : TS) : Nat := ix (tI σ 72)
/-- equations that were there stay -/
def Qz (σ σ' : TS) : Prop := tE σ ≤ tE σ' ∧ ∀ n, n < tE σ → (∀ k, k = 66 ∨ k = 67 ∨ k = 68 ∨ k = 69 ∨ k = 70 → tA σ' k n = tA σ k n) ∧ tB σ' 71 n = tB σ 71 n
/-- what may be written while equations are read: the reader, the names of fors, the class being read -/
def Xe (M : CM) (o : Nat) : Prop := o = 90 ∨ o = 95 ∨ o = mR M 4201 95 ∨ o = mR M 411 90
def Ek (M M' : CM) : Prop := Fz (Xe M) M M' ∧ (mR M' 4201 95 = mR M 4201 95 ∨ mn M ≤ mR M' 4201 95) ∧ (∀ g, mR M' g 90 = mR M g 90) ∧ (mR M 411 90 < mn M → mR M 411 90 ≠ 90 → (∀ g, mR M' g (mR M 411 90) = mR M g (mR M 411 90)) ∧ ∀ g, g ≠ 1804 → mI M' g (mR M 411 90) = mI M g (mR M 411 90))
def Ee (M : CM) (σ : TS) (M' : CM) (σ' : TS) : Prop := Ek M M' ∧ (Tz σ σ' ∧ Qz σ σ') ∧ Ft sFq σ σ'
/-- with a fault: the equations that were there stay -/
def Qb (σ σ' : TS) : Prop := ∀ m, m ≤ 2400 → m ≤ tE σ → m ≤ tE σ' ∧ ∀ n, n < m → (∀ k, k = 66 ∨ k = 67 ∨ k = 68 ∨ k = 69 ∨ k = 70 → tA σ' k n = tA σ k n) ∧ tB σ' 71 n = tB σ 71 n
def Fe (σ σ' : TS) : Prop := Ft sFq σ σ' ∧ Tz σ σ' ∧ Qb σ σ'
/-- faults -/
def Bde (C : PC) (σ : TS) : Prop := Bd C σ ∧ ∃ E, tI σ 72 = nI E ∧ 1 ≤ E ∧ E ≤ 3000
def Bre (C : PC) (σ σ' : TS) : Prop := tI σ' 0 = tI σ 0 ∧ tI σ' 1 = tI σ 1 ∧ Bde C σ' ∧ Fe σ σ'
def BWe (C : PC) {α : Type} (σ : TS) (o : Option (α × TS)) : Prop := ∃ r σ', o = some (r, σ') ∧ Bre C σ σ'
def FBe (C : PC) (M : CM) (σ : TS) (M' : CM) (w : Nat) (σ' : TS) : Prop := Flt M' w σ' ∧ (Ek M M' ∧ ∃ bs, Ls M' 95 bs) ∧ Fe σ σ' ∧ (mn M' ≤ cN C ∧ ms M' ≤ cS C) ∧ Bde C σ'
def Koe (C : PC) (M : CM) (σ : TS) {α β : Type} (o : Option ((α ⊕ Nat) × CM)) (p : Option (β × TS)) : Prop := ∃ w M' y σ', o = some (.inr w, M') ∧ p = some (y, σ') ∧ FBe C M σ M' w σ'
section EQS
variable {C : PC} {M M' M0 M1 M2 Mb : CM} {σ σ' σ0 σ1 σ2 σb s1 : TS} {i dep c s n i' dep' c' s' n' w : Nat} {α β γ δ : Type}
theorem Qz.rf (σ : TS) : Qz σ σ := ⟨Nat.le_refl _, fun _ _ => ⟨fun _ _ => rfl, rfl⟩⟩
theorem Qz.tr (h : Qz σ σ1) (g : Qz σ1 σ2) : Qz σ σ2 := ⟨Nat.le_trans h.1 g.1, fun n hn => ⟨fun k hk => ((g.2 n (Nat.lt_of_lt_of_le hn h.1)).1 k hk).trans ((h.2 n hn).1 k hk), (g.2 n (Nat.lt_of_lt_of_le hn h.1)).2.trans (h.2 n hn).2⟩⟩
theorem Qz.ft {S : List Nat} (f : Ft S σ σ') (h : [66, 67, 68, 69, 70, 71, 72].all (fun k => !S.contains k) = true) : Qz σ σ' := by
  have hf : ∀ k, k ∈ [66, 67, 68, 69, 70, 71, 72] → S.contains k = false := fun k hk => by
    have := List.all_eq_true.mp h k hk
    simpa using this
  refine ⟨by unfold tE; rw [(f 72 (hf 72 (by decide))).1]; exact Nat.le_refl _, fun n _ => ⟨fun k hk => ?_, (f 71 (hf 71 (by decide))).2.2.2 n⟩⟩
  exact (f k (hf k (by rcases hk with rfl | rfl | rfl | rfl | rfl <;> decide))).2.2.1 n
theorem Ek.rf (M : CM) : Ek M M := ⟨Fz.rf, Or.inl rfl, fun _ => rfl, fun _ _ => ⟨fun _ => rfl, fun _ _ => rfl⟩⟩
theorem Ek.tr (h : Ek M M1) (g : Ek M1 M2) : Ek M M2 := by
  obtain ⟨h1, h2, h3, h4⟩ := h
  obtain ⟨g1, g2, g3, g4⟩ := g
  have hn := h1.1
  refine ⟨h1.tr2 g1 (fun o ho z => ?_), ?_, fun k => (g3 k).trans (h3 k), fun a b => ?_⟩
  · rcases z with z | z | z | z
    · exact Or.inl z
    · exact Or.inr (Or.inl z)
    · rcases h2 with q | q
      · rw [q] at z; exact Or.inr (Or.inr (Or.inl z))
      · omega
    · rw [h3] at z; exact Or.inr (Or.inr (Or.inr z))
  · rcases g2 with q | q
    · rw [q]; exact h2
    · right; omega
  · obtain ⟨a1, a2⟩ := h4 a b
    have := g4 (by rw [h3]; omega) (by rw [h3]; exact b)
    rw [h3] at this
    exact ⟨fun k => (this.1 k).trans (a1 k), fun k hk => (this.2 k hk).trans (a2 k hk)⟩
theorem Ek.fz {X : Nat → Prop} (F : Fz X M M') (hX : ∀ o, o < mn M → X o → o = 90 ∧ ∀ g, mR M' g 90 = mR M g 90) (h95 : 95 < mn M) (h90 : ∀ g, mR M' g 90 = mR M g 90) : Ek M M' := by
  refine ⟨F.mono (fun o ho z => Or.inl (hX o ho z).1), Or.inl ((F.so h95 (fun z => absurd (hX 95 h95 z).1 (by decide))).r 4201), h90, fun a b => ?_⟩
  have s := F.so a (fun z => b (hX _ a z).1)
  exact ⟨fun g => s.r g, fun g _ => s.i g⟩
theorem Ee.rf (M : CM) (σ : TS) : Ee M σ M σ := ⟨Ek.rf M, ⟨Tz.rf σ, Qz.rf σ⟩, Ft.rf _ σ⟩
theorem Ee.tr (h : Ee M σ M1 σ1) (g : Ee M1 σ1 M2 σ2) : Ee M σ M2 σ2 := ⟨h.1.tr g.1, ⟨h.2.1.1.tr g.2.1.1, h.2.1.2.tr g.2.1.2⟩, h.2.2.tr g.2.2⟩
theorem Es.ek (E : Es M σ M' σ') (h : 167 ≤ mn M) : Ek M M' := Ek.fz E.1 (fun o _ z => ⟨z, E.2.1⟩) (by omega) E.2.1
theorem Es.ee (E : Es M σ M' σ') (h : 167 ≤ mn M) : Ee M σ M' σ' := ⟨E.ek h, ⟨E.2.2.2.1, Qz.ft E.2.2.2.2 (by decide)⟩, E.2.2.2.2.mono (by decide)⟩
/-- a step of the twin on equations -/
theorem Ee.tq {S : List Nat} (f : Ft S σ σ') (hS : S.all sFq.contains = true) (z : Tz σ σ') (q : Qz σ σ') : Ee M σ M σ' := ⟨Ek.rf M, ⟨z, q⟩, f.mono hS⟩
theorem Tz.tq (f : Ft txQ σ σ') : Tz σ σ' := Tz.ft f (by decide)
theorem Pe.tq (P : Pe C M σ i dep c s n) (f : Ft txQ σ σ') : Pe C M σ' i dep c s n := by
  obtain ⟨a1, a2, a3, a4, N, Q, ⟨a8, a9, a10⟩, a11, a12, a13⟩ := P
  refine ⟨a1.go (X := none_) Fz.rf (fun o z => absurd z (fun q => q)) rfl a1.2.2.1.2.1 a1.2.2.1.2.2 (a1.2.2.2.1.1.kp f rfl rfl) (a1.2.2.2.1.2.1.kp f rfl rfl) (by rw [(f 0 rfl).1]; exact a1.2.2.2.1.2.2.1) (by rw [(f 18 rfl).1]; exact a1.2.2.2.1.2.2.2) ?_ ?_, a2.fz (X := none_) Fz.rf (fun o z => absurd z (fun q => q)) rfl (fun w _ => rfl) f (by decide), ⟨a3.1, by rw [(f 20 rfl).1]; exact a3.2.1, a3.2.2⟩, a4, N, Q, ⟨by rw [(f 28 rfl).1]; exact a8, a9, a10⟩, by rw [(f 34 rfl).1]; exact a11, a12, a13⟩
  · obtain ⟨kd, s, b1, b2⟩ := a1.2.2.2.2.1
    refine ⟨kd, s, by rw [(f 11 rfl).1, (f 12 rfl).1]; exact b1, ?_⟩
    rw [(f 14 rfl).1, (f 15 rfl).1, (f 17 rfl).1, (f 16 rfl).2.1]; exact b2
  · rw [(f 10 rfl).1]; exact a1.2.2.2.2.2
-- faults
theorem Qb.rf (σ : TS) : Qb σ σ := fun m _ h => ⟨h, fun _ _ => ⟨fun _ _ => rfl, rfl⟩⟩
theorem Qb.tr (h : Qb σ σ1) (g : Qb σ1 σ2) : Qb σ σ2 := fun m h1 h2 => ⟨(g m h1 (h m h1 h2).1).1, fun n hn => ⟨fun k hk => (((g m h1 (h m h1 h2).1).2 n hn).1 k hk).trans (((h m h1 h2).2 n hn).1 k hk), (((g m h1 (h m h1 h2).1).2 n hn).2).trans (((h m h1 h2).2 n hn).2)⟩⟩
theorem Qz.b (h : Qz σ σ') : Qb σ σ' := fun m _ h2 => ⟨Nat.le_trans h2 h.1, fun n hn => h.2 n (Nat.lt_of_lt_of_le hn h2)⟩
theorem Fe.rf (σ : TS) : Fe σ σ := ⟨Ft.rf _ σ, Tz.rf σ, Qb.rf σ⟩
theorem Fe.tr (h : Fe σ σ1) (g : Fe σ1 σ2) : Fe σ σ2 := ⟨h.1.tr g.1, h.2.1.tr g.2.1, h.2.2.tr g.2.2⟩
theorem Fe.ft {S : List Nat} (f : Ft S σ σ') (hS : S.all sFq.contains = true) (h : [24, 25, 26, 27, 28, 29, 30, 31, 32, 33, 34].all (fun k => !S.contains k) = true) (h2 : [66, 67, 68, 69, 70, 71, 72].all (fun k => !S.contains k) = true) : Fe σ σ' := ⟨f.mono hS, Tz.ft f h, (Qz.ft f h2).b⟩
theorem Ee.fe (E : Ee M σ M' σ') : Fe σ σ' := ⟨E.2.2, E.2.1.1, E.2.1.2.b⟩
theorem Bre.rf (h : Bde C σ) : Bre C σ σ := ⟨rfl, rfl, h, Fe.rf σ⟩
theorem Bre.tr (h : Bre C σ σ1) (g : Bre C σ1 σ2) : Bre C σ σ2 := ⟨g.1.trans h.1, g.2.1.trans h.2.1, g.2.2.1, h.2.2.2.tr g.2.2.2⟩
theorem Bre.b (h : Bre C σ s1) : tI s1 0 ≠ 0 := h.2.2.1.1.1
theorem BWe.o {p : Option (α × TS)} (h : Bre C σ s1) (g : BW C s1 p) : BWe C σ p := by
  obtain ⟨r, s', e, b⟩ := g
  obtain ⟨E, e1, e2, e3⟩ := h.2.2.1.2
  exact ⟨r, s', e, h.tr ⟨b.1, b.2.1, ⟨b.2.2.1, E, by rw [(b.2.2.2.2 72 rfl).1]; exact e1, e2, e3⟩, b.2.2.2.2.mono (by decide), b.2.2.2.1, (Qz.ft b.2.2.2.2 (by decide)).b⟩⟩
theorem Bre.br (h : Bre C σ s1) : Br C s1 s1 := Br.rf h.2.2.1.1
theorem BWe.sm {r : α} (h : Bre C σ s1) : BWe C σ (some (r, s1)) := ⟨r, s1, rfl, h⟩
theorem BWe.bo {o : Option (α × TS)} {k : α → TS → Option (β × TS)} (h : BWe C σ o) (g : ∀ r s, Bre C σ s → BWe C σ (k r s)) : BWe C σ (ob o k) := by
  obtain ⟨r, s, rfl, hs⟩ := h
  exact g r s hs
theorem BWe.ite {c : Prop} [Decidable c] {a b : Option (α × TS)} (h1 : BWe C σ a) (h2 : BWe C σ b) : BWe C σ (if c then a else b) := by
  split
  · exact h1
  · exact h2
theorem BWe.isBad {A B : TS → Option (β × TS)} (h : Bre C σ s1) (g : BWe C σ (B s1)) : BWe C σ (ob (F_isBad s1) fun r s1 => if r = 0 then A s1 else B s1) := by
  rw [t_isBad1 h.b, ob_some, ifF (by decide)]; exact g
theorem Bre.ft {S : List Nat} (h : Bre C σ s1) (f : Ft S s1 σ') (hS : S.all [20, 35, 37, 73].contains = true) : Bre C σ σ' := by
  have f := f.mono hS
  obtain ⟨h1, h2, ⟨⟨b1, b2, b3, b4, b5⟩, E, e1, e2, e3⟩, h4⟩ := h
  exact ⟨by rw [(f 0 rfl).1]; exact h1, by rw [(f 1 rfl).1]; exact h2, ⟨⟨by rw [(f 0 rfl).1]; exact b1, b2.kp f rfl rfl, by rw [(f 10 rfl).1]; exact b3, by rw [(f 28 rfl).1]; exact b4, by rw [(f 34 rfl).1]; exact b5⟩, E, by rw [(f 72 rfl).1]; exact e1, e2, e3⟩, h4.tr (Fe.ft f (by decide) (by decide) (by decide))⟩
/-- a link, or a name, written at an equation made since -/
theorem Bre.wr {S : List Nat} {j : Nat} (h : Bre C σ s1) (hj : ∀ m, m ≤ 2400 → m ≤ tE σ → m ≤ j) (f : Ft S s1 σ') (hS : S.all [70, 71].contains = true) (hA : ∀ n, n ≠ j → tA σ' 70 n = tA s1 70 n) (hB : ∀ n, n ≠ j → tB σ' 71 n = tB s1 71 n) : Bre C σ σ' := by
  have f := f.mono hS
  obtain ⟨h1, h2, ⟨⟨b1, b2, b3, b4, b5⟩, E, e1, e2, e3⟩, h4, h5, h6⟩ := h
  refine ⟨by rw [(f 0 rfl).1]; exact h1, by rw [(f 1 rfl).1]; exact h2, ⟨⟨by rw [(f 0 rfl).1]; exact b1, b2.kp f rfl rfl, by rw [(f 10 rfl).1]; exact b3, by rw [(f 28 rfl).1]; exact b4, by rw [(f 34 rfl).1]; exact b5⟩, E, by rw [(f 72 rfl).1]; exact e1, e2, e3⟩, h4.tr (f.mono (by decide)), h5.tr (Tz.ft f (by decide)), fun m m1 m2 => ⟨?_, fun n hn => ⟨fun k hk => ?_, ?_⟩⟩⟩
  · show m ≤ ix (tI σ' 72)
    rw [(f 72 rfl).1]
    exact (h6 m m1 m2).1
  · have := hj m m1 m2
    by_cases q : k = 70
    · subst q
      rw [hA n (by omega)]; exact ((h6 m m1 m2).2 n hn).1 70 hk
    · rw [(f k (by rcases hk with rfl | rfl | rfl | rfl | rfl <;> first | rfl | exact absurd rfl q)).2.2.1]; exact ((h6 m m1 m2).2 n hn).1 k hk
  · have := hj m m1 m2
    rw [hB n (by omega)]; exact ((h6 m m1 m2).2 n hn).2
theorem Bre.a70 {j : Nat} {u : Int32} (h : Bre C σ s1) (hj : ∀ m, m ≤ 2400 → m ≤ tE σ → m ≤ j) : Bre C σ (tsA s1 70 j u) := h.wr hj ((Ft.rf [70] s1).p_tsA rfl) (by decide) (fun n hn => by rw [tA_tsA, ifF (by omega)]) (fun _ _ => rfl)
theorem Bre.b71 {j : Nat} {u : Int64} (h : Bre C σ s1) (hj : ∀ m, m ≤ 2400 → m ≤ tE σ → m ≤ j) : Bre C σ (tsB s1 71 j u) := h.wr hj ((Ft.rf [71] s1).p_tsB rfl) (by decide) (fun _ _ => rfl) (fun n hn => by rw [tB_tsB, ifF (by omega)])
/-- a new equation of the twin -/
def eqT (σ : TS) (E : Nat) (a b c d : Int32) : TS := tsI (tsA (tsA (tsA (tsA (tsA σ 66 E a) 67 E b) 68 E c) 69 E d) 70 E 0) 72 (nI (E + 1))
theorem j_eq {s : TS} {E : Nat} (h72 : tI s 72 = nI E) (hE : E < 3000) (a b c d : Int32) : J_eq_20 a b c d s = some (nI E, eqT s E a b c d) := by
  have hin : inb (nI E) 3000 := inb_nI' hE (by decide)
  have hix : ix (nI E) = E := ix_nI (by omega)
  unfold J_eq_20
  rw [h72, ifT hin, hix, nm_eq, show tI (tsA s 66 E a) 72 = nI E from h72, ifT hin, hix, nm_eq, show tI (tsA (tsA s 66 E a) 67 E b) 72 = nI E from h72, ifT hin, hix, nm_eq, show tI (tsA (tsA (tsA s 66 E a) 67 E b) 68 E c) 72 = nI E from h72, ifT hin, hix, nm_eq, show tI (tsA (tsA (tsA (tsA s 66 E a) 67 E b) 68 E c) 69 E d) 72 = nI E from h72, ifT hin, hix, nm_eq, show tI (tsA (tsA (tsA (tsA (tsA s 66 E a) 67 E b) 68 E c) 69 E d) 70 E 0) 72 = nI E from h72, nm_eq, nI_addL]
  have e1 : nI (E + 1) - 1 = nI E := by rw [show (1 : Int32) = nI 1 from rfl, nI_sub (by omega)]; rfl
  show some (nI (E + 1) - 1, _) = _
  rw [e1]
  rfl
theorem eqT_f (s : TS) (E : Nat) (a b c d : Int32) : Ft [66, 67, 68, 69, 70, 72] s (eqT s E a b c d) := ((((((Ft.rf [66, 67, 68, 69, 70, 72] s).p_tsA rfl).p_tsA rfl).p_tsA rfl).p_tsA rfl).p_tsA rfl).p_tsI rfl
theorem eqT_v (s : TS) (E : Nat) (a b c d : Int32) : tA (eqT s E a b c d) 66 E = a ∧ tA (eqT s E a b c d) 67 E = b ∧ tA (eqT s E a b c d) 68 E = c ∧ tA (eqT s E a b c d) 69 E = d ∧ tA (eqT s E a b c d) 70 E = 0 ∧ tI (eqT s E a b c d) 72 = nI (E + 1) ∧ ∀ k j, j ≠ E → tA (eqT s E a b c d) k j = tA s k j := by
  have h : ∀ k j, tA (eqT s E a b c d) k j = tA (tsA (tsA (tsA (tsA (tsA s 66 E a) 67 E b) 68 E c) 69 E d) 70 E 0) k j := fun _ _ => rfl
  refine ⟨?_, ?_, ?_, ?_, ?_, rfl, fun k j hj => ?_⟩
  · rw [h, tA_tsA, ifF (by omega), tA_tsA, ifF (by omega), tA_tsA, ifF (by omega), tA_tsA, ifF (by omega), tA_tsA, ifT ⟨rfl, rfl⟩]
  · rw [h, tA_tsA, ifF (by omega), tA_tsA, ifF (by omega), tA_tsA, ifF (by omega), tA_tsA, ifT ⟨rfl, rfl⟩]
  · rw [h, tA_tsA, ifF (by omega), tA_tsA, ifF (by omega), tA_tsA, ifT ⟨rfl, rfl⟩]
  · rw [h, tA_tsA, ifF (by omega), tA_tsA, ifT ⟨rfl, rfl⟩]
  · rw [h, tA_tsA, ifT ⟨rfl, rfl⟩]
  · rw [h, tA_tsA, ifF (by omega), tA_tsA, ifF (by omega), tA_tsA, ifF (by omega), tA_tsA, ifF (by omega), tA_tsA, ifF (by omega)]
theorem t_eq {s : TS} {E : Nat} (h72 : tI s 72 = nI E) (hE : E < 3000) (a b c d : Int32) : F_eq a b c d s = some (nI E, eqT s E a b c d) := by
  unfold F_eq
  rw [h72, ifF (show ¬ nI E = (3000 : Int32) from by rw [show (3000 : Int32) = nI 3000 from rfl, bI_eq (by omega) (by decide)]; omega)]
  exact j_eq h72 hE a b c d
theorem be_eq (h : Bre C σ s1) (a b c d : Int32) : ∃ k s', F_eq a b c d s1 = some (nI k, s') ∧ 1 ≤ k ∧ k < 3000 ∧ (∀ m, m ≤ 2400 → m ≤ tE σ → m ≤ k) ∧ Bre C σ s' := by
  obtain ⟨h1, h2, ⟨⟨b1, b2, b3, b4, b5⟩, E, e1, e2, e3⟩, h4, h5, h6⟩ := h
  have te1 : tE s1 = E := by unfold tE; rw [e1, ix_nI (by omega)]
  have fin : ∀ (s' : TS) (k : Nat), F_eq a b c d s1 = some (nI k, s') → 1 ≤ k → k < 3000 → (E ≤ k ∨ 2400 ≤ k) → tI s' 72 = nI (k + 1) → (∀ f n, n ≠ k → tA s' f n = tA s1 f n) → Ft [66, 67, 68, 69, 70, 72] s1 s' → ∃ k s', F_eq a b c d s1 = some (nI k, s') ∧ 1 ≤ k ∧ k < 3000 ∧ (∀ m, m ≤ 2400 → m ≤ tE σ → m ≤ k) ∧ Bre C σ s' := fun s' k e k1 k2 k3 e72 hA f =>
    ⟨k, s', e, k1, k2, fun m m1 m2 => by have := (h6 m m1 m2).1; omega, by rw [(f 0 rfl).1]; exact h1, by rw [(f 1 rfl).1]; exact h2, ⟨⟨by rw [(f 0 rfl).1]; exact b1, b2.kp f rfl rfl, by rw [(f 10 rfl).1]; exact b3, by rw [(f 28 rfl).1]; exact b4, by rw [(f 34 rfl).1]; exact b5⟩, k + 1, e72, by omega, by omega⟩, h4.tr (f.mono (by decide)), h5.tr (Tz.ft f (by decide)), h6.tr (fun m m1 m2 => ⟨by unfold tE; rw [e72, ix_nI (by omega)]; omega, fun n hn => ⟨fun g _ => hA g n (by omega), (f 71 rfl).2.2.2 n⟩⟩)⟩
  by_cases q : E = 3000
  · subst q
    refine fin _ 2999 ?_ (by decide) (by decide) (Or.inr (by decide)) (eqT_v (tsI s1 72 (nI 2999)) 2999 a b c d).2.2.2.2.2.1 (fun f n hn => (eqT_v (tsI s1 72 (nI 2999)) 2999 a b c d).2.2.2.2.2.2 f n hn) (((Ft.rf [66, 67, 68, 69, 70, 72] s1).p_tsI rfl).tr (eqT_f (tsI s1 72 (nI 2999)) 2999 a b c d))
    unfold F_eq
    rw [e1, ifT (show nI 3000 = (3000 : Int32) from rfl), nm_eq, show nI 3000 - 1 = nI 2999 from by decide]
    exact j_eq rfl (by decide) a b c d
  · exact fin _ E (t_eq e1 (by omega) a b c d) e2 (by omega) (Or.inl (Nat.le_refl _)) (eqT_v s1 E a b c d).2.2.2.2.2.1 (eqT_v s1 E a b c d).2.2.2.2.2.2 (eqT_f s1 E a b c d)
theorem BWe.eq {k : Int32 → TS → Option (β × TS)} (h : Bre C σ s1) (a b c d : Int32) (g : ∀ j s, 1 ≤ j → j < 3000 → (∀ m, m ≤ 2400 → m ≤ tE σ → m ≤ j) → Bre C σ s → BWe C σ (k (nI j) s)) : BWe C σ (ob (F_eq a b c d s1) k) := by
  obtain ⟨j, s', e, j1, j2, j3, hb⟩ := be_eq h a b c d
  rw [e, ob_some]
  exact g j s' j1 j2 j3 hb
theorem FBe.br {σ1 σ2 : TS} (h : FBe C M σ M' w σ1) (g : Bre C σ1 σ2) : FBe C M σ M' w σ2 := by
  obtain ⟨⟨a1, a2, a3, a4, a5⟩, e, f, c, b⟩ := h
  exact ⟨⟨a1, a2, by rw [g.1]; exact a3, by rw [g.2.1]; exact a4, by rw [g.1]; exact a5⟩, e, f.tr g.2.2.2, c, g.2.2.1⟩
theorem FBe.bd {σ1 : TS} (h : FBe C M σ M' w σ1) : Bre C σ1 σ1 := Bre.rf h.2.2.2.2
theorem FBe.tr (e : Ee M0 σ0 M σ) (h : FBe C M σ M' w σ') : FBe C M0 σ0 M' w σ' := ⟨h.1, ⟨e.1.tr h.2.1.1, h.2.1.2⟩, e.fe.tr h.2.2.1, h.2.2.2⟩
theorem FBe.a70 {σ1 : TS} {j : Nat} {u : Int32} (h : FBe C M σ M' w σ1) (hj : ∀ m, m ≤ 2400 → m ≤ tE σ → m ≤ j) : FBe C M σ M' w (tsA σ1 70 j u) := by
  obtain ⟨h1, h2, ⟨f1, f2, f3⟩, h4, ⟨⟨b1, b2, b3⟩, b4⟩⟩ := h
  have f : Ft [70] σ1 (tsA σ1 70 j u) := (Ft.rf [70] σ1).p_tsA rfl
  refine ⟨h1, h2, ⟨f1.tr (f.mono (by decide)), f2.tr (Tz.ft f (by decide)), fun m m1 m2 => ⟨(f3 m m1 m2).1, fun n hn => ⟨fun k hk => ?_, ((f3 m m1 m2).2 n hn).2⟩⟩⟩, h4, ⟨b1, b2.kp f rfl rfl, b3⟩, b4⟩
  rw [tA_tsA, ifF (by have := hj m m1 m2; omega)]
  exact ((f3 m m1 m2).2 n hn).1 k hk
theorem FBe.ko {σ1 : TS} {p : Option (β × TS)} (h : FBe C M σ M' w σ1) (g : BWe C σ1 p) : Koe C M σ (some ((.inr w : α ⊕ Nat), M')) p := by
  obtain ⟨y, σ2, rfl, g⟩ := g
  exact ⟨w, M', y, σ2, rfl, rfl, h.br g⟩
theorem Koe.tr {o : Option ((α ⊕ Nat) × CM)} {p : Option (β × TS)} (e : Ee M0 σ0 M σ) (h : Koe C M σ o p) : Koe C M0 σ0 o p := by
  obtain ⟨w, M', y, σ', h1, h2, h3⟩ := h
  exact ⟨w, M', y, σ', h1, h2, h3.tr e⟩
end EQS
