/-! Layer B: running: what is kept, and the way back to it -/
set_option maxRecDepth 100000
abbrev kpI : List Nat := [800]
abbrev kpA : List Nat := [152, 153, 154, 155, 156, 157]
abbrev kpT (s : Nat) : List Nat := [228, 229, 230, 231, 232, 233, 234]
/-- what is kept is alike (parameters: it is what they are) -/
def KeR (s V U Wn : Nat) (D : FQ) (M : CM) (σ : TS) : Prop :=
  mI M 800 151 = tA σ 232 s ∧ (∀ u, u < U → mA M 152 u = tA σ 228 (s * 200 + u) ∧ mA M 153 u = tA σ 229 (s * 200 + u)) ∧
  (∀ v, v < V → (tA σ 94 v = 1 → mA M 154 v = mI M 3213 ((pl D 98).getD v 0)) ∧ (tA σ 94 v = 2 → mA M 154 v = tA σ 230 (s * 96 + v) ∧ mA M 155 v = tA σ 231 (s * 96 + v))) ∧
  (∀ r, r < 24 → nI r < tI σ 154 → mA M 156 r = tA σ 233 (s * 24 + r) ∧ (mA M 156 r = 0 ∨ mA M 156 r = 1)) ∧ ∀ w, w < Wn → mA M 157 w = tA σ 234 (s * 12 + w) ∧ (mA M 157 w = 0 ∨ mA M 157 w = 1)
section KEEP
variable {C : PC} {B : Nat} {P : Nat → Prop} {mss fss : List Nat} {V U S q A Wn K1 K2 N e r w v u j m kf tf : Nat} {D : FQ} {M M' M1 : CM} {σ σ' s : TS} {x x2 y : Int32}
theorem nZ_b {x : Int32} (h : x = 0 ∨ x = 1) : nZ x = x := by
  rcases h with rfl | rfl <;> decide
theorem RnW.wn (w : RnW C B P mss fss V U S q A Wn K1 K2 N D M σ) {k : Nat} (hk : k < Wn) : mk M ((pl D 113).getD k 0) = 20 ∧ K_J2_get 113 (nI k) M = some ((pl D 113).getD k 0, M) ∧ TZ (tgof D ((pl D 113).getD k 0)) ∧ 167 ≤ (pl D 113).getD k 0 := by
  obtain ⟨-, -, -, -, ⟨-, W12, Wl⟩, -⟩ := w.st
  have W := w.1
  obtain ⟨a1, a2, a3⟩ := W.2.1.2.1 113 (by decide) k (by omega)
  have := (W.2.1.1 113 (by decide)).2.2
  have fx : flX 113 = 12 := rfl
  exact ⟨a1, ls_get (W.2.1.1 113 (by decide)).1 (by omega), by rw [tgo_d a2.1, a3]; unfold TZ tg; omega, a2.1⟩
theorem RnW.ar (w : RnW C B P mss fss V U S q A Wn K1 K2 N D M σ) {a : Nat × Nat × Nat} (ha : a ∈ bfK) : mk M a.1 = a.2.1 ∧ ml M a.1 = a.2.2 := w.1.2.2.2.1.1 a ha
/-- a loop that can't fail -/
theorem loopT {L : Nat → Int32 → TS → Option (Unit × TS)} {X : Nat} (J : Nat → TS → Prop) (hE : ∀ n σ, J X σ → L (n + 1) (nI X) σ = some ((), σ)) (hS : ∀ n i σ, i < X → J i σ → ∃ σ', L (n + 1) (nI i) σ = L n (nI (i + 1)) σ' ∧ J (i + 1) σ') : ∀ (m i tf : Nat) (σ : TS), i + m = X → m < tf → J i σ → ∃ σ', L tf (nI i) σ = some ((), σ') ∧ J X σ' := by
  intro m
  induction m with
  | zero =>
    intro i tf σ e ht j
    obtain ⟨tf, rfl⟩ : ∃ g, tf = g + 1 := ⟨tf - 1, by omega⟩
    have : i = X := by omega
    subst this
    exact ⟨σ, hE tf σ j, j⟩
  | succ m ih =>
    intro i tf σ e ht j
    obtain ⟨tf, rfl⟩ : ∃ g, tf = g + 1 := ⟨tf - 1, by omega⟩
    obtain ⟨σ1, e1, j1⟩ := hS tf i σ (by omega) j
    obtain ⟨σ', e2, j2⟩ := ih (i + 1) tf σ1 (by omega) (by omega) j1
    exact ⟨σ', e1.trans e2, j2⟩
theorem loopK {L : Nat → Int32 → CM → Option (Unit × CM)} {X : Nat} (J : Nat → CM → Prop) (hE : ∀ n M, J X M → L (n + 1) (nI X) M = some ((), M)) (hS : ∀ n i M, i < X → J i M → ∃ M', L (n + 1) (nI i) M = L n (nI (i + 1)) M' ∧ J (i + 1) M') : ∀ (m i tf : Nat) (M : CM), i + m = X → m < tf → J i M → ∃ M', L tf (nI i) M = some ((), M') ∧ J X M' := by
  intro m
  induction m with
  | zero =>
    intro i tf M e ht j
    obtain ⟨tf, rfl⟩ : ∃ g, tf = g + 1 := ⟨tf - 1, by omega⟩
    have : i = X := by omega
    subst this
    exact ⟨M, hE tf M j, j⟩
  | succ m ih =>
    intro i tf M e ht j
    obtain ⟨tf, rfl⟩ : ∃ g, tf = g + 1 := ⟨tf - 1, by omega⟩
    obtain ⟨M1, e1, j1⟩ := hS tf i M (by omega) j
    obtain ⟨M', e2, j2⟩ := ih (i + 1) tf M1 (by omega) (by omega) j1
    exact ⟨M', e1.trans e2, j2⟩
/-- the row a (from b, both halves of X places) is written in half s up to i -/
def HfW (a b s X i : Nat) (g : Int32 → Int32) (σ0 σ : TS) : Prop := (∀ u, u < i → tA σ a (s * X + u) = g (tA σ0 b u)) ∧ ∀ k, (k < s * X ∨ (s + 1) * X ≤ k) → tA σ a k = tA σ0 a k
theorem HfW.st {a b s X i : Nat} {g : Int32 → Int32} {σ0 σ : TS} (h : HfW a b s X i g σ0 σ) (hi : i < X) {z : Int32} (hz : z = g (tA σ0 b i)) : HfW a b s X (i + 1) g σ0 (tsA σ a (s * X + i) z) := by
  have hs : (s + 1) * X = s * X + X := Nat.succ_mul s X
  refine ⟨fun u hu => ?_, fun k hk => ?_⟩
  · rw [tA_tsA]
    by_cases y : u = i
    · rw [ifT ⟨rfl, by rw [y]⟩, hz, y]
    · rw [ifF (fun q => y (by omega))]; exact h.1 u (by omega)
  · rw [tA_tsA, ifF (fun q => by omega)]; exact h.2 k hk
theorem HfW.ot {a b s X i c k : Nat} {g : Int32 → Int32} {σ0 σ : TS} {z : Int32} (h : HfW a b s X i g σ0 σ) (hc : c ≠ a) : HfW a b s X i g σ0 (tsA σ c k z) := ⟨fun u hu => by rw [tA_tsA, ifF (fun q => hc q.1.symm)]; exact h.1 u hu, fun j hj => by rw [tA_tsA, ifF (fun q => hc q.1.symm)]; exact h.2 j hj⟩
theorem p1n (i : Nat) : nI i + 1 = nI (i + 1) := by rw [show (1 : Int32) = nI 1 from rfl, bI_add]
theorem t_keep12 (hU : U ≤ 180) (k : Nat) (hs : k ≤ 1) (h : tI σ 197 = nI U) : ∃ σ', L_keep_12 FU (nI k) (nI 0) σ = some ((), σ') ∧ Ft [228, 229] σ σ' ∧ HfW 228 166 k 200 U id σ σ' ∧ HfW 229 167 k 200 U id σ σ' := by
  have fu : 1000 < FU := by unfold FU; decide
  refine loopT (L := fun n i s => L_keep_12 n (nI k) i s) (X := U) (fun i σ' => Ft [228, 229] σ σ' ∧ HfW 228 166 k 200 i id σ σ' ∧ HfW 229 167 k 200 i id σ σ') (fun n s ⟨f, _⟩ => ?_) (fun n i s hi ⟨f, h1, h2⟩ => ?_) U 0 FU σ (by omega) (by omega) ⟨Ft.rf _ σ, ⟨fun u hu => by omega, fun _ _ => rfl⟩, fun u hu => by omega, fun _ _ => rfl⟩
  · have t : tI s 197 ≤ nI U := by rw [(f 197 rfl).1, h, bI_le (by omega) (by omega)]; omega
    show L_keep_12 (n + 1) (nI k) (nI U) s = _
    rw [L_keep_12, ifT t]
  · have t : ¬ tI s 197 ≤ nI i := by rw [(f 197 rfl).1, h, bI_le (by omega) (by omega)]; omega
    have e2 : nI k * (200 : Int32) + nI i = nI (k * 200 + i) := by rw [show (200 : Int32) = nI 200 from rfl, nI_mul, bI_add]
    have i1 : inb (nI i) 200 := inb_nI' (by omega) (by decide)
    have i2 : inb (nI (k * 200 + i)) 400 := inb_nI' (by omega) (by decide)
    refine ⟨_, by show L_keep_12 (n + 1) (nI k) (nI i) s = _; rw [L_keep_12, ifF t, ifT i1, e2, ifT i2, ix_nI (by omega), ix_nI (by omega), nm_eq, ifT i1, ifT i2, nm_eq, nm_eq, p1n], (f.p_tsA rfl).p_tsA rfl, (h1.st (by omega) (by rw [(f 166 rfl).2.2.1]; rfl)).ot (by decide), (h2.ot (by decide)).st (by omega) ?_⟩
    rw [tA_tsA, ifF (fun z => by omega), (f 167 rfl).2.2.1]; rfl
theorem t_keep64 (hV : V ≤ 96) (k : Nat) (hs : k ≤ 1) (h : tI σ 107 = nI V) : ∃ σ', L_keep_64 FU (nI k) (nI 0) σ = some ((), σ') ∧ Ft [230, 231] σ σ' ∧ HfW 230 168 k 96 V id σ σ' ∧ HfW 231 169 k 96 V id σ σ' := by
  have fu : 1000 < FU := by unfold FU; decide
  refine loopT (L := fun n i s => L_keep_64 n (nI k) i s) (X := V) (fun i σ' => Ft [230, 231] σ σ' ∧ HfW 230 168 k 96 i id σ σ' ∧ HfW 231 169 k 96 i id σ σ') (fun n s ⟨f, _⟩ => ?_) (fun n i s hi ⟨f, h1, h2⟩ => ?_) V 0 FU σ (by omega) (by omega) ⟨Ft.rf _ σ, ⟨fun u hu => by omega, fun _ _ => rfl⟩, fun u hu => by omega, fun _ _ => rfl⟩
  · have t : tI s 107 ≤ nI V := by rw [(f 107 rfl).1, h, bI_le (by omega) (by omega)]; omega
    show L_keep_64 (n + 1) (nI k) (nI V) s = _
    rw [L_keep_64, ifT t]
  · have t : ¬ tI s 107 ≤ nI i := by rw [(f 107 rfl).1, h, bI_le (by omega) (by omega)]; omega
    have e2 : nI k * (96 : Int32) + nI i = nI (k * 96 + i) := by rw [show (96 : Int32) = nI 96 from rfl, nI_mul, bI_add]
    have i1 : inb (nI i) 96 := inb_nI' (by omega) (by decide)
    have i2 : inb (nI (k * 96 + i)) 192 := inb_nI' (by omega) (by decide)
    refine ⟨_, by show L_keep_64 (n + 1) (nI k) (nI i) s = _; rw [L_keep_64, ifF t, ifT i1, e2, ifT i2, ix_nI (by omega), ix_nI (by omega), nm_eq, ifT i1, ifT i2, nm_eq, nm_eq, p1n], (f.p_tsA rfl).p_tsA rfl, (h1.st (by omega) (by rw [(f 168 rfl).2.2.1]; rfl)).ot (by decide), (h2.ot (by decide)).st (by omega) ?_⟩
    rw [tA_tsA, ifF (fun z => by omega), (f 169 rfl).2.2.1]; rfl
theorem t_keep114 (hq : q ≤ 24) (k : Nat) (hs : k ≤ 1) (h : tI σ 154 = nI q) : ∃ σ', L_keep_114 FU (nI k) (nI 0) σ = some ((), σ') ∧ Ft [233] σ σ' ∧ HfW 233 163 k 24 q nZ σ σ' := by
  have fu : 1000 < FU := by unfold FU; decide
  refine loopT (L := fun n i s => L_keep_114 n (nI k) i s) (X := q) (fun i σ' => Ft [233] σ σ' ∧ HfW 233 163 k 24 i nZ σ σ') (fun n s ⟨f, _⟩ => ?_) (fun n i s hi ⟨f, h1⟩ => ?_) q 0 FU σ (by omega) (by omega) ⟨Ft.rf _ σ, fun u hu => by omega, fun _ _ => rfl⟩
  · have t : tI s 154 ≤ nI q := by rw [(f 154 rfl).1, h, bI_le (by omega) (by omega)]; omega
    show L_keep_114 (n + 1) (nI k) (nI q) s = _
    rw [L_keep_114, ifT t]
  · have t : ¬ tI s 154 ≤ nI i := by rw [(f 154 rfl).1, h, bI_le (by omega) (by omega)]; omega
    have e2 : nI k * (24 : Int32) + nI i = nI (k * 24 + i) := by rw [show (24 : Int32) = nI 24 from rfl, nI_mul, bI_add]
    have i1 : inb (nI i) 24 := inb_nI' (by omega) (by decide)
    have i2 : inb (nI (k * 24 + i)) 48 := inb_nI' (by omega) (by decide)
    exact ⟨_, by show L_keep_114 (n + 1) (nI k) (nI i) s = _; rw [L_keep_114, ifF t, ifT i1, e2, ifT i2, ix_nI (by omega), ix_nI (by omega), nm_eq, nm_eq, p1n], f.p_tsA rfl, h1.st (by omega) (by rw [(f 163 rfl).2.2.1])⟩
theorem t_keep147 (hW : Wn ≤ 12) (k : Nat) (hs : k ≤ 1) (h : tI σ 148 = nI Wn) : ∃ σ', L_keep_147 FU (nI k) (nI 0) σ = some ((), σ') ∧ Ft [234] σ σ' ∧ HfW 234 235 k 12 Wn nZ σ σ' := by
  have fu : 1000 < FU := by unfold FU; decide
  refine loopT (L := fun n i s => L_keep_147 n (nI k) i s) (X := Wn) (fun i σ' => Ft [234] σ σ' ∧ HfW 234 235 k 12 i nZ σ σ') (fun n s ⟨f, _⟩ => ?_) (fun n i s hi ⟨f, h1⟩ => ?_) Wn 0 FU σ (by omega) (by omega) ⟨Ft.rf _ σ, fun u hu => by omega, fun _ _ => rfl⟩
  · have t : tI s 148 ≤ nI Wn := by rw [(f 148 rfl).1, h, bI_le (by omega) (by omega)]; omega
    show L_keep_147 (n + 1) (nI k) (nI Wn) s = _
    rw [L_keep_147, ifT t]
  · have t : ¬ tI s 148 ≤ nI i := by rw [(f 148 rfl).1, h, bI_le (by omega) (by omega)]; omega
    have e2 : nI k * (12 : Int32) + nI i = nI (k * 12 + i) := by rw [show (12 : Int32) = nI 12 from rfl, nI_mul, bI_add]
    have i1 : inb (nI i) 12 := inb_nI' (by omega) (by decide)
    have i2 : inb (nI (k * 12 + i)) 24 := inb_nI' (by omega) (by decide)
    exact ⟨_, by show L_keep_147 (n + 1) (nI k) (nI i) s = _; rw [L_keep_147, ifF t, ifT i1, e2, ifT i2, ix_nI (by omega), ix_nI (by omega), nm_eq, nm_eq, p1n], f.p_tsA rfl, h1.st (by omega) (by rw [(f 235 rfl).2.2.1])⟩
/-- the twin keeps: what stands then in half k -/
def TkR (k U V q Wn : Nat) (σ0 σ : TS) : Prop := (tA σ 232 k = tI σ0 165 ∧ ∀ j, j ≠ k → tA σ 232 j = tA σ0 232 j) ∧ (HfW 228 166 k 200 U id σ0 σ ∧ HfW 229 167 k 200 U id σ0 σ) ∧ (HfW 230 168 k 96 V id σ0 σ ∧ HfW 231 169 k 96 V id σ0 σ) ∧ HfW 233 163 k 24 q nZ σ0 σ ∧ HfW 234 235 k 12 Wn nZ σ0 σ
theorem HfW.fr {a b s X i : Nat} {g : Int32 → Int32} {σ0 σ1 σ2 σ3 : TS} {S1 S2 : List Nat} (h : HfW a b s X i g σ1 σ2) (f1 : Ft S1 σ0 σ1) (f2 : Ft S2 σ2 σ3) (h1 : S1.contains a = false) (h2 : S1.contains b = false) (h3 : S2.contains a = false) : HfW a b s X i g σ0 σ3 := ⟨fun u hu => by rw [(f2 a h3).2.2.1, h.1 u hu, (f1 b h2).2.2.1], fun k hk => by rw [(f2 a h3).2.2.1, h.2 k hk, (f1 a h1).2.2.1]⟩
theorem t_keep (hU : U ≤ 180) (hV : V ≤ 96) (hq : q ≤ 24) (hW : Wn ≤ 12) (k : Nat) (hs : k ≤ 1) (h1 : tI σ 197 = nI U) (h2 : tI σ 107 = nI V) (h3 : tI σ 154 = nI q) (h4 : tI σ 148 = nI Wn) : ∃ σ', F_keep (nI k) σ = some ((), σ') ∧ Ft [228, 229, 230, 231, 232, 233, 234] σ σ' ∧ TkR k U V q Wn σ σ' := by
  have ik : inb (nI k) 2 := inb_nI' (by omega) (by decide)
  obtain ⟨σ0, hσ0⟩ : ∃ X, X = tsA σ 232 k (tI σ 165) := ⟨_, rfl⟩
  have f0 : Ft [232] σ σ0 := by rw [hσ0]; exact (Ft.rf _ σ).p_tsA rfl
  obtain ⟨σ1, a1, a2, a3, a4⟩ := t_keep12 hU k hs ((f0 197 rfl).1.trans h1)
  have f1 := (f0.mono (S' := [228, 229, 232]) (by decide)).tr (a2.mono (by decide))
  obtain ⟨σ2, b1, b2, b3, b4⟩ := t_keep64 hV k hs ((f1 107 rfl).1.trans h2)
  have f2 := (f1.mono (S' := [228, 229, 230, 231, 232]) (by decide)).tr (b2.mono (by decide))
  obtain ⟨σ3, c1, c2, c3⟩ := t_keep114 hq k hs ((f2 154 rfl).1.trans h3)
  have f3 := (f2.mono (S' := [228, 229, 230, 231, 232, 233]) (by decide)).tr (c2.mono (by decide))
  obtain ⟨σ4, d1, d2, d3⟩ := t_keep147 hW k hs ((f3 148 rfl).1.trans h4)
  have f4 := (f3.mono (S' := [228, 229, 230, 231, 232, 233, 234]) (by decide)).tr (d2.mono (by decide))
  have g3 : Ft [233, 234] σ2 σ4 := (c2.mono (by decide)).tr (d2.mono (by decide))
  have g2 : Ft [230, 231, 233, 234] σ1 σ4 := (b2.mono (by decide)).tr (g3.mono (by decide))
  have g1 : Ft [228, 229, 230, 231, 233, 234] σ0 σ4 := (a2.mono (by decide)).tr (g2.mono (by decide))
  refine ⟨σ4, ?_, f4, ⟨?_, fun j hj => ?_⟩, ⟨a3.fr f0 g2 rfl rfl rfl, a4.fr f0 g2 rfl rfl rfl⟩, ⟨b3.fr f1 g3 rfl rfl rfl, b4.fr f1 g3 rfl rfl rfl⟩, c3.fr f2 d2 rfl rfl rfl, d3.fr f3 (Ft.rf [] σ4) rfl rfl rfl⟩
  · unfold F_keep
    rw [ifT ik, ix_nI (by omega), nm_eq, ← hσ0, show L_keep_12 FU (nI k) 0 σ0 = _ from a1, ob_some, show L_keep_64 FU (nI k) 0 σ1 = _ from b1, ob_some, show L_keep_114 FU (nI k) 0 σ2 = _ from c1, ob_some, show L_keep_147 FU (nI k) 0 σ3 = _ from d1, ob_some]
  · rw [(g1 232 rfl).2.2.1, hσ0, tA_tsA, ifT ⟨rfl, rfl⟩]
  · rw [(g1 232 rfl).2.2.1, hσ0, tA_tsA, ifF (fun z => hj z.2)]
end KEEP
