/-! Layer B: running: keeping and going back, both sides -/
set_option maxRecDepth 100000
/-- a row a is b's half s, up to i -/
def HfB (a b s X i : Nat) (g : Int32 → Int32) (σ0 σ : TS) : Prop := ∀ u, u < i → tA σ a u = g (tA σ0 b (s * X + u))
section BACK2
variable {C : PC} {B : Nat} {P : Nat → Prop} {mss fss : List Nat} {V U S q A Wn K1 K2 N e r w v u j m kf tf a b i n k : Nat} {D : FQ} {M M' M1 : CM} {σ σ' σ0 σ1 σ2 σ3 s : TS} {x x2 y : Int32} {I A0 S1 S2 : List Nat}
theorem HfB.st {a b s X i : Nat} {g : Int32 → Int32} (h : HfB a b s X i g σ0 σ) {z : Int32} (hz : z = g (tA σ0 b (s * X + i))) : HfB a b s X (i + 1) g σ0 (tsA σ a i z) := fun u hu => by
  rw [tA_tsA]
  by_cases y : u = i
  · rw [ifT ⟨rfl, y⟩, hz, y]
  · rw [ifF (fun q => y q.2)]; exact h u (by omega)
theorem HfB.ot {a b s X i c k : Nat} {g : Int32 → Int32} {z : Int32} (h : HfB a b s X i g σ0 σ) (hc : c ≠ a) : HfB a b s X i g σ0 (tsA σ c k z) := fun u hu => by rw [tA_tsA, ifF (fun q => hc q.1.symm)]; exact h u hu
theorem HfB.fr {a b s X i : Nat} {g : Int32 → Int32} (h : HfB a b s X i g σ1 σ2) (f1 : Ft S1 σ0 σ1) (f2 : Ft S2 σ2 σ3) (h2 : S1.contains b = false) (h3 : S2.contains a = false) : HfB a b s X i g σ0 σ3 := fun u hu => by rw [(f2 a h3).2.2.1, h u hu, (f1 b h2).2.2.1]
theorem t_back12 (hU : U ≤ 180) (k : Nat) (hs : k ≤ 1) (h : tI σ 197 = nI U) : ∃ σ', L_back_12 FU (nI k) (nI 0) σ = some ((), σ') ∧ Ft [166, 167] σ σ' ∧ HfB 166 228 k 200 U id σ σ' ∧ HfB 167 229 k 200 U id σ σ' := by
  have fu : 1000 < FU := by unfold FU; decide
  refine loopT (L := fun n i s => L_back_12 n (nI k) i s) (X := U) (fun i σ' => Ft [166, 167] σ σ' ∧ HfB 166 228 k 200 i id σ σ' ∧ HfB 167 229 k 200 i id σ σ') (fun n s ⟨f, _⟩ => ?_) (fun n i s hi ⟨f, h1, h2⟩ => ?_) U 0 FU σ (by omega) (by omega) ⟨Ft.rf _ σ, fun u hu => by omega, fun u hu => by omega⟩
  · have t : tI s 197 ≤ nI U := by rw [(f 197 rfl).1, h, bI_le (by omega) (by omega)]; omega
    show L_back_12 (n + 1) (nI k) (nI U) s = _
    rw [L_back_12, ifT t]
  · have t : ¬ tI s 197 ≤ nI i := by rw [(f 197 rfl).1, h, bI_le (by omega) (by omega)]; omega
    have e2 : nI k * (200 : Int32) + nI i = nI (k * 200 + i) := by rw [show (200 : Int32) = nI 200 from rfl, nI_mul, bI_add]
    have i1 : inb (nI i) 200 := inb_nI' (by omega) (by decide)
    have i2 : inb (nI (k * 200 + i)) 400 := inb_nI' (by omega) (by decide)
    refine ⟨_, by show L_back_12 (n + 1) (nI k) (nI i) s = _; rw [L_back_12, ifF t, e2, ifT i2, ifT i1, ix_nI (by omega), ix_nI (by omega), nm_eq, ifT i2, ifT i1, nm_eq, nm_eq, p1n], (f.p_tsA rfl).p_tsA rfl, (h1.st (by rw [(f 228 rfl).2.2.1]; rfl)).ot (by decide), (h2.ot (by decide)).st ?_⟩
    rw [tA_tsA, ifF (fun z => by omega), (f 229 rfl).2.2.1]; rfl
theorem t_back64 (hV : V ≤ 96) (k : Nat) (hs : k ≤ 1) (h : tI σ 107 = nI V) : ∃ σ', L_back_64 FU (nI k) (nI 0) σ = some ((), σ') ∧ Ft [168, 169] σ σ' ∧ HfB 168 230 k 96 V id σ σ' ∧ HfB 169 231 k 96 V id σ σ' := by
  have fu : 1000 < FU := by unfold FU; decide
  refine loopT (L := fun n i s => L_back_64 n (nI k) i s) (X := V) (fun i σ' => Ft [168, 169] σ σ' ∧ HfB 168 230 k 96 i id σ σ' ∧ HfB 169 231 k 96 i id σ σ') (fun n s ⟨f, _⟩ => ?_) (fun n i s hi ⟨f, h1, h2⟩ => ?_) V 0 FU σ (by omega) (by omega) ⟨Ft.rf _ σ, fun u hu => by omega, fun u hu => by omega⟩
  · have t : tI s 107 ≤ nI V := by rw [(f 107 rfl).1, h, bI_le (by omega) (by omega)]; omega
    show L_back_64 (n + 1) (nI k) (nI V) s = _
    rw [L_back_64, ifT t]
  · have t : ¬ tI s 107 ≤ nI i := by rw [(f 107 rfl).1, h, bI_le (by omega) (by omega)]; omega
    have e2 : nI k * (96 : Int32) + nI i = nI (k * 96 + i) := by rw [show (96 : Int32) = nI 96 from rfl, nI_mul, bI_add]
    have i1 : inb (nI i) 96 := inb_nI' (by omega) (by decide)
    have i2 : inb (nI (k * 96 + i)) 192 := inb_nI' (by omega) (by decide)
    refine ⟨_, by show L_back_64 (n + 1) (nI k) (nI i) s = _; rw [L_back_64, ifF t, e2, ifT i2, ifT i1, ix_nI (by omega), ix_nI (by omega), nm_eq, ifT i2, ifT i1, nm_eq, nm_eq, p1n], (f.p_tsA rfl).p_tsA rfl, (h1.st (by rw [(f 230 rfl).2.2.1]; rfl)).ot (by decide), (h2.ot (by decide)).st ?_⟩
    rw [tA_tsA, ifF (fun z => by omega), (f 231 rfl).2.2.1]; rfl
theorem t_back114 (hq : q ≤ 24) (k : Nat) (hs : k ≤ 1) (h : tI σ 154 = nI q) : ∃ σ', L_back_114 FU (nI k) (nI 0) σ = some ((), σ') ∧ Ft [163] σ σ' ∧ HfB 163 233 k 24 q nZ σ σ' := by
  have fu : 1000 < FU := by unfold FU; decide
  refine loopT (L := fun n i s => L_back_114 n (nI k) i s) (X := q) (fun i σ' => Ft [163] σ σ' ∧ HfB 163 233 k 24 i nZ σ σ') (fun n s ⟨f, _⟩ => ?_) (fun n i s hi ⟨f, h1⟩ => ?_) q 0 FU σ (by omega) (by omega) ⟨Ft.rf _ σ, fun u hu => by omega⟩
  · have t : tI s 154 ≤ nI q := by rw [(f 154 rfl).1, h, bI_le (by omega) (by omega)]; omega
    show L_back_114 (n + 1) (nI k) (nI q) s = _
    rw [L_back_114, ifT t]
  · have t : ¬ tI s 154 ≤ nI i := by rw [(f 154 rfl).1, h, bI_le (by omega) (by omega)]; omega
    have e2 : nI k * (24 : Int32) + nI i = nI (k * 24 + i) := by rw [show (24 : Int32) = nI 24 from rfl, nI_mul, bI_add]
    have i1 : inb (nI i) 24 := inb_nI' (by omega) (by decide)
    have i2 : inb (nI (k * 24 + i)) 48 := inb_nI' (by omega) (by decide)
    exact ⟨_, by show L_back_114 (n + 1) (nI k) (nI i) s = _; rw [L_back_114, ifF t, e2, ifT i2, ifT i1, ix_nI (by omega), ix_nI (by omega), nm_eq, nm_eq, p1n], f.p_tsA rfl, h1.st (by rw [(f 233 rfl).2.2.1])⟩
theorem t_back147 (hW : Wn ≤ 12) (k : Nat) (hs : k ≤ 1) (h : tI σ 148 = nI Wn) : ∃ σ', L_back_147 FU (nI k) (nI 0) σ = some ((), σ') ∧ Ft [235] σ σ' ∧ HfB 235 234 k 12 Wn nZ σ σ' := by
  have fu : 1000 < FU := by unfold FU; decide
  refine loopT (L := fun n i s => L_back_147 n (nI k) i s) (X := Wn) (fun i σ' => Ft [235] σ σ' ∧ HfB 235 234 k 12 i nZ σ σ') (fun n s ⟨f, _⟩ => ?_) (fun n i s hi ⟨f, h1⟩ => ?_) Wn 0 FU σ (by omega) (by omega) ⟨Ft.rf _ σ, fun u hu => by omega⟩
  · have t : tI s 148 ≤ nI Wn := by rw [(f 148 rfl).1, h, bI_le (by omega) (by omega)]; omega
    show L_back_147 (n + 1) (nI k) (nI Wn) s = _
    rw [L_back_147, ifT t]
  · have t : ¬ tI s 148 ≤ nI i := by rw [(f 148 rfl).1, h, bI_le (by omega) (by omega)]; omega
    have e2 : nI k * (12 : Int32) + nI i = nI (k * 12 + i) := by rw [show (12 : Int32) = nI 12 from rfl, nI_mul, bI_add]
    have i1 : inb (nI i) 12 := inb_nI' (by omega) (by decide)
    have i2 : inb (nI (k * 12 + i)) 24 := inb_nI' (by omega) (by decide)
    exact ⟨_, by show L_back_147 (n + 1) (nI k) (nI i) s = _; rw [L_back_147, ifF t, e2, ifT i2, ifT i1, ix_nI (by omega), ix_nI (by omega), nm_eq, nm_eq, p1n], f.p_tsA rfl, h1.st (by rw [(f 234 rfl).2.2.1])⟩
abbrev bckT : List Nat := [163, 165, 166, 167, 168, 169, 235]
theorem t_back (hU : U ≤ 180) (hV : V ≤ 96) (hq : q ≤ 24) (hW : Wn ≤ 12) (k : Nat) (hs : k ≤ 1) (h1 : tI σ 197 = nI U) (h2 : tI σ 107 = nI V) (h3 : tI σ 154 = nI q) (h4 : tI σ 148 = nI Wn) : ∃ σ', F_back (nI k) σ = some ((), σ') ∧ Ft bckT σ σ' ∧ tI σ' 165 = tA σ 232 k ∧ (HfB 166 228 k 200 U id σ σ' ∧ HfB 167 229 k 200 U id σ σ') ∧ (HfB 168 230 k 96 V id σ σ' ∧ HfB 169 231 k 96 V id σ σ') ∧ HfB 163 233 k 24 q nZ σ σ' ∧ HfB 235 234 k 12 Wn nZ σ σ' := by
  have ik : inb (nI k) 2 := inb_nI' (by omega) (by decide)
  obtain ⟨σ0, hσ0⟩ : ∃ X, X = tsI σ 165 (tA σ 232 k) := ⟨_, rfl⟩
  have f0 : Ft [165] σ σ0 := by rw [hσ0]; exact (Ft.rf _ σ).p_tsI rfl
  obtain ⟨σ1, a1, a2, a3, a4⟩ := t_back12 hU k hs ((f0 197 rfl).1.trans h1)
  have f1 := (f0.mono (S' := [165, 166, 167]) (by decide)).tr (a2.mono (by decide))
  obtain ⟨σ2, b1, b2, b3, b4⟩ := t_back64 hV k hs ((f1 107 rfl).1.trans h2)
  have f2 := (f1.mono (S' := [165, 166, 167, 168, 169]) (by decide)).tr (b2.mono (by decide))
  obtain ⟨σ3, c1, c2, c3⟩ := t_back114 hq k hs ((f2 154 rfl).1.trans h3)
  have f3 := (f2.mono (S' := [163, 165, 166, 167, 168, 169]) (by decide)).tr (c2.mono (by decide))
  obtain ⟨σ4, d1, d2, d3⟩ := t_back147 hW k hs ((f3 148 rfl).1.trans h4)
  have f4 := (f3.mono (S' := bckT) (by decide)).tr (d2.mono (by decide))
  have g3 : Ft [163, 235] σ2 σ4 := (c2.mono (by decide)).tr (d2.mono (by decide))
  have g2 : Ft [163, 168, 169, 235] σ1 σ4 := (b2.mono (by decide)).tr (g3.mono (by decide))
  have g1 : Ft [163, 166, 167, 168, 169, 235] σ0 σ4 := (a2.mono (by decide)).tr (g2.mono (by decide))
  refine ⟨σ4, ?_, f4, ?_, ⟨a3.fr f0 g2 rfl rfl, a4.fr f0 g2 rfl rfl⟩, ⟨b3.fr f1 g3 rfl rfl, b4.fr f1 g3 rfl rfl⟩, c3.fr f2 d2 rfl rfl, d3.fr f3 (Ft.rf [] σ4) rfl rfl⟩
  · unfold F_back
    rw [ifT ik, ix_nI (by omega), nm_eq, ← hσ0, show L_back_12 FU (nI k) 0 σ0 = _ from a1, ob_some, show L_back_64 FU (nI k) 0 σ1 = _ from b1, ob_some, show L_back_114 FU (nI k) 0 σ2 = _ from c1, ob_some, show L_back_147 FU (nI k) 0 σ3 = _ from d1, ob_some]
  · rw [(g1 165 rfl).1, hσ0, tI_tsI, ifT rfl]
/-- the values alone -/
def VaV (V U Wn : Nat) (D : FQ) (M : CM) (σ : TS) : Prop :=
  mI M 85 1 = tI σ 165 ∧ (∀ u, u < U → mA M 124 u = tA σ 166 u ∧ mA M 125 u = tA σ 167 u) ∧
  (∀ v, v < V → tA σ 94 v = 2 → mI M 3213 ((pl D 98).getD v 0) = tA σ 168 v ∧ mI M 3214 ((pl D 98).getD v 0) = tA σ 169 v) ∧
  (∀ r, r < 24 → nI r < tI σ 154 → mA M 148 r = tA σ 163 r ∧ (tA σ 163 r = 0 ∨ tA σ 163 r = 1)) ∧ ∀ w, w < Wn → mI M 3804 ((pl D 113).getD w 0) = tA σ 235 w ∧ (tA σ 235 w = 0 ∨ tA σ 235 w = 1)
theorem VaE.vv (d : VaE x2 V U Wn D M σ) : VaV V U Wn D M σ := ⟨d.1.2.1, d.2.1, d.2.2.1, d.2.2.2.1, d.2.2.2.2.2⟩
/-- both keep -/
theorem z_keep (w : RnW C B P mss fss V U S q A Wn K1 K2 N D M σ) (d : VaV V U Wn D M σ) : ∃ M' σ', K_X0_keep M = some ((), M') ∧ F_keep 0 σ = some ((), σ') ∧ RsK [800] [152, 153, 154, 155, 156, 157] [228, 229, 230, 231, 232, 233, 234] V D M σ M' σ' ∧ KeR 0 V U Wn D M' σ' := by
  obtain ⟨⟨V96, V98, U180, -, q24, -⟩, ⟨h15, h107⟩, ⟨-, h197⟩, ⟨-, h154⟩, ⟨⟨h39, h148⟩, W12, Wl⟩, -⟩ := w.st
  obtain ⟨M', a1, a2, a3, a4, a5, a6, a7⟩ := k_keep w.1 h15 h39 ⟨V98, V96⟩ ⟨Wl, W12⟩
  obtain ⟨σ', b1, b2, ⟨b3, -⟩, ⟨b4, b5⟩, ⟨b6, b7⟩, b8, b9⟩ := t_keep U180 V96 q24 W12 0 (by omega) h197 h107 h154 h148
  obtain ⟨d1, d2, d3, d4, d5⟩ := d
  have pk : PaK V D σ M M' := fun v _ _ => a2.i rfl _
  refine ⟨M', σ', a1, b1, ⟨a2, b2, pk⟩, by rw [a3, b3]; exact d1, fun u hu => ?_, fun v hv => ⟨fun z => ?_, fun z => ?_⟩, fun r hr z => ?_, fun w hw => ?_⟩
  · rw [(a4 u (by omega)).1, (a4 u (by omega)).2, b4.1 u hu, b5.1 u hu]; exact d2 u hu
  · rw [(a5 v hv).1, a2.i rfl]
  · rw [(b2 94 rfl).2.2.1] at z
    rw [(a5 v hv).1, (a5 v hv).2, b6.1 v hv, b7.1 v hv]; exact d3 v hv z
  · rw [(b2 154 rfl).1] at z
    have rq : r < q := by rw [h154, bI_lt (by omega) (by omega)] at z; exact z
    obtain ⟨e1, e2⟩ := d4 r hr z
    rw [a6 r hr, b8.1 r rq, e1, nZ_b e2]; exact ⟨rfl, e2⟩
  · obtain ⟨e1, e2⟩ := d5 w hw
    rw [a7 w hw, b9.1 w hw, e1, nZ_b e2]; exact ⟨rfl, e2⟩
/-- both go back -/
theorem z_goback (W : FW C B P mss fss D M σ) (hV : V ≤ (pl D 98).length ∧ V ≤ 96) (hW : Wn ≤ (pl D 113).length ∧ Wn ≤ 12) (hU : U ≤ 180) (hq : q ≤ 24) (h15 : mI M 15 1 = nI V) (h39 : mI M 39 1 = nI Wn) (t1 : tI σ 197 = nI U) (t2 : tI σ 107 = nI V) (t3 : tI σ 154 = nI q) (t4 : tI σ 148 = nI Wn) (ke : KeR 0 V U Wn D M σ) : ∃ M' σ', K_X0_back M = some ((), M') ∧ F_back 0 σ = some ((), σ') ∧ RsK [85, 3213, 3214, 3804] [124, 125, 148] bckT V D M σ M' σ' ∧ VaV V U Wn D M' σ' := by
  obtain ⟨M', a1, a2, a3, a4, a5, a6, a7⟩ := k_back W h15 h39 hV hW
  obtain ⟨σ', b1, b2, b3, ⟨b4, b5⟩, ⟨b6, b7⟩, b8, b9⟩ := t_back hU hV.2 hq hW.2 0 (by omega) t1 t2 t3 t4
  obtain ⟨d1, d2, d3, d4, d5⟩ := ke
  have z0 : ∀ X u : Nat, 0 * X + u = u := fun X u => by omega
  refine ⟨M', σ', a1, b1, ⟨a2, b2, fun v hv z => by rw [(a5 v hv).1]; exact (d3 v hv).1 z⟩, by rw [a3, b3]; exact d1, fun u hu => ?_, fun v hv z => ?_, fun r hr z => ?_, fun w hw => ?_⟩
  · rw [(a4 u (by omega)).1, (a4 u (by omega)).2, b4 u hu, b5 u hu]; exact d2 u hu
  · rw [(b2 94 rfl).2.2.1] at z
    rw [(a5 v hv).1, (a5 v hv).2, b6 v hv, b7 v hv]; exact (d3 v hv).2 z
  · rw [(b2 154 rfl).1] at z
    have rq : r < q := by rw [t3, bI_lt (by omega) (by omega)] at z; exact z
    obtain ⟨e1, e2⟩ := d4 r hr z
    rw [a6 r hr, b8 r rq, ← e1, nZ_b e2]; exact ⟨rfl, e2⟩
  · obtain ⟨e1, e2⟩ := d5 w hw
    rw [a7 w hw, b9 w hw, ← e1, nZ_b e2]; exact ⟨rfl, e2⟩
/-- what is kept stays -/
theorem KeR.up (ke : KeR 0 V U Wn D M σ) {T : List Nat} (g : RsK I A0 T V D M σ M' σ') (hI : I.contains 800 = false) (hA : [152, 153, 154, 155, 156, 157].all (fun k => !A0.contains k) = true) (hT : [94, 154, 228, 229, 230, 231, 232, 233, 234].all (fun k => !T.contains k) = true) : KeR 0 V U Wn D M' σ' := by
  have hA' : ∀ k, k ∈ [152, 153, 154, 155, 156, 157] → A0.contains k = false := fun k hk => by simpa using List.all_eq_true.mp hA k hk
  have hT' : ∀ k, k ∈ [94, 154, 228, 229, 230, 231, 232, 233, 234] → T.contains k = false := fun k hk => by simpa using List.all_eq_true.mp hT k hk
  obtain ⟨k, f, p⟩ := g
  obtain ⟨d1, d2, d3, d4, d5⟩ := ke
  have ta : ∀ k, k ∈ [94, 154, 228, 229, 230, 231, 232, 233, 234] → ∀ j, tA σ' k j = tA σ k j := fun k hk => (f k (hT' k hk)).2.2.1
  refine ⟨by rw [k.i hI, ta 232 (by decide)]; exact d1, fun u hu => ?_, fun v hv => ⟨fun z => ?_, fun z => ?_⟩, fun r hr z => ?_, fun w hw => ?_⟩
  · rw [k.ga (hA' 152 (by decide)), k.ga (hA' 153 (by decide)), ta 228 (by decide), ta 229 (by decide)]; exact d2 u hu
  · rw [ta 94 (by decide)] at z
    rw [k.ga (hA' 154 (by decide)), p v hv z]; exact (d3 v hv).1 z
  · rw [ta 94 (by decide)] at z
    rw [k.ga (hA' 154 (by decide)), k.ga (hA' 155 (by decide)), ta 230 (by decide), ta 231 (by decide)]; exact (d3 v hv).2 z
  · rw [(f 154 (hT' 154 (by decide))).1] at z
    rw [k.ga (hA' 156 (by decide)), ta 233 (by decide)]; exact d4 r hr z
  · rw [k.ga (hA' 157 (by decide)), ta 234 (by decide)]; exact d5 w hw
end BACK2
