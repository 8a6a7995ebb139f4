/-! Layer B: steps: phases, both sides (printed by gen/c18.py) -/
set_option maxRecDepth 100000
abbrev spI : List Nat := [85, 90]
abbrev spA : List Nat := [124, 149, 150, 158, 159, 160, 161, 162]
abbrev spT : List Nat := [0, 1, 165, 166, 170, 171, 222, 225, 226, 240, 241, 242, 243, 244]
abbrev fbU : Nat → Unit ⊕ Nat := fun w => .inr w
def RwL (l : List (Nat × Nat)) (ns : Nat) (M : CM) (σ : TS) : Prop := ∀ p, p ∈ l → KA p.1 p.2 ns M σ
/-- both sides in the middle of a step -/
def SpS (C : PC) (B : Nat) (P : Nat → Prop) (mss fss : List Nat) (V U S q A Wn K1 K2 N : Nat) (D : FQ) (ns : Nat) (l : List (Nat × Nat)) (M : CM) (σ : TS) : Prop := RnW C B P mss fss V U S q A Wn K1 K2 N D M σ ∧ VaE 1 V U Wn D M σ ∧ SaR ns U M σ ∧ RwL l ns M σ
def kRat (a : Nat) (M : CM) : Option ((Unit ⊕ Nat) × CM) := obS (K_X0_solveBlocks M) (fun w M => some (.inr w, M)) fun _ M => ob (KL_X0_slopes_77 FU a 0 M) fun _ M => some (.inl (), M)
section PHASE
variable {pq : Bool} {C : PC} {B : Nat} {P : Nat → Prop} {mss fss : List Nat} {V U S q A Wn K1 K2 N e r w v b n i j k m kf tf h a ns : Nat} {D : FQ} {M M' M1 : CM} {σ σ' s s1 s2 : TS} {x x1 x2 x3 y z y1 y2 y3 t1 : Int32} {I A0 T : List Nat} {l : List (Nat × Nat)}
theorem slopes_eq (t h : Int32) (x a : Nat) (M : CM) : K_X0_slopes t h x a M = nm (msI M 85 1 t) fun M1 => obS (KL_X0_slopes_8 FU h x a 0 M1) (fun r M => some (r, M)) fun _ M25 => kRat a M25 := rfl
theorem RwL.up (g : RwL l ns M σ) (kk : KF D I [] A0 [] M M') (f : Ft T σ σ') (h : l.all (fun p => !A0.contains p.1 && !T.contains p.2) = true) : RwL l ns M' σ' := fun p hp i hi => by
  have := List.all_eq_true.mp h p hp
  simp only [Bool.and_eq_true, Bool.not_eq_true'] at this
  rw [kk.ga this.1, (f p.2 this.2).2.2.1]; exact g p hp i hi
/-- values stay alike where a step writes -/
theorem sp_ve (w : RnW C B P mss fss V U S q A Wn K1 K2 N D M σ) (d : VaE 1 V U Wn D M σ) (g : RsK spI spA spT V D M σ M' σ') (h0 : tI σ' 0 = 0) (ht : mI M' 85 1 = tI σ' 165) (hu : ∀ u, u < U → mA M' 124 u = tA σ' 166 u) (h171 : tI σ' 171 = nI 0) (h90 : mI M' 90 1 = tI σ' 222) : RnW C B P mss fss V U S q A Wn K1 K2 N D M' σ' ∧ VaE 1 V U Wn D M' σ' := by
  obtain ⟨kk, f, pk⟩ := g
  refine ⟨w.kf kk (by decide) (by decide) f (by decide) h0 pk, ?_⟩
  obtain ⟨⟨-, -, c1⟩, c2, c3, c4, -, c6⟩ := d
  refine ⟨⟨h0, ht, by rw [kk.i rfl]; exact c1⟩, fun u hu' => ⟨hu u hu', by rw [kk.ga rfl, (f 167 rfl).2.2.1]; exact (c2 u hu').2⟩, fun j hj z => ?_, fun j hj z => ?_, ⟨h171, h90⟩, fun j hj => ?_⟩
  · rw [(f 94 rfl).2.2.1] at z
    rw [kk.i rfl, kk.i rfl, (f 168 rfl).2.2.1, (f 169 rfl).2.2.1]; exact c3 j hj z
  · rw [(f 154 rfl).1] at z
    rw [kk.ga rfl, (f 163 rfl).2.2.1]; exact c4 j hj z
  · rw [kk.i rfl, (f 235 rfl).2.2.1]; exact c6 j hj
/-- a move of both sides: both go, or both fail -/
theorem jn_mv {g g' : Nat → Option Int32} {kr : Option ((Unit ⊕ (Unit ⊕ Nat)) × CM)} {tk : Option (Unit × TS)} (p : SpS C B P mss fss V U S q A Wn K1 K2 N D ns l M σ) (k1 : KF D [85] [] [] [] M M1) (ht : mI M1 85 1 = t1) (f2 : Ft [165] σ s2) (e : ∀ j, j < ns → g j = g' j) (hl : l.all (fun p => !([124] : List Nat).contains p.1 && !([0, 1, 165, 166] : List Nat).contains p.2) = true)
    (hk : ((∀ j, j < ns → g j ≠ none) ∧ ∃ M', kr = some (.inl (), M') ∧ KF D [] [] [124] [] M1 M' ∧ ∀ j, mA M' 124 j = wrS (us σ) (fun i => (g i).getD 0) ns (mA M1 124) j) ∨ ((∃ j, j < ns ∧ g j = none) ∧ ∃ M2, kr = some (.inr (.inr (mn M2)), wM M2 41 0) ∧ KF D [] [] [124] [] M1 M2))
    (hT : ((∀ j, j < ns → g' j ≠ none) ∧ ∃ σ', tk = some ((), σ') ∧ Ft [166] s2 σ' ∧ ∀ j, tA σ' 166 j = wrS (us s2) (fun i => (g' i).getD 0) ns (tA s2 166) j) ∨ ((∃ j, j < ns ∧ g' j = none) ∧ ∃ σ1, tk = some ((), σ1) ∧ B41 [0, 1, 166] s2 σ1)) :
    RsO pq fbR spI spA spT 1 V D M σ (fun x _ M' σ' => x = .inl () ∧ tI σ' 165 = tI s2 165 ∧ tI σ' 0 = 0 ∧ ∀ s', Ft [165] σ' s' → tI s' 165 = t1 → SpS C B P mss fss V U S q A Wn K1 K2 N D ns l M' s') kr tk := by
  obtain ⟨w, d, st, rw_⟩ := p
  have us2 : us s2 = us σ := funext fun i => by unfold us; rw [(f2 207 rfl).2.2.1]
  rcases hk with ⟨a1, M', a2, a3, a4⟩ | ⟨⟨j, j1, j2⟩, M2, a2, a3⟩
  · rcases hT with ⟨b1, σ', b2, b3, b4⟩ | ⟨⟨j, j1, j2⟩, -⟩
    · have kk : KF D [85] [] [124] [] M M' := (k1.mono (by decide) (by decide) (by decide) (by decide)).tr (a3.mono (by decide) (by decide) (by decide) (by decide))
      have ff : Ft [165, 166] σ σ' := (f2.mono (by decide)).tr (b3.mono (by decide))
      have pk : PaK V D σ M M' := PaK.of kk rfl
      refine Or.inr ⟨.inl (), (), M', σ', a2, b2, ⟨kk.mono (by decide) (by decide) (by decide) (by decide), ff.mono (by decide), pk⟩, rfl, (b3 165 rfl).1, ((ff 0 rfl).1.trans d.1.1), fun s' f3 e3 => ?_⟩
      have ff' : Ft [165, 166] σ s' := ff.tr (f3.mono (by decide))
      have g3 : RsK spI spA spT V D M σ M' s' := ⟨kk.mono (by decide) (by decide) (by decide) (by decide), ff'.mono (by decide), pk⟩
      have hu : ∀ u, u < U → mA M' 124 u = tA s' 166 u := fun u hu => by
        rw [a4, (f3 166 rfl).2.2.1, b4, us2]
        refine wrS_eq ?_ ns (fun i hi => by rw [e i hi])
        rw [k1.ga rfl, (f2 166 rfl).2.2.1]; exact (d.2.1 u hu).1
      obtain ⟨w', d'⟩ := sp_ve w d g3 ((ff' 0 rfl).1.trans d.1.1) (by rw [e3, a3.i rfl]; exact ht) hu ((ff' 171 rfl).1.trans d.2.2.2.2.1.1) (by rw [kk.i rfl, (ff' 222 rfl).1]; exact d.2.2.2.2.1.2)
      refine ⟨w', d', st.up kk ff' rfl ⟨rfl, rfl⟩ (by decide), rw_.up kk ff' ?_⟩
      rw [List.all_eq_true] at hl ⊢
      intro p hp
      have := hl p hp
      simp only [Bool.and_eq_true, Bool.not_eq_true'] at this ⊢
      refine ⟨this.1, ?_⟩
      have h2 := this.2
      simp only [List.contains_cons, Bool.or_eq_false_iff] at h2 ⊢
      exact ⟨h2.2.2.1, h2.2.2.2.1, rfl⟩
    · exact absurd ((e j j1).trans j2) (a1 j j1)
  · rcases hT with ⟨b1, -⟩ | ⟨-, σ1, b2, b3, b4, b5⟩
    · exact absurd ((e j j1).symm.trans j2) (b1 j j1)
    · have kk : KF D [85] [] [124] [] M M2 := (k1.mono (by decide) (by decide) (by decide) (by decide)).tr (a3.mono (by decide) (by decide) (by decide) (by decide))
      obtain ⟨n167, n98⟩ := w.lt
      have en : mn M2 = mn M := kk.n
      refine Or.inl ⟨_, σ1, _, (), a2, b2, 1, 41, ⟨Nat.le_refl _, M2, 41, 0, kk.mono (by decide) (by decide) (by decide) (by decide), KF.rf⟩, ⟨Nat.lt_succ_self _, wM_k M2 41 0, (wM_v M2 41 0).1⟩, by decide, ⟨b4, fun _ => ((wM_v M2 41 0).2).trans b5.symm⟩, (f2.mono (by decide)).tr (b3.mono (by decide)), ⟨((b3 171 rfl).1.trans (f2 171 rfl).1).trans d.2.2.2.2.1.1, ?_⟩, fun v hv z => ?_⟩
      · rw [(b3 222 rfl).1, (f2 222 rfl).1, ← d.2.2.2.2.1.2]
        exact (((wM_f M2 41 0).so (show 1 < mn M2 by omega) (fun q => q)).i 90).trans (kk.i rfl 1)
      · exact (((wM_f M2 41 0).so (by rw [en]; exact n98 v hv) (fun q => q)).i 3213).trans (kk.i rfl _)
theorem spfr (p : SpS C B P mss fss V U S q A Wn K1 K2 N D ns l M σ) : (mn M ≤ 601024 ∧ ms M + 8 ≤ 7293034) ∧ mn M ≠ 0 ∧ ∀ a, a ∈ [159, 160, 161, 162] → mk M a = 50 ∧ ml M a = 180 := by
  obtain ⟨w, -⟩ := p
  obtain ⟨-, -, -, -, -, -, -, -, -, hc⟩ := w.st
  refine ⟨hc.1, hc.2, fun a ha => ?_⟩
  simp only [List.mem_cons, List.not_mem_nil, or_false] at ha
  rcases ha with rfl | rfl | rfl | rfl
  · exact w.ar (a := (159, 50, 180)) (by decide)
  · exact w.ar (a := (160, 50, 180)) (by decide)
  · exact w.ar (a := (161, 50, 180)) (by decide)
  · exact w.ar (a := (162, 50, 180)) (by decide)
/-- the first slopes of a step: nothing moves -/
theorem z_mv0 (p : SpS C B P mss fss V U S q A Wn K1 K2 N D ns l M σ) (hx : ∀ i, i < ns → mA M 158 i = mA M 124 (us σ i)) (hl : l.all (fun p => !([124] : List Nat).contains p.1) = true) (h : Int32) (x4 : Nat) : ∃ M', KL_X0_slopes_8 FU h 0 x4 0 (msI M 85 1 (mI M 85 1)) = some (.inl (), M') ∧ RsK spI spA spT V D M σ M' σ ∧ mI M' 85 1 = mI M 85 1 ∧ SpS C B P mss fss V U S q A Wn K1 K2 N D ns l M' σ := by
  obtain ⟨w, d, st, rw_⟩ := p
  have k1 : KF D [85] [] [] [] M (msI M 85 1 (mI M 85 1)) := KF.rf.wI rfl TZ.one
  obtain ⟨M', a1, a2, a3⟩ := k_mv0 (D := D) (st.up k1 (Ft.rf [] σ) rfl ⟨rfl, rfl⟩ rfl) (fun i hi => hx i hi) h x4
  have kk : KF D [85] [] [124] [] M M' := (k1.mono (by decide) (by decide) (by decide) (by decide)).tr (a2.mono (by decide) (by decide) (by decide) (by decide))
  have g3 : RsK spI spA spT V D M σ M' σ := ⟨kk.mono (by decide) (by decide) (by decide) (by decide), Ft.rf _ _, PaK.of kk rfl⟩
  have e85 : mI M' 85 1 = mI M 85 1 := by rw [a2.i rfl, mI_msI, ifT ⟨rfl, rfl⟩]
  obtain ⟨w', d'⟩ := sp_ve w d g3 d.1.1 (by rw [e85]; exact d.1.2.1) (fun u hu => by rw [a3]; exact (d.2.1 u hu).1) d.2.2.2.2.1.1 (by rw [kk.i rfl]; exact d.2.2.2.2.1.2)
  refine ⟨M', a1, g3, e85, w', d', st.up kk (Ft.rf [] σ) rfl ⟨rfl, rfl⟩ rfl, rw_.up kk (Ft.rf [] σ) ?_⟩
  rw [List.all_eq_true] at hl ⊢
  intro p hp
  have := hl p hp
  simp only [Bool.and_eq_true] at this ⊢
  exact ⟨this, rfl⟩
/-- the states are moved with row 241 -/
theorem z_mv8_241 (p : SpS C B P mss fss V U S q A Wn K1 K2 N D ns l M σ) (ha : a ∈ [159, 160, 161, 162]) (h1 : (158, 240) ∈ l) (h2 : (a, 241) ∈ l) (hl : l.all (fun p => !([124] : List Nat).contains p.1 && !([0, 1, 165, 166] : List Nat).contains p.2) = true) (f2 : Ft [165] σ s2) (h : Int32) (x4 : Nat) :
    RsO pq fbR spI spA spT 1 V D M σ (fun x _ M' σ' => x = .inl () ∧ tI σ' 165 = tI s2 165 ∧ tI σ' 0 = 0 ∧ ∀ s', Ft [165] σ' s' → tI s' 165 = t1 → SpS C B P mss fss V U S q A Wn K1 K2 N D ns l M' s') (KL_X0_slopes_8 FU h a x4 0 (msI M 85 1 t1)) (F_move_241 h s2) := by
  obtain ⟨hc, hn, har⟩ := spfr p
  have k1 : KF D [85] [] [] [] M (msI M 85 1 t1) := KF.rf.wI rfl TZ.one
  have st := p.2.2.1
  have na : a ≠ 0 ∧ a ≠ 124 := by simp only [List.mem_cons, List.not_mem_nil, or_false] at ha; omega
  exact jn_mv p k1 (by rw [mI_msI, ifT ⟨rfl, rfl⟩]) f2 (fun j hj => by
    rw [show mA (msI M 85 1 t1) 158 j = _ from p.2.2.2 _ h1 j hj, show mA (msI M 85 1 t1) a j = _ from p.2.2.2 _ h2 j hj, ← (f2 240 rfl).2.2.1, ← (f2 241 rfl).2.2.1]) hl (k_mv8 (st.up k1 (Ft.rf [] σ) rfl ⟨rfl, rfl⟩ rfl) na.1 (har a ha) na.2 hc hn h x4) (t_mv241 (M := M) (U := U) (st.up KF.rf f2 (I := []) (A0 := []) (D := D) rfl ⟨rfl, rfl⟩ rfl) ((f2 0 rfl).1.trans p.2.1.1.1) h)
/-- the states are moved with row 242 -/
theorem z_mv8_242 (p : SpS C B P mss fss V U S q A Wn K1 K2 N D ns l M σ) (ha : a ∈ [159, 160, 161, 162]) (h1 : (158, 240) ∈ l) (h2 : (a, 242) ∈ l) (hl : l.all (fun p => !([124] : List Nat).contains p.1 && !([0, 1, 165, 166] : List Nat).contains p.2) = true) (f2 : Ft [165] σ s2) (h : Int32) (x4 : Nat) :
    RsO pq fbR spI spA spT 1 V D M σ (fun x _ M' σ' => x = .inl () ∧ tI σ' 165 = tI s2 165 ∧ tI σ' 0 = 0 ∧ ∀ s', Ft [165] σ' s' → tI s' 165 = t1 → SpS C B P mss fss V U S q A Wn K1 K2 N D ns l M' s') (KL_X0_slopes_8 FU h a x4 0 (msI M 85 1 t1)) (F_move_242 h s2) := by
  obtain ⟨hc, hn, har⟩ := spfr p
  have k1 : KF D [85] [] [] [] M (msI M 85 1 t1) := KF.rf.wI rfl TZ.one
  have st := p.2.2.1
  have na : a ≠ 0 ∧ a ≠ 124 := by simp only [List.mem_cons, List.not_mem_nil, or_false] at ha; omega
  exact jn_mv p k1 (by rw [mI_msI, ifT ⟨rfl, rfl⟩]) f2 (fun j hj => by
    rw [show mA (msI M 85 1 t1) 158 j = _ from p.2.2.2 _ h1 j hj, show mA (msI M 85 1 t1) a j = _ from p.2.2.2 _ h2 j hj, ← (f2 240 rfl).2.2.1, ← (f2 242 rfl).2.2.1]) hl (k_mv8 (st.up k1 (Ft.rf [] σ) rfl ⟨rfl, rfl⟩ rfl) na.1 (har a ha) na.2 hc hn h x4) (t_mv242 (M := M) (U := U) (st.up KF.rf f2 (I := []) (A0 := []) (D := D) rfl ⟨rfl, rfl⟩ rfl) ((f2 0 rfl).1.trans p.2.1.1.1) h)
/-- the states are moved with row 243 -/
theorem z_mv8_243 (p : SpS C B P mss fss V U S q A Wn K1 K2 N D ns l M σ) (ha : a ∈ [159, 160, 161, 162]) (h1 : (158, 240) ∈ l) (h2 : (a, 243) ∈ l) (hl : l.all (fun p => !([124] : List Nat).contains p.1 && !([0, 1, 165, 166] : List Nat).contains p.2) = true) (f2 : Ft [165] σ s2) (h : Int32) (x4 : Nat) :
    RsO pq fbR spI spA spT 1 V D M σ (fun x _ M' σ' => x = .inl () ∧ tI σ' 165 = tI s2 165 ∧ tI σ' 0 = 0 ∧ ∀ s', Ft [165] σ' s' → tI s' 165 = t1 → SpS C B P mss fss V U S q A Wn K1 K2 N D ns l M' s') (KL_X0_slopes_8 FU h a x4 0 (msI M 85 1 t1)) (F_move_243 h s2) := by
  obtain ⟨hc, hn, har⟩ := spfr p
  have k1 : KF D [85] [] [] [] M (msI M 85 1 t1) := KF.rf.wI rfl TZ.one
  have st := p.2.2.1
  have na : a ≠ 0 ∧ a ≠ 124 := by simp only [List.mem_cons, List.not_mem_nil, or_false] at ha; omega
  exact jn_mv p k1 (by rw [mI_msI, ifT ⟨rfl, rfl⟩]) f2 (fun j hj => by
    rw [show mA (msI M 85 1 t1) 158 j = _ from p.2.2.2 _ h1 j hj, show mA (msI M 85 1 t1) a j = _ from p.2.2.2 _ h2 j hj, ← (f2 240 rfl).2.2.1, ← (f2 243 rfl).2.2.1]) hl (k_mv8 (st.up k1 (Ft.rf [] σ) rfl ⟨rfl, rfl⟩ rfl) na.1 (har a ha) na.2 hc hn h x4) (t_mv243 (M := M) (U := U) (st.up KF.rf f2 (I := []) (A0 := []) (D := D) rfl ⟨rfl, rfl⟩ rfl) ((f2 0 rfl).1.trans p.2.1.1.1) h)
/-- the states' last move, with row 241 -/
theorem z_mv4_241 (p : SpS C B P mss fss V U S q A Wn K1 K2 N D ns l M σ) (h93 : ¬ mI M 93 1 = 2) (h1 : (158, 240) ∈ l) (h2 : (159, 241) ∈ l) (hl : l.all (fun p => !([124] : List Nat).contains p.1 && !([0, 1, 165, 166] : List Nat).contains p.2) = true) (f2 : Ft [165] σ s2) (h : Int32) :
    RsO pq fbR spI spA spT 1 V D M σ (fun x _ M' σ' => x = .inl () ∧ tI σ' 165 = tI s2 165 ∧ tI σ' 0 = 0 ∧ ∀ s', Ft [165] σ' s' → tI s' 165 = t1 → SpS C B P mss fss V U S q A Wn K1 K2 N D ns l M' s') (KL_X0_step_304 FU h 0 (msI M 85 1 t1)) (F_move_241 h s2) := by
  obtain ⟨hc, hn, har⟩ := spfr p
  have k1 : KF D [85] [] [] [] M (msI M 85 1 t1) := KF.rf.wI rfl TZ.one
  have st := p.2.2.1
  exact jn_mv p k1 (by rw [mI_msI, ifT ⟨rfl, rfl⟩]) f2 (fun j hj => by
    rw [show mA (msI M 85 1 t1) 158 j = _ from p.2.2.2 _ h1 j hj, show mA (msI M 85 1 t1) 159 j = _ from p.2.2.2 _ h2 j hj, ← (f2 240 rfl).2.2.1, ← (f2 241 rfl).2.2.1]) hl (k_mv4 (st.up k1 (Ft.rf [] σ) rfl ⟨rfl, rfl⟩ rfl) (by rw [k1.i rfl]; exact h93) hc hn h) (t_mv241 (M := M) (U := U) (st.up KF.rf f2 (I := []) (A0 := []) (D := D) rfl ⟨rfl, rfl⟩ rfl) ((f2 0 rfl).1.trans p.2.1.1.1) h)
/-- the states' last move, with row 242 -/
theorem z_mv4_242 (p : SpS C B P mss fss V U S q A Wn K1 K2 N D ns l M σ) (h93 : ¬ mI M 93 1 = 2) (h1 : (158, 240) ∈ l) (h2 : (159, 242) ∈ l) (hl : l.all (fun p => !([124] : List Nat).contains p.1 && !([0, 1, 165, 166] : List Nat).contains p.2) = true) (f2 : Ft [165] σ s2) (h : Int32) :
    RsO pq fbR spI spA spT 1 V D M σ (fun x _ M' σ' => x = .inl () ∧ tI σ' 165 = tI s2 165 ∧ tI σ' 0 = 0 ∧ ∀ s', Ft [165] σ' s' → tI s' 165 = t1 → SpS C B P mss fss V U S q A Wn K1 K2 N D ns l M' s') (KL_X0_step_304 FU h 0 (msI M 85 1 t1)) (F_move_242 h s2) := by
  obtain ⟨hc, hn, har⟩ := spfr p
  have k1 : KF D [85] [] [] [] M (msI M 85 1 t1) := KF.rf.wI rfl TZ.one
  have st := p.2.2.1
  exact jn_mv p k1 (by rw [mI_msI, ifT ⟨rfl, rfl⟩]) f2 (fun j hj => by
    rw [show mA (msI M 85 1 t1) 158 j = _ from p.2.2.2 _ h1 j hj, show mA (msI M 85 1 t1) 159 j = _ from p.2.2.2 _ h2 j hj, ← (f2 240 rfl).2.2.1, ← (f2 242 rfl).2.2.1]) hl (k_mv4 (st.up k1 (Ft.rf [] σ) rfl ⟨rfl, rfl⟩ rfl) (by rw [k1.i rfl]; exact h93) hc hn h) (t_mv242 (M := M) (U := U) (st.up KF.rf f2 (I := []) (A0 := []) (D := D) rfl ⟨rfl, rfl⟩ rfl) ((f2 0 rfl).1.trans p.2.1.1.1) h)
/-- rates are taken to row 241 -/
theorem z_rat241 (p : SpS C B P mss fss V U S q A Wn K1 K2 N D ns l M σ) (ha : a ∈ [159, 160, 161, 162]) (hl : l.all (fun p => !([124, 149, 150, a] : List Nat).contains p.1 && !([0, 1, 166, 170, 171, 222, 225, 226, 241] : List Nat).contains p.2) = true) :
    RsO true fbU spI spA spT 2 V D M σ (fun x _ M' σ' => x = .inl () ∧ SpS C B P mss fss V U S q A Wn K1 K2 N D ns ((a, 241) :: l) M' σ' ∧ mI M' 85 1 = mI M 85 1) (kRat a M) (F_rates_241 σ) := by
  obtain ⟨-, -, har⟩ := spfr p
  obtain ⟨w, d, st, rw_⟩ := p
  have n94 : spT.contains 94 = false := rfl
  have hA : 117 ≤ a ∧ a < 167 ∧ a ≠ 74 ∧ a ≠ 124 ∧ a ≠ 140 ∧ a ≠ 121 ∧ spA.contains a = true := by
    simp only [List.mem_cons, List.not_mem_nil, or_false] at ha
    rcases ha with rfl | rfl | rfl | rfl <;> decide
  unfold kRat F_rates_241
  rw [t_isBad0 d.1.1, ob_some, ifT (rfl : (0 : Int32) = 0)]
  have sb := ((z_solveBlocks w d).im (Q2 := fun x _ M' σ' => x = .inl () ∧ RsK slbI slbA slbT V D M σ M' σ' ∧ RnW C B P mss fss V U S q A Wn K1 K2 N D M' σ' ∧ VaE 1 V U Wn D M' σ') (fun x b M' σ' g ⟨g1, g2, g3⟩ => ⟨g1, g, g2, g3⟩)).mono (I' := spI) (A' := spA) (T' := spT) (nb' := 2) (by decide) (by decide) (by decide) (Nat.le_refl _)
  refine RsO.seq n94 sb (fun wx M' σ' y k1 k2 fo => ?_) (fun x b M' σ' k1 k2 g ⟨g1, g0, w1, d1⟩ => ?_)
  · obtain ⟨n', r', -, -, -, -, f6, -⟩ := id fo
    obtain ⟨s', e1, e2, -⟩ := t_ratL241 (M := M) (s := σ') (st.up (D := D) (I := []) (A0 := []) KF.rf f6 rfl ⟨rfl, rfl⟩ rfl)
    exact ⟨by rw [k1, obS_inr], (), s', by rw [k2, ob_some, e1, ob_some], e2.mono (by decide), (e2 0 rfl).1, (e2 1 rfl).1, (e2 171 rfl).1, (e2 222 rfl).1⟩
  subst g1
  have st1 := st.up g0.1 g0.2.1 rfl ⟨rfl, rfl⟩ rfl
  obtain ⟨M2, a1, a2, a3⟩ := k_rat (D := D) st1 ((g0.1.k a).trans (har a ha).1 |> fun z => ⟨z, (g0.1.gl a).trans (har a ha).2⟩) ⟨hA.1, hA.2.1⟩ ⟨hA.2.2.1, hA.2.2.2.1, hA.2.2.2.2.1, hA.2.2.2.2.2.1⟩
  obtain ⟨s2, b1, b2, b3⟩ := t_ratL241 st1
  have a2' : KF D [] [] spA [] M' M2 := a2.mono (by decide) (by decide) (by simp only [List.all_cons, List.all_nil, hA.2.2.2.2.2.2]; rfl) (by decide)
  have g2 : RsK spI spA spT V D M' σ' M2 s2 := ⟨a2'.mono (by decide) (by decide) (by decide) (by decide), b2.mono (by decide), PaK.of a2 rfl⟩
  have n124 : ([a] : List Nat).contains 124 = false := by
    cases e : ([a] : List Nat).contains 124 with
    | false => rfl
    | true => simp at e; omega
  have hu : ∀ u, u < U → mA M2 124 u = tA s2 166 u := fun u hu => by rw [a2.ga n124, (b2 166 rfl).2.2.1]; exact (d1.2.1 u hu).1
  obtain ⟨w2, d2⟩ := sp_ve w1 d1 g2 ((b2 0 rfl).1.trans d1.1.1) (by rw [a2.i rfl, (b2 165 rfl).1]; exact d1.1.2.1) hu ((b2 171 rfl).1.trans d1.2.2.2.2.1.1) (by rw [a2.i rfl, (b2 222 rfl).1]; exact d1.2.2.2.2.1.2)
  rw [k1, k2, obS_inl, ob_some, a1, b1, ob_some, ob_some]
  refine Or.inr ⟨_, _, M2, s2, rfl, rfl, g2, rfl, ⟨w2, d2, st1.up a2 b2 rfl ⟨?_, ?_⟩ rfl, ?_⟩, by rw [a2.i rfl, g0.1.i rfl]⟩
  · cases e : ([a] : List Nat).contains 140 with
    | false => rfl
    | true => simp at e; omega
  · cases e : ([a] : List Nat).contains 121 with
    | false => rfl
    | true => simp at e; omega
  · intro p hp
    rcases List.mem_cons.mp hp with rfl | hp
    · intro i hi
      obtain ⟨-, -, -, w0, w1', -, w3⟩ := st1.2 i hi
      have w180 := st1.1.2.2.2
      show mA M2 a i = tA s2 241 i
      rw [a3 i hi, b3 i hi, w3, ix_nI (by omega)]
      exact (d1.2.1 w0 w1').1
    · have kk : KF D [90] [] [124, 149, 150, a] [] M M2 := (g0.1.mono (by decide) (by decide) (by simp) (by decide)).tr (a2.mono (by decide) (by decide) (by simp) (by decide))
      have ff : Ft [0, 1, 166, 170, 171, 222, 225, 226, 241] σ s2 := (g0.2.1.mono (by decide)).tr (b2.mono (by decide))
      exact rw_.up kk ff hl p hp
/-- rates are taken to row 242 -/
theorem z_rat242 (p : SpS C B P mss fss V U S q A Wn K1 K2 N D ns l M σ) (ha : a ∈ [159, 160, 161, 162]) (hl : l.all (fun p => !([124, 149, 150, a] : List Nat).contains p.1 && !([0, 1, 166, 170, 171, 222, 225, 226, 242] : List Nat).contains p.2) = true) :
    RsO true fbU spI spA spT 2 V D M σ (fun x _ M' σ' => x = .inl () ∧ SpS C B P mss fss V U S q A Wn K1 K2 N D ns ((a, 242) :: l) M' σ' ∧ mI M' 85 1 = mI M 85 1) (kRat a M) (F_rates_242 σ) := by
  obtain ⟨-, -, har⟩ := spfr p
  obtain ⟨w, d, st, rw_⟩ := p
  have n94 : spT.contains 94 = false := rfl
  have hA : 117 ≤ a ∧ a < 167 ∧ a ≠ 74 ∧ a ≠ 124 ∧ a ≠ 140 ∧ a ≠ 121 ∧ spA.contains a = true := by
    simp only [List.mem_cons, List.not_mem_nil, or_false] at ha
    rcases ha with rfl | rfl | rfl | rfl <;> decide
  unfold kRat F_rates_242
  rw [t_isBad0 d.1.1, ob_some, ifT (rfl : (0 : Int32) = 0)]
  have sb := ((z_solveBlocks w d).im (Q2 := fun x _ M' σ' => x = .inl () ∧ RsK slbI slbA slbT V D M σ M' σ' ∧ RnW C B P mss fss V U S q A Wn K1 K2 N D M' σ' ∧ VaE 1 V U Wn D M' σ') (fun x b M' σ' g ⟨g1, g2, g3⟩ => ⟨g1, g, g2, g3⟩)).mono (I' := spI) (A' := spA) (T' := spT) (nb' := 2) (by decide) (by decide) (by decide) (Nat.le_refl _)
  refine RsO.seq n94 sb (fun wx M' σ' y k1 k2 fo => ?_) (fun x b M' σ' k1 k2 g ⟨g1, g0, w1, d1⟩ => ?_)
  · obtain ⟨n', r', -, -, -, -, f6, -⟩ := id fo
    obtain ⟨s', e1, e2, -⟩ := t_ratL242 (M := M) (s := σ') (st.up (D := D) (I := []) (A0 := []) KF.rf f6 rfl ⟨rfl, rfl⟩ rfl)
    exact ⟨by rw [k1, obS_inr], (), s', by rw [k2, ob_some, e1, ob_some], e2.mono (by decide), (e2 0 rfl).1, (e2 1 rfl).1, (e2 171 rfl).1, (e2 222 rfl).1⟩
  subst g1
  have st1 := st.up g0.1 g0.2.1 rfl ⟨rfl, rfl⟩ rfl
  obtain ⟨M2, a1, a2, a3⟩ := k_rat (D := D) st1 ((g0.1.k a).trans (har a ha).1 |> fun z => ⟨z, (g0.1.gl a).trans (har a ha).2⟩) ⟨hA.1, hA.2.1⟩ ⟨hA.2.2.1, hA.2.2.2.1, hA.2.2.2.2.1, hA.2.2.2.2.2.1⟩
  obtain ⟨s2, b1, b2, b3⟩ := t_ratL242 st1
  have a2' : KF D [] [] spA [] M' M2 := a2.mono (by decide) (by decide) (by simp only [List.all_cons, List.all_nil, hA.2.2.2.2.2.2]; rfl) (by decide)
  have g2 : RsK spI spA spT V D M' σ' M2 s2 := ⟨a2'.mono (by decide) (by decide) (by decide) (by decide), b2.mono (by decide), PaK.of a2 rfl⟩
  have n124 : ([a] : List Nat).contains 124 = false := by
    cases e : ([a] : List Nat).contains 124 with
    | false => rfl
    | true => simp at e; omega
  have hu : ∀ u, u < U → mA M2 124 u = tA s2 166 u := fun u hu => by rw [a2.ga n124, (b2 166 rfl).2.2.1]; exact (d1.2.1 u hu).1
  obtain ⟨w2, d2⟩ := sp_ve w1 d1 g2 ((b2 0 rfl).1.trans d1.1.1) (by rw [a2.i rfl, (b2 165 rfl).1]; exact d1.1.2.1) hu ((b2 171 rfl).1.trans d1.2.2.2.2.1.1) (by rw [a2.i rfl, (b2 222 rfl).1]; exact d1.2.2.2.2.1.2)
  rw [k1, k2, obS_inl, ob_some, a1, b1, ob_some, ob_some]
  refine Or.inr ⟨_, _, M2, s2, rfl, rfl, g2, rfl, ⟨w2, d2, st1.up a2 b2 rfl ⟨?_, ?_⟩ rfl, ?_⟩, by rw [a2.i rfl, g0.1.i rfl]⟩
  · cases e : ([a] : List Nat).contains 140 with
    | false => rfl
    | true => simp at e; omega
  · cases e : ([a] : List Nat).contains 121 with
    | false => rfl
    | true => simp at e; omega
  · intro p hp
    rcases List.mem_cons.mp hp with rfl | hp
    · intro i hi
      obtain ⟨-, -, -, w0, w1', -, w3⟩ := st1.2 i hi
      have w180 := st1.1.2.2.2
      show mA M2 a i = tA s2 242 i
      rw [a3 i hi, b3 i hi, w3, ix_nI (by omega)]
      exact (d1.2.1 w0 w1').1
    · have kk : KF D [90] [] [124, 149, 150, a] [] M M2 := (g0.1.mono (by decide) (by decide) (by simp) (by decide)).tr (a2.mono (by decide) (by decide) (by simp) (by decide))
      have ff : Ft [0, 1, 166, 170, 171, 222, 225, 226, 242] σ s2 := (g0.2.1.mono (by decide)).tr (b2.mono (by decide))
      exact rw_.up kk ff hl p hp
/-- rates are taken to row 243 -/
theorem z_rat243 (p : SpS C B P mss fss V U S q A Wn K1 K2 N D ns l M σ) (ha : a ∈ [159, 160, 161, 162]) (hl : l.all (fun p => !([124, 149, 150, a] : List Nat).contains p.1 && !([0, 1, 166, 170, 171, 222, 225, 226, 243] : List Nat).contains p.2) = true) :
    RsO true fbU spI spA spT 2 V D M σ (fun x _ M' σ' => x = .inl () ∧ SpS C B P mss fss V U S q A Wn K1 K2 N D ns ((a, 243) :: l) M' σ' ∧ mI M' 85 1 = mI M 85 1) (kRat a M) (F_rates_243 σ) := by
  obtain ⟨-, -, har⟩ := spfr p
  obtain ⟨w, d, st, rw_⟩ := p
  have n94 : spT.contains 94 = false := rfl
  have hA : 117 ≤ a ∧ a < 167 ∧ a ≠ 74 ∧ a ≠ 124 ∧ a ≠ 140 ∧ a ≠ 121 ∧ spA.contains a = true := by
    simp only [List.mem_cons, List.not_mem_nil, or_false] at ha
    rcases ha with rfl | rfl | rfl | rfl <;> decide
  unfold kRat F_rates_243
  rw [t_isBad0 d.1.1, ob_some, ifT (rfl : (0 : Int32) = 0)]
  have sb := ((z_solveBlocks w d).im (Q2 := fun x _ M' σ' => x = .inl () ∧ RsK slbI slbA slbT V D M σ M' σ' ∧ RnW C B P mss fss V U S q A Wn K1 K2 N D M' σ' ∧ VaE 1 V U Wn D M' σ') (fun x b M' σ' g ⟨g1, g2, g3⟩ => ⟨g1, g, g2, g3⟩)).mono (I' := spI) (A' := spA) (T' := spT) (nb' := 2) (by decide) (by decide) (by decide) (Nat.le_refl _)
  refine RsO.seq n94 sb (fun wx M' σ' y k1 k2 fo => ?_) (fun x b M' σ' k1 k2 g ⟨g1, g0, w1, d1⟩ => ?_)
  · obtain ⟨n', r', -, -, -, -, f6, -⟩ := id fo
    obtain ⟨s', e1, e2, -⟩ := t_ratL243 (M := M) (s := σ') (st.up (D := D) (I := []) (A0 := []) KF.rf f6 rfl ⟨rfl, rfl⟩ rfl)
    exact ⟨by rw [k1, obS_inr], (), s', by rw [k2, ob_some, e1, ob_some], e2.mono (by decide), (e2 0 rfl).1, (e2 1 rfl).1, (e2 171 rfl).1, (e2 222 rfl).1⟩
  subst g1
  have st1 := st.up g0.1 g0.2.1 rfl ⟨rfl, rfl⟩ rfl
  obtain ⟨M2, a1, a2, a3⟩ := k_rat (D := D) st1 ((g0.1.k a).trans (har a ha).1 |> fun z => ⟨z, (g0.1.gl a).trans (har a ha).2⟩) ⟨hA.1, hA.2.1⟩ ⟨hA.2.2.1, hA.2.2.2.1, hA.2.2.2.2.1, hA.2.2.2.2.2.1⟩
  obtain ⟨s2, b1, b2, b3⟩ := t_ratL243 st1
  have a2' : KF D [] [] spA [] M' M2 := a2.mono (by decide) (by decide) (by simp only [List.all_cons, List.all_nil, hA.2.2.2.2.2.2]; rfl) (by decide)
  have g2 : RsK spI spA spT V D M' σ' M2 s2 := ⟨a2'.mono (by decide) (by decide) (by decide) (by decide), b2.mono (by decide), PaK.of a2 rfl⟩
  have n124 : ([a] : List Nat).contains 124 = false := by
    cases e : ([a] : List Nat).contains 124 with
    | false => rfl
    | true => simp at e; omega
  have hu : ∀ u, u < U → mA M2 124 u = tA s2 166 u := fun u hu => by rw [a2.ga n124, (b2 166 rfl).2.2.1]; exact (d1.2.1 u hu).1
  obtain ⟨w2, d2⟩ := sp_ve w1 d1 g2 ((b2 0 rfl).1.trans d1.1.1) (by rw [a2.i rfl, (b2 165 rfl).1]; exact d1.1.2.1) hu ((b2 171 rfl).1.trans d1.2.2.2.2.1.1) (by rw [a2.i rfl, (b2 222 rfl).1]; exact d1.2.2.2.2.1.2)
  rw [k1, k2, obS_inl, ob_some, a1, b1, ob_some, ob_some]
  refine Or.inr ⟨_, _, M2, s2, rfl, rfl, g2, rfl, ⟨w2, d2, st1.up a2 b2 rfl ⟨?_, ?_⟩ rfl, ?_⟩, by rw [a2.i rfl, g0.1.i rfl]⟩
  · cases e : ([a] : List Nat).contains 140 with
    | false => rfl
    | true => simp at e; omega
  · cases e : ([a] : List Nat).contains 121 with
    | false => rfl
    | true => simp at e; omega
  · intro p hp
    rcases List.mem_cons.mp hp with rfl | hp
    · intro i hi
      obtain ⟨-, -, -, w0, w1', -, w3⟩ := st1.2 i hi
      have w180 := st1.1.2.2.2
      show mA M2 a i = tA s2 243 i
      rw [a3 i hi, b3 i hi, w3, ix_nI (by omega)]
      exact (d1.2.1 w0 w1').1
    · have kk : KF D [90] [] [124, 149, 150, a] [] M M2 := (g0.1.mono (by decide) (by decide) (by simp) (by decide)).tr (a2.mono (by decide) (by decide) (by simp) (by decide))
      have ff : Ft [0, 1, 166, 170, 171, 222, 225, 226, 243] σ s2 := (g0.2.1.mono (by decide)).tr (b2.mono (by decide))
      exact rw_.up kk ff hl p hp
/-- rates are taken to row 244 -/
theorem z_rat244 (p : SpS C B P mss fss V U S q A Wn K1 K2 N D ns l M σ) (ha : a ∈ [159, 160, 161, 162]) (hl : l.all (fun p => !([124, 149, 150, a] : List Nat).contains p.1 && !([0, 1, 166, 170, 171, 222, 225, 226, 244] : List Nat).contains p.2) = true) :
    RsO true fbU spI spA spT 2 V D M σ (fun x _ M' σ' => x = .inl () ∧ SpS C B P mss fss V U S q A Wn K1 K2 N D ns ((a, 244) :: l) M' σ' ∧ mI M' 85 1 = mI M 85 1) (kRat a M) (F_rates_244 σ) := by
  obtain ⟨-, -, har⟩ := spfr p
  obtain ⟨w, d, st, rw_⟩ := p
  have n94 : spT.contains 94 = false := rfl
  have hA : 117 ≤ a ∧ a < 167 ∧ a ≠ 74 ∧ a ≠ 124 ∧ a ≠ 140 ∧ a ≠ 121 ∧ spA.contains a = true := by
    simp only [List.mem_cons, List.not_mem_nil, or_false] at ha
    rcases ha with rfl | rfl | rfl | rfl <;> decide
  unfold kRat F_rates_244
  rw [t_isBad0 d.1.1, ob_some, ifT (rfl : (0 : Int32) = 0)]
  have sb := ((z_solveBlocks w d).im (Q2 := fun x _ M' σ' => x = .inl () ∧ RsK slbI slbA slbT V D M σ M' σ' ∧ RnW C B P mss fss V U S q A Wn K1 K2 N D M' σ' ∧ VaE 1 V U Wn D M' σ') (fun x b M' σ' g ⟨g1, g2, g3⟩ => ⟨g1, g, g2, g3⟩)).mono (I' := spI) (A' := spA) (T' := spT) (nb' := 2) (by decide) (by decide) (by decide) (Nat.le_refl _)
  refine RsO.seq n94 sb (fun wx M' σ' y k1 k2 fo => ?_) (fun x b M' σ' k1 k2 g ⟨g1, g0, w1, d1⟩ => ?_)
  · obtain ⟨n', r', -, -, -, -, f6, -⟩ := id fo
    obtain ⟨s', e1, e2, -⟩ := t_ratL244 (M := M) (s := σ') (st.up (D := D) (I := []) (A0 := []) KF.rf f6 rfl ⟨rfl, rfl⟩ rfl)
    exact ⟨by rw [k1, obS_inr], (), s', by rw [k2, ob_some, e1, ob_some], e2.mono (by decide), (e2 0 rfl).1, (e2 1 rfl).1, (e2 171 rfl).1, (e2 222 rfl).1⟩
  subst g1
  have st1 := st.up g0.1 g0.2.1 rfl ⟨rfl, rfl⟩ rfl
  obtain ⟨M2, a1, a2, a3⟩ := k_rat (D := D) st1 ((g0.1.k a).trans (har a ha).1 |> fun z => ⟨z, (g0.1.gl a).trans (har a ha).2⟩) ⟨hA.1, hA.2.1⟩ ⟨hA.2.2.1, hA.2.2.2.1, hA.2.2.2.2.1, hA.2.2.2.2.2.1⟩
  obtain ⟨s2, b1, b2, b3⟩ := t_ratL244 st1
  have a2' : KF D [] [] spA [] M' M2 := a2.mono (by decide) (by decide) (by simp only [List.all_cons, List.all_nil, hA.2.2.2.2.2.2]; rfl) (by decide)
  have g2 : RsK spI spA spT V D M' σ' M2 s2 := ⟨a2'.mono (by decide) (by decide) (by decide) (by decide), b2.mono (by decide), PaK.of a2 rfl⟩
  have n124 : ([a] : List Nat).contains 124 = false := by
    cases e : ([a] : List Nat).contains 124 with
    | false => rfl
    | true => simp at e; omega
  have hu : ∀ u, u < U → mA M2 124 u = tA s2 166 u := fun u hu => by rw [a2.ga n124, (b2 166 rfl).2.2.1]; exact (d1.2.1 u hu).1
  obtain ⟨w2, d2⟩ := sp_ve w1 d1 g2 ((b2 0 rfl).1.trans d1.1.1) (by rw [a2.i rfl, (b2 165 rfl).1]; exact d1.1.2.1) hu ((b2 171 rfl).1.trans d1.2.2.2.2.1.1) (by rw [a2.i rfl, (b2 222 rfl).1]; exact d1.2.2.2.2.1.2)
  rw [k1, k2, obS_inl, ob_some, a1, b1, ob_some, ob_some]
  refine Or.inr ⟨_, _, M2, s2, rfl, rfl, g2, rfl, ⟨w2, d2, st1.up a2 b2 rfl ⟨?_, ?_⟩ rfl, ?_⟩, by rw [a2.i rfl, g0.1.i rfl]⟩
  · cases e : ([a] : List Nat).contains 140 with
    | false => rfl
    | true => simp at e; omega
  · cases e : ([a] : List Nat).contains 121 with
    | false => rfl
    | true => simp at e; omega
  · intro p hp
    rcases List.mem_cons.mp hp with rfl | hp
    · intro i hi
      obtain ⟨-, -, -, w0, w1', -, w3⟩ := st1.2 i hi
      have w180 := st1.1.2.2.2
      show mA M2 a i = tA s2 244 i
      rw [a3 i hi, b3 i hi, w3, ix_nI (by omega)]
      exact (d1.2.1 w0 w1').1
    · have kk : KF D [90] [] [124, 149, 150, a] [] M M2 := (g0.1.mono (by decide) (by decide) (by simp) (by decide)).tr (a2.mono (by decide) (by decide) (by simp) (by decide))
      have ff : Ft [0, 1, 166, 170, 171, 222, 225, 226, 244] σ s2 := (g0.2.1.mono (by decide)).tr (b2.mono (by decide))
      exact rw_.up kk ff hl p hp
/-- a step ends -/
theorem z_fin (p : SpS C B P mss fss V U S q A Wn K1 K2 N D ns l M σ) : RsO true fbU spI spA spT 2 V D M σ (fun x _ M' σ' => x = .inl () ∧ (RnW C B P mss fss V U S q A Wn K1 K2 N D M' σ' ∧ VaE 1 V U Wn D M' σ') ∧ mI M' 85 1 = mI M 85 1) (obS (K_X0_solveBlocks M) (fun w57 M53 => some (.inr w57, M53)) fun _ M53 => some (.inl (), M53)) (ob (F_isBad σ) fun r s => if r = 0 then ob (F_solveBlocks s) fun _ s => some ((), s) else some ((), s)) := by
  obtain ⟨w, d, st, rw_⟩ := p
  have n94 : spT.contains 94 = false := rfl
  rw [t_isBad0 d.1.1, ob_some, ifT (rfl : (0 : Int32) = 0)]
  have sb := ((z_solveBlocks w d).im (Q2 := fun x _ M' σ' => x = .inl () ∧ (RnW C B P mss fss V U S q A Wn K1 K2 N D M' σ' ∧ VaE 1 V U Wn D M' σ') ∧ mI M' 85 1 = mI M 85 1) (fun x b M' σ' g ⟨g1, g2, g3⟩ => ⟨g1, ⟨g2, g3⟩, g.1.i rfl 1⟩)).mono (I' := spI) (A' := spA) (T' := spT) (nb' := 2) (by decide) (by decide) (by decide) (Nat.le_refl _)
  refine RsO.seq n94 sb (fun wx M' σ' y k1 k2 fo => ?_) (fun x b M' σ' k1 k2 g ⟨g1, g2⟩ => ?_)
  · exact ⟨by rw [k1, obS_inr], (), σ', by rw [k2, ob_some], Ft.rf _ _, rfl, rfl, rfl, rfl⟩
  · subst g1
    rw [k1, k2, obS_inl, ob_some]
    exact Or.inr ⟨_, _, M', σ', rfl, rfl, RsK.rf, rfl, g2⟩
end PHASE
