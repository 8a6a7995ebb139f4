/-! Layer B: new unknowns, both sides -/
set_option maxRecDepth 100000
def kU5 (M : CM) (b o : Int32) (U : Nat) : CM := mwA (mwA (mwA (mwA (mwA (msI M 57 1 (nI (U + 1))) 119 U b) 120 U o) 121 U (-1)) 122 U (-1)) 123 U 0
def tU5 (s : TS) (b o fr : Int32) (U : Nat) : TS := tsA (tsA (tsA (tsA (tsA (tsI s 197 (nI (U + 1))) 187 U b) 188 U o) 189 U (-1)) 190 U fr) 191 U (-1)
/-- heads' unknowns bear their names -/
def HdU (V : Nat) (s : TS) (U : Nat) : Prop := ∀ v w, v < V → w < 180 → tA s 179 v = nI w → w < U ∧ tA s 187 w = nI v ∧ tA s 188 w = 0
/-- unknowns -/
def UkR (V : Nat) (M : CM) (s : TS) (U : Nat) : Prop := (mI M 57 1 = nI U ∧ tI s 197 = nI U ∧ U ≤ 180) ∧ ∀ u, u < U → (∃ b, (b < V ∧ HdU V s U) ∧ mA M 119 u = nI b ∧ tA s 187 u = nI b) ∧ (∃ o, o ≤ 3 ∧ mA M 120 u = nI o ∧ tA s 188 u = nI o) ∧ mA M 121 u = tA s 189 u ∧ (tA s 189 u = -1 ∨ ∃ w, (u < w ∧ tA s 187 w = tA s 187 u ∧ tA s 188 w = tA s 188 u + 1) ∧ w < U ∧ tA s 189 u = nI w)
/-- unknowns of heads -/
def UvR (D : FQ) (V : Nat) (σ : TS) (M : CM) (s : TS) (hd : Nat → Nat) (U : Nat) : Prop := ∀ v, v < V → ((tA σ 94 v = 0 ∧ hd v = v) ∧ ∃ u, u < U ∧ mI M 3219 ((pl D 98).getD v 0) = nI u ∧ tA s 179 v = nI u) ∨ (¬ (tA σ 94 v = 0 ∧ hd v = v) ∧ mI M 3219 ((pl D 98).getD v 0) = -1 ∧ tA s 179 v = -1)
/-- a fault before nodes are made -/
def SbA (D : FQ) (M0 : CM) (σ : TS) (M' : CM) (s' : TS) (w : Nat) : Prop := ∃ M r p, KF D svI [] svA [] M0 M ∧ (w = mn M ∧ M' = wM M r p) ∧ Ft sv1 σ s' ∧ tI s' 0 = r ∧ tI s' 1 = p ∧ r ≠ 0
abbrev ukS : List Nat := [187, 188, 189, 190, 191, 197]
abbrev ukA : List Nat := [119, 120, 121, 122, 123]
section UNK
variable {C : PC} {P : Nat → Prop} {mss fss : List Nat} {D : FQ} {M0 M M' M1 M2 : CM} {σ σ' s s' : TS} {I' R' A' X' S : List Nat} {B V I Bm K N E A Wn q qs k c w U b o u : Nat} {z7 : Nat → Nat} {hd : Nat → Nat} {sg : Nat → Int32} {x y p : Int32}
theorem k_newU (h : mI M 57 1 = nI U ∧ U < 180) (ho : o ≤ 3) (x p : Int32) : K_X0_newUnknown x (nI o) p M = some (.inl (nI U), kU5 M x (nI o) U) := by
  have iU : inb (nI U) 180 := inb_nI' h.2 (by decide)
  have xU : ix (nI U) = U := ix_nI (by omega)
  have ne : ¬ nI U = 180 := fun z => by have := (bI_eq (b := 180) (by omega) (by decide)).mp z; omega
  unfold K_X0_newUnknown
  rw [h.1, ifF ne, ifT (show nI o ≤ 3 from (bI_le (b := 3) (by omega) (by decide)).mpr ho), nm_eq, nI_addL, nm_eq, xU, ifT iU, nm_eq, ifT iU, nm_eq, ifT iU, nm_eq, ifT iU, nm_eq, ifT iU, nm_eq]
  rfl
theorem k_newUb (h : mI M 57 1 = nI U ∧ U ≤ 180) (hb : U = 180 ∨ 3 < o) (ho : o < 1000) (hn : mn M ≤ 601024 ∧ ms M + 8 ≤ 7293034 ∧ mn M ≠ 0) (x p : Int32) : K_X0_newUnknown x (nI o) p M = some (.inr (mn M), wM M 52 p) := by
  unfold K_X0_newUnknown
  by_cases e : U = 180
  · rw [h.1, ifT (show nI U = 180 by rw [e]; rfl), k_wrong ⟨hn.1, hn.2.1⟩ hn.2.2, ob_some, ifT (wM_k M 52 p)]
  · have ne : ¬ nI U = 180 := fun z => e ((bI_eq (b := 180) (by omega) (by decide)).mp z)
    rw [h.1, ifF ne, ifF (show ¬ nI o ≤ 3 from fun z => by have := (bI_le (b := 3) (by omega) (by decide)).mp z; omega), k_wrong ⟨hn.1, hn.2.1⟩ hn.2.2, ob_some, ifT (wM_k M 52 p)]
theorem t_newU (h : tI s 197 = nI U ∧ U < 180) (ho : o ≤ 3) (x : Int32) : F_newUnknown x (nI o) (-1) s = some (nI U, tU5 s x (nI o) (-1) U) := by
  have iU : inb (nI U) 200 := inb_nI' (by omega) (by decide)
  have xU : ix (nI U) = U := ix_nI (by omega)
  have ne : ¬ nI U = 180 := fun z => by have := (bI_eq (b := 180) (by omega) (by decide)).mp z; omega
  unfold F_newUnknown
  rw [h.1, ifF ne, nm_eq, nI_addL, nm_eq, xU, ifT iU, nm_eq, ifT iU, nm_eq, ifT iU, nm_eq, ifT iU, nm_eq, ifT iU, nm_eq, ifT (by decide), ifT (show nI o < 4 from (bI_lt (b := 4) (by omega) (by decide)).mpr (by omega))]
  rfl
theorem t_newU2 (h : tI s 197 = nI U ∧ U < 180) (ho : o ≤ 3) (hf : u < 180) (x : Int32) : F_newUnknown x (nI o) (nI u) s = some (nI U, tsA (tU5 s x (nI o) (nI u) U) 189 u (nI U)) := by
  have iU : inb (nI U) 200 := inb_nI' (by omega) (by decide)
  have iu : inb (nI u) 200 := inb_nI' (by omega) (by decide)
  have xU : ix (nI U) = U := ix_nI (by omega)
  have xu : ix (nI u) = u := ix_nI (by omega)
  have ne : ¬ nI U = 180 := fun z => by have := (bI_eq (b := 180) (by omega) (by decide)).mp z; omega
  unfold F_newUnknown
  rw [h.1, ifF ne, nm_eq, nI_addL, nm_eq, xU, ifT iU, nm_eq, ifT iU, nm_eq, ifT iU, nm_eq, ifT iU, nm_eq, ifT iU, nm_eq, ifF (show ¬ nI u < 0 from n_neg (by omega)), ifT iu, xu, nm_eq, ifT (show nI o < 4 from (bI_lt (b := 4) (by omega) (by decide)).mpr (by omega))]
  rfl
/-- the twin's fault: 52 at 204, in whatever state -/
theorem t_newUb (h : tI s 197 = nI U ∧ U ≤ 180) (hb : U = 180 ∨ 3 < o) (ho : o < 1000) (hf : u < 180) (h0 : tI s 0 = 0) (x : Int32) : ∃ r s', F_newUnknown x (nI o) (nI u) s = some (r, s') ∧ Ft [0, 1, 187, 188, 189, 190, 191, 197] s s' ∧ tI s' 0 = 52 ∧ tI s' 1 = tI s 204 := by
  unfold F_newUnknown
  by_cases e : U = 180
  · rw [h.1, ifT (show nI U = 180 by rw [e]; rfl), t_bad h0, ob_some]
    exact ⟨_, _, rfl, ((Ft.rf _ s).p_tsI rfl).p_tsI rfl, rfl, rfl⟩
  · have iU : inb (nI U) 200 := inb_nI' (by omega) (by decide)
    have iu : inb (nI u) 200 := inb_nI' (by omega) (by decide)
    have xU : ix (nI U) = U := ix_nI (by omega)
    have xu : ix (nI u) = u := ix_nI (by omega)
    have ne : ¬ nI U = 180 := fun z => e ((bI_eq (b := 180) (by omega) (by decide)).mp z)
    rw [h.1, ifF ne, nm_eq, nI_addL, nm_eq, xU, ifT iU, nm_eq, ifT iU, nm_eq, ifT iU, nm_eq, ifT iU, nm_eq, ifT iU, nm_eq, ifF (show ¬ nI u < 0 from n_neg (by omega)), ifT iu, xu, nm_eq, ifF (show ¬ nI o < 4 from fun z => by have := (bI_lt (b := 4) (by omega) (by decide)).mp z; omega)]
    obtain ⟨s2, hs2⟩ : ∃ q, q = tsA (tsA (tsA (tsA (tsA (tsA (tsI s 197 (nI (U + 1))) 187 U x) 188 U (nI o)) 189 U (-1)) 190 U (nI u)) 191 U (-1)) 189 u (nI U) := ⟨_, rfl⟩
    have f2 : Ft [0, 1, 187, 188, 189, 190, 191, 197] s s2 := by rw [hs2]; exact (((((((Ft.rf _ s).p_tsI rfl).p_tsA rfl).p_tsA rfl).p_tsA rfl).p_tsA rfl).p_tsA rfl).p_tsA rfl
    have g0 : tI s2 0 = 0 := by rw [hs2]; exact h0
    have g4 : tI s2 204 = tI s 204 := (f2 204 rfl).1
    rw [← hs2, t_bad g0, ob_some]
    exact ⟨_, _, rfl, (f2.p_tsI rfl).p_tsI rfl, rfl, g4⟩
theorem kU5_k : KF D [57] [] ukA [] M (kU5 M x y U) := (((((KF.rf.wI rfl TZ.one).wA rfl ⟨by decide, by decide⟩).wA rfl ⟨by decide, by decide⟩).wA rfl ⟨by decide, by decide⟩).wA rfl ⟨by decide, by decide⟩).wA rfl ⟨by decide, by decide⟩
theorem tU5_f : Ft ukS s (tU5 s x y p U) := ((((((Ft.rf _ s).p_tsI rfl).p_tsA rfl).p_tsA rfl).p_tsA rfl).p_tsA rfl).p_tsA rfl
theorem kU5_v (j : Nat) : mA (kU5 M x y U) 119 j = (if j = U then x else mA M 119 j) ∧ mA (kU5 M x y U) 120 j = (if j = U then y else mA M 120 j) ∧ mA (kU5 M x y U) 121 j = (if j = U then -1 else mA M 121 j) ∧ mA (kU5 M x y U) 122 j = (if j = U then -1 else mA M 122 j) ∧ mA (kU5 M x y U) 123 j = if j = U then 0 else mA M 123 j := by
  unfold kU5
  by_cases e : j = U <;> simp +decide only [mA_mwA, mA_msI, e, ↓reduceIte]
theorem tU5_v (j : Nat) : tA (tU5 s x y p U) 187 j = (if j = U then x else tA s 187 j) ∧ tA (tU5 s x y p U) 188 j = (if j = U then y else tA s 188 j) ∧ tA (tU5 s x y p U) 189 j = (if j = U then -1 else tA s 189 j) ∧ tA (tU5 s x y p U) 191 j = if j = U then -1 else tA s 191 j := by
  unfold tU5
  by_cases e : j = U <;> simp +decide only [tA_tsA, tA_tsI, e, ↓reduceIte]
/-- one more -/
theorem UkR.mv (h : UkR V M s U) (m57 : mI M' 57 1 = mI M 57 1) (t197 : tI s' 197 = tI s 197) (a : ∀ u, mA M' 119 u = mA M 119 u ∧ mA M' 120 u = mA M 120 u ∧ mA M' 121 u = mA M 121 u) (b : ∀ u, tA s' 179 u = tA s 179 u ∧ tA s' 187 u = tA s 187 u ∧ tA s' 188 u = tA s 188 u ∧ tA s' 189 u = tA s 189 u) : UkR V M' s' U := by
  have a1 : mA M' 119 = mA M 119 := funext fun u => (a u).1
  have a2 : mA M' 120 = mA M 120 := funext fun u => (a u).2.1
  have a3 : mA M' 121 = mA M 121 := funext fun u => (a u).2.2
  have b1 : tA s' 179 = tA s 179 := funext fun u => (b u).1
  have b2 : tA s' 187 = tA s 187 := funext fun u => (b u).2.1
  have b3 : tA s' 188 = tA s 188 := funext fun u => (b u).2.2.1
  have b4 : tA s' 189 = tA s 189 := funext fun u => (b u).2.2.2
  unfold UkR HdU at *
  rw [a1, a2, a3, b1, b2, b3, b4, m57, t197]
  exact h
theorem UkR.new (h : UkR V M s U) (hh : HdU V s U) (hU : U < 180) (hb : b < V) (ho : o ≤ 3) : UkR V (kU5 M (nI b) (nI o) U) (tU5 s (nI b) (nI o) p U) (U + 1) := by
  obtain ⟨⟨h1, h2, h3⟩, h4⟩ := h
  have hh' : HdU V (tU5 s (nI b) (nI o) p U) (U + 1) := fun v w hv hw e => by
    have e : tA s 179 v = nI w := by rw [← e]; exact ((tU5_f (s := s) (x := nI b) (y := nI o) (p := p) (U := U) 179 rfl).2.2.1 v).symm
    obtain ⟨c1, c2, c3⟩ := hh v w hv hw e
    obtain ⟨d1, d2, -⟩ := tU5_v (s := s) (x := nI b) (y := nI o) (p := p) (U := U) w
    exact ⟨by omega, by rw [d1, ifF (by omega)]; exact c2, by rw [d2, ifF (by omega)]; exact c3⟩
  refine ⟨⟨rfl, rfl, by omega⟩, fun u hu => ?_⟩
  obtain ⟨a1, a2, a3, -⟩ := kU5_v (M := M) (x := nI b) (y := nI o) (U := U) u
  obtain ⟨b1, b2, b3, -⟩ := tU5_v (s := s) (x := nI b) (y := nI o) (p := p) (U := U) u
  rw [a1, a2, a3, b1, b2, b3]
  by_cases e : u = U
  · simp only [ifT e]
    exact ⟨⟨b, ⟨hb, hh'⟩, rfl, rfl⟩, ⟨o, ho, rfl, rfl⟩, trivial, Or.inl trivial⟩
  · simp only [ifF e]
    obtain ⟨c1, c2, c3, c4⟩ := h4 u (by omega)
    refine ⟨c1.imp (fun b' z => ⟨⟨z.1.1, hh'⟩, z.2⟩), c2, c3, c4.imp id (fun ⟨w, ⟨w1, w4, w5⟩, w2, w3⟩ => ⟨w, ⟨w1, ?_, ?_⟩, by omega, w3⟩)⟩
    · rw [(tU5_v (s := s) (x := nI b) (y := nI o) (p := p) (U := U) w).1, ifF (by omega)]; exact w4
    · rw [(tU5_v (s := s) (x := nI b) (y := nI o) (p := p) (U := U) w).2.1, ifF (by omega)]; exact w5
/-- its derivative -/
theorem UkR.link (h : UkR V M s U) (hw : u < w ∧ w < U) (hl : tA s 187 w = tA s 187 u ∧ tA s 188 w = tA s 188 u + 1) : UkR V (mwA M 121 u (nI w)) (tsA s 189 u (nI w)) U := by
  obtain ⟨h0, h4⟩ := h
  have t7 : ∀ i, tA (tsA s 189 u (nI w)) 187 i = tA s 187 i := fun i => by rw [tA_tsA, ifF (by omega)]
  have t8 : ∀ i, tA (tsA s 189 u (nI w)) 188 i = tA s 188 i := fun i => by rw [tA_tsA, ifF (by omega)]
  have t9 : ∀ i, tA (tsA s 189 u (nI w)) 179 i = tA s 179 i := fun i => by rw [tA_tsA, ifF (by omega)]
  refine ⟨h0, fun j hj => ?_⟩
  obtain ⟨⟨b, ⟨c1, c1'⟩, c1''⟩, c2, c3, c4⟩ := h4 j hj
  have hh' : HdU V (tsA s 189 u (nI w)) U := fun v i hv hi e => by
    rw [t9] at e
    rw [t7, t8]
    exact c1' v i hv hi e
  rw [mA_mwA, mA_mwA, mA_mwA, t7, t8, tA_tsA]
  rw [ifF (show ¬ ((119 : Nat) = 121 ∧ j = u) by omega), ifF (show ¬ ((120 : Nat) = 121 ∧ j = u) by omega)]
  refine ⟨⟨b, ⟨c1, hh'⟩, c1''⟩, c2, ?_⟩
  by_cases e : j = u
  · rw [ifT ⟨rfl, e⟩, ifT ⟨rfl, e⟩]
    exact ⟨rfl, Or.inr ⟨w, ⟨by omega, by rw [t7, e]; exact hl.1, by rw [t8, e]; exact hl.2⟩, hw.2, rfl⟩⟩
  · rw [ifF (fun z => e z.2), ifF (fun z => e z.2)]
    exact ⟨c3, c4.imp id (fun ⟨w', ⟨w1, w4, w5⟩, w2, w3⟩ => ⟨w', ⟨w1, by rw [t7]; exact w4, by rw [t8]; exact w5⟩, w2, w3⟩)⟩
end UNK
