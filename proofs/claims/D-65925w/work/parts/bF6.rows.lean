/-! Layer B: the flat model: the rows of an element (the component), its modifications (the twin) -/
set_option maxRecDepth 100000
/-- the rest of an element, its rows behind it -/
def elC (cf : Nat → Nat → Int32 → Int32 → Int32 → CM → Option ((Unit ⊕ Nat) × CM)) (io eo mo : Nat) (v y x5 : Int32) (M2 : CM) : Option ((Unit ⊕ Nat) × CM) := if mk M2 eo = 11 then ob (K_X11_isReal eo M2) fun r M3 => if r = 0 then obS (cf io mo v y x5 M3) (fun w M4 => some (.inr w, M4)) fun _ M4 => nm (msI M4 18 1 v) fun M5 => some (.inl (), M5) else if y < 0 then obS (K_X0_variables io mo v M3) (fun w M4 => some (.inr w, M4)) fun _ M4 => nm (msI M4 18 1 v) fun M5 => some (.inl (), M5) else ob (K_X0_wrong 22 0 M3) fun r M4 => if mk M4 r = 7 then some (.inr r, M4) else none else none
section ROWS6
variable {C C' : PC} {D D' D2 : FQ} {M M' M1 M2 : CM} {σ σ' σ0 σ2 : TS} {mss fss xs bs qs os : List Nat} {B l k n o m u w Q I I' L V V' Bm Bm' b v r R R' E E' cr i i' k0 fr e eo fl z env kk tf cb d : Nat} {P P' X T : Nat → Prop} {S S' : List Nat} {a : Nat × Nat × Nat} {A W W1 W2 : List (Nat × Nat × Nat)} {ks : List (Nat × Nat)} {x : Int64}
/-- rows are given back -/
theorem FiS.cut (F : FiS C B P mss fss D M σ V I Bm cr R' E) (hR : R ≤ R') : FiS C B P mss fss D (msI M 18 1 (nI R)) σ V I Bm cr R E ∧ Wz C C P M (msI M 18 1 (nI R)) σ σ ∧ (∀ k, RwS D M D (msI M 18 1 (nI R)) k ∧ hit D (msI M 18 1 (nI R)) k = hit D M k) ∧ FqO D (fun t => t = 1) M (msI M 18 1 (nI R)) := by
  have W := F.1
  have h167 := W.n167
  obtain ⟨r1, r2⟩ := F.r18
  have Fz1 : Fz (fun o => o = 1) M (msI M 18 1 (nI R)) := Fz.rf.msI (fun _ => rfl)
  have W2 : PoW D (msI M 18 1 (nI R)) := W.2.1.mv h167 Fz1 (fun o ho z => nfx1 o ho z) (fun o h1 h2 => absurd h2 (by show ¬ o < mn M; omega))
  have fq : Fq D (fun t => t = 1) M (msI M 18 1 (nI R)) := Fz1.mono (fun o ho z => by rw [z, tgo_s (by decide)])
  have rm := rm_same (D := D) (M := M) (M' := msI M 18 1 (nI R)) ⟨rfl, rfl⟩ (fun o => ⟨rfl, rfl, rfl⟩)
  have o1 : O1 [18] M (msI M 18 1 (nI R)) := O1.msI rfl
  obtain ⟨W', v⟩ := W.mv (fq.mono (fun t z => Or.inl z)) o1 (by decide) W2 (Dx.rf D M) (by rw [rm.1, rm.2]; exact ⟨Nat.le_refl _, Nat.le_refl _⟩) (Ft.rf [] σ) (by decide)
  have N := F.2.1.kp W.2.1 fq (fun t z => by
    rw [z]
    refine ⟨fun v hv => ?_, fun n hn => ?_, fun b hb => ?_⟩ <;> unfold tg <;> omega) v (Dx.rf D M) Tk.rf
  obtain ⟨-, -, ⟨⟨b1, b2, b3⟩, ⟨b4, b5, b6⟩, b7, b8⟩, ⟨g', g1, g2, g3, g4⟩, -, e, os, c1, c2⟩ := F
  refine ⟨⟨W', N, ⟨⟨by rw [o1.1 15 rfl]; exact b1, b2, b3⟩, ⟨by rw [o1.1 16 rfl]; exact b4, b5, b6⟩, by rw [o1.1 17 rfl]; exact b7, b8⟩, ⟨g', by rw [o1.1 31 rfl]; exact g1, g2, g3, g4⟩, ⟨by rw [mI_msI, ifT ⟨rfl, rfl⟩], by omega⟩, e, os, by rw [← c2.1]; exact (W'.2.1.1 102 (by decide)).1, c2⟩, v, fun k => ⟨⟨rfl, rfl, ?_, rfl⟩, ?_⟩, fq, o1⟩
  · rw [mI_msI, ifF (by omega)]
  · show mI (msI M 18 1 (nI R)) 2803 ((pl D 101).getD k 0) = _
    rw [mI_msI, ifF (by omega)]; rfl
/-- fewer members to come -/
theorem FiS.cr' {cr' : Nat} (F : FiS C B P mss fss D M σ V I Bm cr R E) (h : cr' ≤ cr) : FiS C B P mss fss D M σ V I Bm cr' R E := by
  obtain ⟨a, b, c, ⟨g', g1, g2, g3, g4⟩, d⟩ := F
  exact ⟨a, b, c, ⟨g', g1, g2, g3, by omega⟩, d⟩
theorem FiS.tm24 (F : FiS C B P mss fss D M σ V I Bm cr R E) (hB : B ≤ 1280) : tM σ ≤ 2400 := by
  obtain ⟨-, -, -, -, -, -, -, ⟨K, y1, y2, y3⟩, -⟩ := F.1.1
  unfold tM; rw [y1, ix_nI (by omega)]; omega
theorem MsR.mx (h : MsR C P M σ l e) (hM : tM σ ≤ 2400) (hQ : tQ σ ≤ 7000) : ∃ os k0, LsP P M l os ∧ (1 ≤ k0 ∧ k0 + os.length ≤ tM σ) ∧ os.length ≤ 426 ∧ (∀ j, j < os.length → MdR C P M σ (os.getD j 0) (k0 + j)) ∧ MxT σ e k0 os.length := by
  obtain ⟨os, k0, h1, ⟨h2, h3, h4⟩, h5, h6⟩ := h
  refine ⟨os, k0, h1, ⟨h2, h3⟩, by omega, fun j hj => (h6 j hj).1, ⟨⟨h2, by have : k0 + os.length ≤ tM σ := h3; omega⟩, fun t ht => ?_⟩, ?_, fun t ht z => ?_⟩
  · obtain ⟨⟨g1, g2⟩, g3⟩ := h6 t ht
    refine ⟨g3, fun z => ?_, ?_⟩
    · rcases g2 with ⟨c, _⟩ | ⟨c1, c2, bs, qs, e, d, c3, c4, c5, c6, _⟩
      · rw [c] at z; exact absurd z (by decide)
      · refine ⟨qs.getD 0 0, ?_, ?_, c6⟩
        · exact (c4.2.2 0 (by cases qs with
            | nil => exact absurd rfl c5
            | cons a l => exact Nat.succ_pos _)).1.1
        · have := (c4.2.2 0 (by cases qs with
            | nil => exact absurd rfl c5
            | cons a l => exact Nat.succ_pos _)).1
          omega
    · rcases g2 with ⟨c, _⟩ | ⟨c, _⟩
      · exact Or.inr c
      · exact Or.inl c
  · rw [h5]
    unfold ptr
    by_cases q : os.length = 0
    · rw [ifT q, ifF (by omega)]
    · rw [ifF q, ifT (by omega)]; rfl
  · obtain ⟨⟨g1, g2⟩, g3⟩ := h6 t ht
    rcases g2 with ⟨c, _⟩ | ⟨c1, c2, bs, qs, e, d, c3, c4, c5, c6, c7, c8, c9⟩
    · rw [c] at z; exact absurd z (by decide)
    · have := c9.pos
      rw [c7]
      intro z
      have := (bI_eq (b := 0) (by omega) (by decide)).mp z
      omega
end ROWS6
