/-! Layer B: the flat model: the world in which it is made -/
set_option maxRecDepth 100000
/-- what the making of instances writes: object 1, rows of variables .. outers, and all of rows -/
def TFf (t : Nat) : Prop := t = 1 ∨ (98 ≤ t ∧ t ≤ 102) ∨ 98000000 ≤ t
/-- fixed objects (of those behind the text's): kinds, lengths, references -/
def bfK : List (Nat × Nat × Nat) := [(1, 1, 0), (2, 51, 2000), (3, 51, 500), (103, 50, 17), (104, 50, 17), (105, 4, 0), (107, 4, 0), (110, 50, 101), (114, 54, 24), (115, 50, 400), (116, 50, 700), (117, 50, 2), (118, 50, 2), (119, 50, 180), (120, 50, 180), (121, 50, 180), (122, 50, 180), (123, 50, 180), (124, 50, 180), (125, 50, 180), (126, 54, 180), (127, 54, 180), (128, 52, 180), (129, 50, 180), (130, 50, 180), (131, 50, 180), (132, 52, 32400), (133, 4, 0), (135, 4, 0), (137, 54, 24), (138, 52, 180), (139, 52, 180), (140, 50, 180), (141, 50, 181), (142, 50, 180), (143, 50, 180), (144, 52, 180), (145, 50, 180), (146, 50, 180), (147, 50, 180), (148, 52, 24), (149, 50, 625), (150, 50, 25), (151, 5, 0), (152, 50, 180), (153, 50, 180), (154, 50, 96), (155, 50, 96), (156, 52, 24), (157, 52, 12), (158, 50, 180), (159, 50, 180), (160, 50, 180), (161, 50, 180), (162, 50, 180), (163, 50, 96), (164, 50, 96), (165, 50, 180), (166, 50, 625)]
def bfR : List (Nat × Nat × Nat) := [(600, 105, 106), (600, 107, 108), (600, 133, 134), (600, 135, 136), (801, 151, 152), (802, 151, 153), (803, 151, 154), (804, 151, 155), (805, 151, 156), (806, 151, 157)]
def bfI : List (Nat × Nat × Int32) := [(601, 105, 12000), (602, 105, 100), (603, 105, 24), (601, 107, 1000), (602, 107, 100), (603, 107, 24), (601, 133, 40000), (602, 133, 200), (603, 133, 52), (601, 135, 30000), (602, 135, 300), (603, 135, 52)]
def FXb (M : CM) : Prop := (∀ q, q ∈ bfK → mk M q.1 = q.2.1 ∧ ml M q.1 = q.2.2) ∧ (∀ q, q ∈ bfR → mR M q.1 q.2.1 = q.2.2) ∧ ∀ q, q ∈ bfI → mI M q.1 q.2.1 = q.2.2
/-- what was read, the rows, the fixed objects, room -/
def FW (C : PC) (B : Nat) (P : Nat → Prop) (mss fss : List Nat) (D : FQ) (M : CM) (σ : TS) : Prop := IT C B P mss fss M σ ∧ PoW D M ∧ (∀ o, Tx P M o → o < mn M → 167 ≤ o → ow D o = 0) ∧ FXb M ∧ (rmN D M + 4 ≤ cN C ∧ rmS D M + 60200 ≤ cS C) ∧ cN C ≤ 601024 ∧ cS C ≤ 7293034
section WORLD
variable {C : PC} {D D' : FQ} {M M' M2 : CM} {σ σ' : TS} {mss fss xs : List Nat} {B l k n o : Nat} {P X T : Nat → Prop} {S S' : List Nat}
theorem fixO : ∀ q, q ∈ bfR → 103 ≤ q.2.1 ∧ q.2.1 < 167 := by decide +kernel
theorem fixI : ∀ q, q ∈ bfI → 103 ≤ q.2.1 ∧ q.2.1 < 167 := by decide +kernel
theorem fixL : ∀ q, q ∈ bfK → q.1 < 167 := by decide +kernel
theorem FXb.mv (h : FXb M) (hn : 167 ≤ mn M) (F : Fz X M M') (hr : ∀ q, q ∈ bfR → mR M' q.1 q.2.1 = mR M q.1 q.2.1) (hi : ∀ q, q ∈ bfI → mI M' q.1 q.2.1 = mI M q.1 q.2.1) : FXb M' := ⟨fun q hq => by
  have a := h.1 q hq
  have b := F.2.1 q.1 (by have := fixL q hq; omega)
  exact ⟨b.1.trans a.1, b.2.trans a.2⟩, fun q hq => (hr q hq).trans (h.2.1 q hq), fun q hq => (hi q hq).trans (h.2.2 q hq)⟩
theorem FW.n167 (W : FW C B P mss fss D M σ) : 167 ≤ mn M := W.1.1.2.2.1
theorem FW.rN (W : FW C B P mss fss D M σ) : rmN D M ≤ 601024 := by have := W.2.2.2.2; omega
theorem FW.rS (W : FW C B P mss fss D M σ) : rmS D M + 60100 ≤ 7293034 := by have := W.2.2.2.2; omega
theorem FW.rm (W : FW C B P mss fss D M σ) : mn M + 4 ≤ 601024 ∧ ms M + 60200 ≤ 7293034 := by
  have h1 := W.2.2.2.2
  have c1 : mn M ≤ rmN D M := Nat.le_add_right _ _
  have c2 : ms M ≤ rmS D M := Nat.le_add_right _ _
  omega
theorem FW.k1 (W : FW C B P mss fss D M σ) : mk M 1 = 1 := (W.2.2.2.1.1 (1, 1, 0) (by decide)).1
theorem TF0 : ¬ TFf 0 := fun z => by unfold TFf at z; omega
/-- what is made now leaves what was read -/
theorem FW.ntx (W : FW C B P mss fss D M σ) (ho : o < mn M) (h : TFf (tgof D o)) : ¬ Tx P M o ∧ mk M o ≠ 23 := by
  have hm := W.rm
  by_cases q : o < 167
  · rw [tgo_s q] at h
    refine ⟨fun z => ?_, ?_⟩
    · have := W.1.ntx ho z
      unfold TFf at h; omega
    · rcases h with h | h | h
      · rw [h, W.k1]; decide
      · have hl : o ∈ flA := by
          rcases (by omega : o = 98 ∨ o = 99 ∨ o = 100 ∨ o = 101 ∨ o = 102) with q | q | q | q | q <;> rw [q] <;> decide
        rw [(W.2.1.1 o hl).1.1]; decide
      · omega
  · rw [tgo_d (by omega)] at h
    refine ⟨fun z => ?_, W.2.1.2.2.2.2 o (by omega) ho (fun z => ?_)⟩
    · rw [W.2.2.1 o z ho (by omega)] at h; exact TF0 h
    · rw [z] at h; exact TF0 h
theorem FW.mv (W : FW C B P mss fss D M σ) (F : Fq D TFf M M') (o1 : O1 S' M M') (h9 : S'.contains 9 = false) (hp : PoW D' M') (hx : Dx D D' M) (hr : rmN D' M' ≤ rmN D M ∧ rmS D' M' ≤ rmS D M) (f : Ft S σ σ') (hK : itK.all (fun k => !S.contains k) = true) : FW C B P mss fss D' M' σ' ∧ Wz C C P M M' σ σ' := by
  have hn := W.n167
  obtain ⟨I', v⟩ := W.1.mv F (fun o ho z => W.ntx ho z) (o1.1 9 h9) f hK
  have s0 : ∀ o, o < 167 → ¬ TFf o → So M M' o := fun o ho h => F.so (by omega) (fun z => h (by rw [tgo_s ho] at z; exact z))
  have s4 := s0 4 (by decide) (fun z => by unfold TFf at z; omega)
  have ar : ∀ l, l ∈ arL → mR M' 4201 l = mR M 4201 l := fun l hl => (s0 l (by have := arL_lt hl; omega) (fun z => by have := arL_lt hl; unfold TFf at z; omega)).r _
  have tx : ∀ o, Tx P M' o → Tx P M o := fun o z => by
    rcases z with z | z | z | ⟨l, hl, z⟩
    · exact Or.inl z
    · exact Or.inr (Or.inl z)
    · rw [s4.r] at z; exact Or.inr (Or.inr (Or.inl z))
    · rw [ar l hl] at z; exact Or.inr (Or.inr (Or.inr ⟨l, hl, z⟩))
  have hc := W.2.2.2.2
  have hm := W.rm
  refine ⟨⟨I', hp, fun o h1 h2 h3 => ?_, W.2.2.2.1.mv hn F (fun q hq => ?_) (fun q hq => ?_), ⟨by omega, by omega⟩, hc.2⟩, v⟩
  · by_cases ho : o < mn M
    · rw [hx.2 o ho]; exact W.2.2.1 o (tx o h1) ho h3
    · exfalso
      rcases tx o h1 with z | z | z | ⟨l, hl, z⟩
      · omega
      · have := (W.1.2.2.2.2.2.1.nx z).1; omega
      · obtain ⟨L, WN⟩ := W.1.1.2.1
        have := WN.2.2.2.2.2.2.2.1
        omega
      · have hp2 : mn M' ≤ rmN D' M' := Nat.le_add_right _ _
        rcases (W.1.2.2.2.1.2.2.2.2.2.2.2 l hl).2 with q | q
        · omega
        · omega
  · have h := fixO q hq
    exact (s0 _ h.2 (fun z => by unfold TFf at z; omega)).r _
  · have h := fixI q hq
    exact (s0 _ h.2 (fun z => by unfold TFf at z; omega)).i _
end WORLD
