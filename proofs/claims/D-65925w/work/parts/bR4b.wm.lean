/-! Layer B: one more object of a fault -/
set_option maxRecDepth 100000
section WMF
variable {C : PC} {D D' D2 : FQ} {M M' M1 M2 : CM} {σ σ' σ1 σ2 : TS} {mss fss : List Nat} {B w V I Bm cr R E : Nat} {P T T' : Nat → Prop} {S S' O O' : List Nat}
theorem FW.wm (W : FW C B P mss fss D M σ) (r p : Int32) (hcc : cN C + 1 ≤ 601024 ∧ cS C + 8 ≤ 7293034) : FW (C.rm (cN C + 1) (cS C + 8)) B P mss fss D (wM M r p) σ ∧ Wz C C P M (wM M r p) σ σ ∧ Fz none_ M (wM M r p) := by
  have hn := W.n167
  have hm := W.rm
  have Fw := wM_f M r p
  have fq : Fq D TFf M (wM M r p) := Fw.mono (fun o ho z => absurd z (fun q => q))
  have s1 : So M (wM M r p) 1 := Fw.so (by omega) (fun q => q)
  obtain ⟨I', v⟩ := W.1.mv fq (fun o ho z => W.ntx ho z) (s1.i 9) (Ft.rf [] σ) (by decide)
  have wk : ∀ o, mk (wM M r p) o = if o = mn M then 7 else mk M o := fun o => by show mk (mnew M 7 0 8) o = _; rw [mk_mnew]
  have sA : ∀ o, o < mn M → So M (wM M r p) o := fun o ho => Fw.so ho (fun q => q)
  have hp : PoW D (wM M r p) := W.2.1.gen hn Fw (fun o ho z => absurd z (fun q => q)) (fun k hk => (sA _ (W.2.1.2.1 98 (by decide) k hk).2.1.2).r _) (fun k hk => (sA _ (W.2.1.2.1 99 (by decide) k hk).2.1.2).r _) (fun o h1 h2 => by
    have : o = mn M := by have : o < mn M + 1 := h2; omega
    rw [wk, ifT this]; decide)
  have s0 : ∀ o, o < 167 → So M (wM M r p) o := fun o ho => Fw.so (by omega) (fun q => q)
  have hl : ∀ o, o < mn M → ml (wM M r p) o = ml M o := fun o ho => (Fw.2.1 o ho).2
  have s4 := s0 4 (by decide)
  have ar : ∀ l, l ∈ arL → mR (wM M r p) 4201 l = mR M 4201 l := fun l hl => (s0 l (by have := arL_lt hl; omega)).r _
  have tx : ∀ o, Tx P (wM M r p) o → Tx P M o := fun o z => by
    rcases z with z | z | z | ⟨l, hl, z⟩
    · exact Or.inl z
    · exact Or.inr (Or.inl z)
    · rw [s4.r] at z; exact Or.inr (Or.inr (Or.inl z))
    · rw [ar l hl] at z; exact Or.inr (Or.inr (Or.inr ⟨l, hl, z⟩))
  have cc : mn M ≤ rmN D M := Nat.le_add_right _ _
  -- room
  have capE : ∀ l, l ∈ flI → capI D (wM M r p) l = capI D M l := fun l hl' => by
    have ll' : ll D (wM M r p) l = ll D M l := by
      unfold ll
      by_cases q : l < 1000
      · rw [ifT q, ifT q]
      · rw [ifF q, ifF q]
        by_cases q2 : l - 1000 < (pl D 99).length
        · rw [ifT q2, ifT q2]; exact (sA _ (W.2.1.2.1 99 (by decide) _ q2).2.1.2).r _
        · rw [ifF q2, ifF q2]
    have llb : ll D M l ≠ 0 → ll D M l < mn M := fun z => by
      unfold ll at z ⊢
      by_cases q : l < 1000
      · rw [ifT q] at z ⊢
        have la : l ∈ flA := by
          unfold flI at hl'
          rcases List.mem_append.mp hl' with g | g
          · exact g
          · obtain ⟨k, _, hk⟩ := List.mem_map.mp g; omega
        have := flA_rng l la
        omega
      · rw [ifF q] at z ⊢
        by_cases q2 : l - 1000 < (pl D 99).length
        · rw [ifT q2] at z ⊢
          exact (W.2.1.2.2.2.1 (l - 1000) q2).2.1.2
        · rw [ifF q2] at z; exact absurd rfl z
    unfold capI cap
    rw [ll']
    by_cases z : ll D M l = 0
    · rw [ifT z, ifT z]
    · rw [ifF z, ifF z, (sA _ (llb z)).r]
      show (if mR M 4201 (ll D M l) = 4398046511104 then 0 else ml (wM M r p) (mR M 4201 (ll D M l))) = _
      by_cases y : mR M 4201 (ll D M l) = 4398046511104
      · rw [ifT y, ifT y]
      · rw [ifF y, ifF y]
        refine hl _ ?_
        unfold ll at z y ⊢
        by_cases q : l < 1000
        · rw [ifT q] at z y ⊢
          have la : l ∈ flA := by
            unfold flI at hl'
            rcases List.mem_append.mp hl' with g | g
            · exact g
            · obtain ⟨k, _, hk⟩ := List.mem_map.mp g; omega
          rcases (W.2.1.1 l la).1.lt with g | g
          · exact absurd g y
          · exact g
        · rw [ifF q] at z y ⊢
          by_cases q2 : l - 1000 < (pl D 99).length
          · rw [ifT q2] at z y ⊢
            obtain ⟨⟨xs, y0, y1⟩, _⟩ := W.2.1.2.2.2.1 (l - 1000) q2
            rcases y0.lt with g | g
            · exact absurd g y
            · exact g
          · rw [ifF q2] at z; exact absurd rfl z
  have r1 : rmN D (wM M r p) ≤ rmN D M + 1 := by
    have := lsum_le (g := ptN D (wM M r p)) (f := ptN D M) flI (fun l hl => by unfold ptN; rw [capE l hl]; exact Nat.le_refl _)
    have e : mn (wM M r p) = mn M + 1 := rfl
    unfold rmN; omega
  have r2 : rmS D (wM M r p) ≤ rmS D M + 8 := by
    have := lsum_le (g := ptS D (wM M r p)) (f := ptS D M) flI (fun l hl => by unfold ptS; rw [capE l hl]; exact Nat.le_refl _)
    have e : ms (wM M r p) = ms M + 8 := rfl
    unfold rmS; omega
  have hc := W.2.2.2.2
  have e1 := (wM_n M r p).1
  refine ⟨⟨(I'.rm : IT (C.rm (cN C + 1) (cS C + 8)) B P mss fss (wM M r p) σ), hp, fun o h1 h2 h3 => ?_, W.2.2.2.1.mv hn Fw (fun q hq => (s0 _ (fixO q hq).2).r _) (fun q hq => (s0 _ (fixI q hq).2).i _), ⟨by show rmN D (wM M r p) + 4 ≤ cN C + 1; omega, by show rmS D (wM M r p) + 60200 ≤ cS C + 8; omega⟩, by show cN C + 1 ≤ 601024; omega, by show cS C + 8 ≤ 7293034; omega⟩, v, Fw⟩
  · by_cases ho : o < mn M
    · exact W.2.2.1 o (tx o h1) ho h3
    · exfalso
      rcases tx o h1 with z | z | z | ⟨l, hl, z⟩
      · omega
      · have := (W.1.2.2.2.2.2.1.nx z).1; omega
      · obtain ⟨L, WN⟩ := W.1.1.2.1
        have := WN.2.2.2.2.2.2.2.1
        omega
      · rcases (W.1.2.2.2.1.2.2.2.2.2.2.2 l hl).2 with q | q
        · omega
        · omega
end WMF
