/-! Layer B: the flat model: a fault of both sides -/
set_option maxRecDepth 100000
/-- both sides have the fault: object w, the twin's fields -/
def FfO (C : PC) (B : Nat) (P : Nat → Prop) (mss fss : List Nat) (T : Nat → Prop) (S O : List Nat) (D D' : FQ) (M M' : CM) (σ σ' : TS) (w : Nat) : Prop := (IT C B P mss fss M' σ' ∧ PoW D' M' ∧ (∀ o, Tx P M' o → o < mn M' → 167 ≤ o → ow D' o = 0) ∧ FXb M') ∧ (rmN D' M' + 3 ≤ cN C ∧ rmS D' M' + 60192 ≤ cS C) ∧ Wz C C P M M' σ σ' ∧ Dx D D' M ∧ (mk M' w = 7 ∧ mI M' 1200 w = tI σ' 0 ∧ tI σ' 0 ≠ 0 ∧ mI M' 1201 w = 0 ∧ tI σ' 1 = 0) ∧ Fq D T M M' ∧ O1 O M M' ∧ Ft S σ σ'
section FAULT
variable {C : PC} {D D' D2 : FQ} {M M' M1 M2 : CM} {σ σ' σ1 σ2 : TS} {mss fss : List Nat} {B w V I Bm cr R E : Nat} {P T T' : Nat → Prop} {S S' O O' : List Nat} {r : Int32}
theorem FfO.mono (h : FfO C B P mss fss T S O D D' M M' σ σ' w) (hT : ∀ t, T t → T' t) (hS : S.all S'.contains = true) (hO : O.all O'.contains = true) : FfO C B P mss fss T' S' O' D D' M M' σ σ' w := by
  obtain ⟨h1, h2, h3, h4, h5, h6, h7, h8⟩ := h
  exact ⟨h1, h2, h3, h4, h5, h6.mono hT, h7.mono hO, h8.mono hS⟩
theorem FfO.tr (h : FfO C B P mss fss T S O D D' M M' σ σ' w) (v : Wz C C P M1 M σ1 σ) (x : Dx D2 D M1) (F : Fq D2 T M1 M) (o : O1 O M1 M) (f : Ft S σ1 σ) : FfO C B P mss fss T S O D2 D' M1 M' σ1 σ' w := by
  obtain ⟨h1, h2, h3, h4, h5, h6, h7, h8⟩ := h
  exact ⟨h1, h2, v.tr h3 (fun _ z => z), x.tr h4 v.1.1, h5, F.tr h6 x, o.tr h7, f.tr h8⟩
/-- both sides say so -/
theorem FW.bad (W : FW C B P mss fss D M σ) (hr : r ≠ 0) (hw : tI σ 0 = 0) : K_X0_wrong r 0 M = some (mn M, wM M r 0) ∧ F_bad r 0 σ = some ((), badT σ r) ∧ FfO C B P mss fss TFf [0, 1] [] D D M (wM M r 0) σ (badT σ r) (mn M) := by
  have hn := W.n167
  have hm := W.rm
  have Fw := wM_f M r 0
  have fq : Fq D TFf M (wM M r 0) := Fw.mono (fun o ho z => absurd z (fun q => q))
  have s1 : So M (wM M r 0) 1 := Fw.so (by omega) (fun q => q)
  obtain ⟨I', v⟩ := W.1.mv fq (fun o ho z => W.ntx ho z) (s1.i 9) (badT_f (σ := σ) (r := r)) (by decide)
  have wk : ∀ o, mk (wM M r 0) o = if o = mn M then 7 else mk M o := fun o => by show mk (mnew M 7 0 8) o = _; rw [mk_mnew]
  have sA : ∀ o, o < mn M → So M (wM M r 0) o := fun o ho => Fw.so ho (fun q => q)
  have hp : PoW D (wM M r 0) := W.2.1.gen hn Fw (fun o ho z => absurd z (fun q => q)) (fun k hk => (sA _ (W.2.1.2.1 98 (by decide) k hk).2.1.2).r _) (fun k hk => (sA _ (W.2.1.2.1 99 (by decide) k hk).2.1.2).r _) (fun o h1 h2 => by
    have : o = mn M := by have : o < mn M + 1 := h2; omega
    rw [wk, ifT this]; decide)
  have s0 : ∀ o, o < 167 → So M (wM M r 0) o := fun o ho => Fw.so (by omega) (fun q => q)
  have hl : ∀ o, o < mn M → ml (wM M r 0) o = ml M o := fun o ho => (Fw.2.1 o ho).2
  have s4 := s0 4 (by decide)
  have ar : ∀ l, l ∈ arL → mR (wM M r 0) 4201 l = mR M 4201 l := fun l hl => (s0 l (by have := arL_lt hl; omega)).r _
  have tx : ∀ o, Tx P (wM M r 0) o → Tx P M o := fun o z => by
    rcases z with z | z | z | ⟨l, hl, z⟩
    · exact Or.inl z
    · exact Or.inr (Or.inl z)
    · rw [s4.r] at z; exact Or.inr (Or.inr (Or.inl z))
    · rw [ar l hl] at z; exact Or.inr (Or.inr (Or.inr ⟨l, hl, z⟩))
  have cc : mn M ≤ rmN D M := Nat.le_add_right _ _
  -- room
  have capE : ∀ l, l ∈ flI → capI D (wM M r 0) l = capI D M l := fun l hl' => by
    have ll' : ll D (wM M r 0) l = ll D M l := by
      unfold ll
      by_cases q : l < 1000
      · rw [ifT q, ifT q]
      · rw [ifF q, ifF q]
        by_cases q2 : l - 1000 < (pl D 99).length
        · rw [ifT q2, ifT q2]; exact (sA _ (W.2.1.2.1 99 (by decide) _ q2).2.1.2).r _
        · rw [ifF q2, ifF q2]
    have llb : ll D M l ≠ 0 → ll D M l < mn M := fun z => by
      unfold ll at z ⊢
      by_cases q : l < 1000
      · rw [ifT q] at z ⊢
        have la : l ∈ flA := by
          unfold flI at hl'
          rcases List.mem_append.mp hl' with g | g
          · exact g
          · obtain ⟨k, _, hk⟩ := List.mem_map.mp g; omega
        have := flA_rng l la
        omega
      · rw [ifF q] at z ⊢
        by_cases q2 : l - 1000 < (pl D 99).length
        · rw [ifT q2] at z ⊢
          exact (W.2.1.2.2.2.1 (l - 1000) q2).2.1.2
        · rw [ifF q2] at z; exact absurd rfl z
    unfold capI cap
    rw [ll']
    by_cases z : ll D M l = 0
    · rw [ifT z, ifT z]
    · rw [ifF z, ifF z, (sA _ (llb z)).r]
      show (if mR M 4201 (ll D M l) = 4398046511104 then 0 else ml (wM M r 0) (mR M 4201 (ll D M l))) = _
      by_cases y : mR M 4201 (ll D M l) = 4398046511104
      · rw [ifT y, ifT y]
      · rw [ifF y, ifF y]
        refine hl _ ?_
        unfold ll at z y ⊢
        by_cases q : l < 1000
        · rw [ifT q] at z y ⊢
          have la : l ∈ flA := by
            unfold flI at hl'
            rcases List.mem_append.mp hl' with g | g
            · exact g
            · obtain ⟨k, _, hk⟩ := List.mem_map.mp g; omega
          rcases (W.2.1.1 l la).1.lt with g | g
          · exact absurd g y
          · exact g
        · rw [ifF q] at z y ⊢
          by_cases q2 : l - 1000 < (pl D 99).length
          · rw [ifT q2] at z y ⊢
            obtain ⟨⟨xs, y0, y1⟩, _⟩ := W.2.1.2.2.2.1 (l - 1000) q2
            rcases y0.lt with g | g
            · exact absurd g y
            · exact g
          · rw [ifF q2] at z; exact absurd rfl z
  have r1 : rmN D (wM M r 0) ≤ rmN D M + 1 := by
    have := lsum_le (g := ptN D (wM M r 0)) (f := ptN D M) flI (fun l hl => by unfold ptN; rw [capE l hl]; exact Nat.le_refl _)
    have e : mn (wM M r 0) = mn M + 1 := rfl
    unfold rmN; omega
  have r2 : rmS D (wM M r 0) ≤ rmS D M + 8 := by
    have := lsum_le (g := ptS D (wM M r 0)) (f := ptS D M) flI (fun l hl => by unfold ptS; rw [capE l hl]; exact Nat.le_refl _)
    have e : ms (wM M r 0) = ms M + 8 := rfl
    unfold rmS; omega
  have hc := W.2.2.2.2
  have e1 := (wM_n M r 0).1
  refine ⟨k_wrong (by omega) (by omega) r 0, t_badT hw, ⟨I', hp, fun o h1 h2 h3 => ?_, W.2.2.2.1.mv hn Fw (fun q hq => (s0 _ (fixO q hq).2).r _) (fun q hq => (s0 _ (fixI q hq).2).i _)⟩, ⟨by omega, by omega⟩, v, Dx.rf D M, ⟨wM_k M r 0, (wM_v M r 0).1, hr, (wM_v M r 0).2, rfl⟩, fq, O1.so s1, badT_f⟩
  · by_cases ho : o < mn M
    · exact W.2.2.1 o (tx o h1) ho h3
    · exfalso
      rcases tx o h1 with z | z | z | ⟨l, hl, z⟩
      · omega
      · have := (W.1.2.2.2.2.2.1.nx z).1; omega
      · obtain ⟨L, WN⟩ := W.1.1.2.1
        have := WN.2.2.2.2.2.2.2.1
        omega
      · rcases (W.1.2.2.2.1.2.2.2.2.2.2.2 l hl).2 with q | q
        · omega
        · omega
end FAULT
