/-! Layer B: how a rate changes with a state, both sides -/
set_option maxRecDepth 100000
abbrev swI : List Nat := [90]
abbrev swA : List Nat := [124, 149, 150, 165]
abbrev swT : List Nat := [0, 1, 163, 165, 166, 167, 168, 169, 170, 171, 222, 225, 226, 228, 229, 230, 231, 232, 233, 234, 235]
/-- the twin's values are what they were, and what it kept first -/
def SmT (V U q Wn : Nat) (σ σ' : TS) : Prop := (tI σ' 165 = tI σ 165 ∧ (∀ u, u < U → tA σ' 166 u = tA σ 166 u ∧ tA σ' 167 u = tA σ 167 u) ∧ (∀ v, v < V → tA σ' 168 v = tA σ 168 v ∧ tA σ' 169 v = tA σ 169 v) ∧ (∀ r, r < q → tA σ' 163 r = tA σ 163 r) ∧ ∀ w, w < Wn → tA σ' 235 w = tA σ 235 w) ∧ (tA σ' 232 0 = tA σ 232 0 ∧ (∀ k, k < 200 → tA σ' 228 k = tA σ 228 k ∧ tA σ' 229 k = tA σ 229 k) ∧ (∀ k, k < 96 → tA σ' 230 k = tA σ 230 k ∧ tA σ' 231 k = tA σ 231 k) ∧ (∀ k, k < 24 → tA σ' 233 k = tA σ 233 k) ∧ ∀ k, k < 12 → tA σ' 234 k = tA σ 234 k)
section SLOPE
variable {pq : Bool} {C C' : PC} {B : Nat} {P : Nat → Prop} {mss fss : List Nat} {V U S q A Wn K1 K2 N e r w v u b n i j k a m kf tf h wo nb t0 X ns : Nat} {D : FQ} {M M' M1 : CM} {σ σ' s σ1 s1 s2 : TS} {x x1 x2 x3 y z y1 y2 y3 : Int32} {I A0 T : List Nat}
theorem SmT.tr (h : SmT V U q Wn σ s) (g : SmT V U q Wn s s1) : SmT V U q Wn σ s1 := by
  obtain ⟨⟨a1, a2, a3, a4, a5⟩, b1, b2, b3, b4, b5⟩ := h
  obtain ⟨⟨c1, c2, c3, c4, c5⟩, d1, d2, d3, d4, d5⟩ := g
  exact ⟨⟨c1.trans a1, fun u hu => ⟨(c2 u hu).1.trans (a2 u hu).1, (c2 u hu).2.trans (a2 u hu).2⟩, fun u hu => ⟨(c3 u hu).1.trans (a3 u hu).1, (c3 u hu).2.trans (a3 u hu).2⟩, fun u hu => (c4 u hu).trans (a4 u hu), fun u hu => (c5 u hu).trans (a5 u hu)⟩, d1.trans b1, fun u hu => ⟨(d2 u hu).1.trans (b2 u hu).1, (d2 u hu).2.trans (b2 u hu).2⟩, fun u hu => ⟨(d3 u hu).1.trans (b3 u hu).1, (d3 u hu).2.trans (b3 u hu).2⟩, fun u hu => (d4 u hu).trans (b4 u hu), fun u hu => (d5 u hu).trans (b5 u hu)⟩
theorem SmT.ft (f : Ft T σ s) (hT : [163, 165, 166, 167, 168, 169, 228, 229, 230, 231, 232, 233, 234, 235].all (fun k => !T.contains k) = true) : SmT V U q Wn σ s := by
  have hf : ∀ k, k ∈ [163, 165, 166, 167, 168, 169, 228, 229, 230, 231, 232, 233, 234, 235] → tI s k = tI σ k ∧ ∀ j, tA s k j = tA σ k j := fun k hk => ⟨(f k (by simpa using List.all_eq_true.mp hT k hk)).1, (f k (by simpa using List.all_eq_true.mp hT k hk)).2.2.1⟩
  exact ⟨⟨(hf 165 (by decide)).1, fun u _ => ⟨(hf 166 (by decide)).2 u, (hf 167 (by decide)).2 u⟩, fun u _ => ⟨(hf 168 (by decide)).2 u, (hf 169 (by decide)).2 u⟩, fun u _ => (hf 163 (by decide)).2 u, fun u _ => (hf 235 (by decide)).2 u⟩, (hf 232 (by decide)).2 0, fun u _ => ⟨(hf 228 (by decide)).2 u, (hf 229 (by decide)).2 u⟩, fun u _ => ⟨(hf 230 (by decide)).2 u, (hf 231 (by decide)).2 u⟩, fun u _ => (hf 233 (by decide)).2 u, fun u _ => (hf 234 (by decide)).2 u⟩
/-- the twin goes back to what it kept second -/
theorem smt_bk (hU : U ≤ 180) (hV : V ≤ 96) (hq : q ≤ 24) (hW : Wn ≤ 12) (h1 : tI σ 197 = nI U) (h2 : tI σ 107 = nI V) (h3 : tI σ 154 = nI q) (h4 : tI σ 148 = nI Wn) (tk : TkR 1 U V q Wn σ s1) (fk : Ft [228, 229, 230, 231, 232, 233, 234] σ s1) (f : Ft T s1 s) (hT : [107, 148, 154, 197, 228, 229, 230, 231, 232, 233, 234].all (fun k => !T.contains k) = true) (h163 : ∀ r, r < q → tA σ 163 r = 0 ∨ tA σ 163 r = 1) (h235 : ∀ j, j < Wn → tA σ 235 j = 0 ∨ tA σ 235 j = 1) : ∃ s', F_back 1 s = some ((), s') ∧ Ft bckT s s' ∧ SmT V U q Wn σ s' := by
  have hf : ∀ k, k ∈ [107, 148, 154, 197, 228, 229, 230, 231, 232, 233, 234] → tI s k = tI s1 k ∧ ∀ j, tA s k j = tA s1 k j := fun k hk => ⟨(f k (by simpa using List.all_eq_true.mp hT k hk)).1, (f k (by simpa using List.all_eq_true.mp hT k hk)).2.2.1⟩
  obtain ⟨s', a1, a2, a3, ⟨a4, a5⟩, ⟨a6, a7⟩, a8, a9⟩ := t_back (σ := s) hU hV hq hW 1 (by omega) ((hf 197 (by decide)).1.trans ((fk 197 rfl).1.trans h1)) ((hf 107 (by decide)).1.trans ((fk 107 rfl).1.trans h2)) ((hf 154 (by decide)).1.trans ((fk 154 rfl).1.trans h3)) ((hf 148 (by decide)).1.trans ((fk 148 rfl).1.trans h4))
  obtain ⟨⟨b1, b1'⟩, ⟨b2, b3⟩, ⟨b4, b5⟩, b6, b7⟩ := tk
  refine ⟨s', a1, a2, ⟨?_, fun u hu => ⟨?_, ?_⟩, fun u hu => ⟨?_, ?_⟩, fun u hu => ?_, fun u hu => ?_⟩, ?_, fun u hu => ⟨?_, ?_⟩, fun u hu => ⟨?_, ?_⟩, fun u hu => ?_, fun u hu => ?_⟩
  · rw [a3, (hf 232 (by decide)).2, b1]
  · rw [a4 u hu, (hf 228 (by decide)).2, b2.1 u hu]; rfl
  · rw [a5 u hu, (hf 229 (by decide)).2, b3.1 u hu]; rfl
  · rw [a6 u hu, (hf 230 (by decide)).2, b4.1 u hu]; rfl
  · rw [a7 u hu, (hf 231 (by decide)).2, b5.1 u hu]; rfl
  · rw [a8 u hu, (hf 233 (by decide)).2, b6.1 u hu, nZ_b (h163 u hu), nZ_b (h163 u hu)]
  · rw [a9 u hu, (hf 234 (by decide)).2, b7.1 u hu, nZ_b (h235 u hu), nZ_b (h235 u hu)]
  · rw [(a2 232 rfl).2.2.1, (hf 232 (by decide)).2, b1' 0 (by decide)]
  · rw [(a2 228 rfl).2.2.1, (hf 228 (by decide)).2, b2.2 u (Or.inl (by omega))]
  · rw [(a2 229 rfl).2.2.1, (hf 229 (by decide)).2, b3.2 u (Or.inl (by omega))]
  · rw [(a2 230 rfl).2.2.1, (hf 230 (by decide)).2, b4.2 u (Or.inl (by omega))]
  · rw [(a2 231 rfl).2.2.1, (hf 231 (by decide)).2, b5.2 u (Or.inl (by omega))]
  · rw [(a2 233 rfl).2.2.1, (hf 233 (by decide)).2, b6.2 u (Or.inl (by omega))]
  · rw [(a2 234 rfl).2.2.1, (hf 234 (by decide)).2, b7.2 u (Or.inl (by omega))]
theorem fo41 (w : RnW C B P mss fss V U S q A Wn K1 K2 N D M σ) (kk : KF D I [] A0 [] M M') (pk : PaK V D σ M M') (f : Ft T σ s) (e : tI s 0 = 41 ∧ tI s 1 = 0 ∧ tI s 171 = nI 0 ∧ mI M' 90 1 = tI s 222) (hn : 1 ≤ nb) : FoR true I A0 T nb V D M σ (wM M' 41 0) s (mn M') := by
  obtain ⟨n167, n98⟩ := w.lt
  have en : mn M' = mn M := kk.n
  refine ⟨1, 41, ⟨hn, M', 41, 0, kk, KF.rf⟩, ⟨Nat.lt_succ_self _, wM_k M' 41 0, (wM_v M' 41 0).1⟩, by decide, ⟨e.1, fun _ => (wM_v M' 41 0).2.trans e.2.1.symm⟩, f, ⟨e.2.2.1, ?_⟩, fun v hv z => ?_⟩
  · exact (((wM_f M' 41 0).so (show 1 < mn M' by omega) (fun q => q)).i 90).trans e.2.2.2
  · exact (((wM_f M' 41 0).so (by rw [en]; exact n98 v hv) (fun q => q)).i 3213).trans (pk v hv z)
theorem fitV_ge {x : Int64} {v : Int32} (h : fitV x = some v) : -2147483647 ≤ v.toInt := by
  unfold fitV at h
  by_cases q : 0 < lg_cmp x 2147483647
  · rw [ifT q] at h; cases h
  · rw [ifF q] at h
    by_cases q2 : 0 ≤ lg_cmp x (-2147483647)
    · rw [ifT q2] at h
      rw [lg_gt] at q
      rw [lg_ge] at q2
      have q : ¬ (2147483647 : Int) < x.toInt := fun z => q (Int64.lt_iff_toInt_lt.mpr z)
      have q2 : ¬ x.toInt < (-2147483647 : Int) := fun z => q2 (Int64.lt_iff_toInt_lt.mpr z)
      cases h
      rw [Int64.toInt_toInt32, Int.bmod_eq_of_le] <;> omega
    · rw [ifF q2] at h; cases h
theorem t_J64B (hs : tI s 0 ≠ 0) (hi : i < 180) (u1 : tA s 207 i = nI u) (hu : u < 180) (w1 : tA s 189 u = nI n) (hn : n < 180) (hb : F_back 1 s = some ((), s1)) (h1 : tI s1 0 ≠ 0) : J_slope_64 (nI i) x s = some (0, s1) := by
  have ii : inb (nI i) 200 := inb_nI' (by omega) (by decide)
  have iu : inb (nI u) 200 := inb_nI' (by omega) (by decide)
  have iw : inb (nI n) 200 := inb_nI' (by omega) (by decide)
  have n1 : ¬ (1 : Int32) = 0 := by decide
  unfold J_slope_64
  rw [ifT ii, ix_nI (n := i) (by omega), u1, ifT iu, ix_nI (n := u) (by omega), w1, ifT iw, nm_eq, t_isBad1 hs, ob_some, ifF n1, hb, ob_some, t_isBad1 h1, ob_some, ifF n1]
/-- how a rate changes with a state -/
theorem z_slope (w : RnW C B P mss fss V U S q A Wn K1 K2 N D M σ) (d : VaE 1 V U Wn D M σ) (st : SaR ns U M σ) (hi : i < ns) (hj : j < ns) :
    (∃ M' σ' wo y, (K_X0_slope (nI i) (nI j) M = some (.inr wo, M') ∧ F_slope (nI i) (nI j) σ = some (y, σ')) ∧ FoR true swI swA swT 2 V D M σ M' σ' wo ∧ SmT V U q Wn σ σ') ∨
    (∃ v M' σ', (K_X0_slope (nI i) (nI j) M = some (.inl v, M') ∧ F_slope (nI i) (nI j) σ = some (v, σ')) ∧ RsK swI swA swT V D M σ M' σ' ∧ SmT V U q Wn σ σ' ∧ (RnW C B P mss fss V U S q A Wn K1 K2 N D M' σ' ∧ VaE 1 V U Wn D M' σ') ∧ (∀ u, u < 180 → mA M' 124 u = mA M 124 u) ∧ -2147483647 ≤ v.toInt) := by
  have n94 : swT.contains 94 = false := rfl
  have n1 : ¬ (1 : Int32) = 0 := by decide
  have z0 : (0 : Int32) = 0 := rfl
  obtain ⟨⟨V96, V98, U180, -, q24, -⟩, ⟨h15, h107⟩, ⟨h57, h197⟩, ⟨-, h154⟩, ⟨⟨h39, h148⟩, W12, Wl⟩, -, -, -, -, hc⟩ := w.st
  obtain ⟨⟨h74, h198, n24, -⟩, hs⟩ := id st
  have a124 := w.ar (a := (124, 50, 180)) (by decide)
  have a165 := w.ar (a := (165, 50, 180)) (by decide)
  obtain ⟨ui1, ui2, ui3, wi, wi1, wi2, wi3⟩ := hs i hi
  obtain ⟨uj1, uj2, uj3, -⟩ := hs j hj
  obtain ⟨ui, hui⟩ : ∃ Y, Y = us σ i := ⟨_, rfl⟩
  obtain ⟨uj, huj⟩ : ∃ Y, Y = us σ j := ⟨_, rfl⟩
  rw [← hui] at ui1 ui2 ui3 wi2 wi3
  rw [← huj] at uj1 uj2 uj3
  have ii : inb (nI i) 180 := inb_nI' (by omega) (by decide)
  have ij : inb (nI j) 180 := inb_nI' (by omega) (by decide)
  have ii2 : inb (nI i) 200 := inb_nI' (by omega) (by decide)
  have ij2 : inb (nI j) 200 := inb_nI' (by omega) (by decide)
  have iu : inb (nI ui) 180 := inb_nI' (by omega) (by decide)
  have iuj : inb (nI uj) 180 := inb_nI' (by omega) (by decide)
  have iu2 : inb (nI ui) 200 := inb_nI' (by omega) (by decide)
  have iuj2 : inb (nI uj) 200 := inb_nI' (by omega) (by decide)
  have iw : inb (nI wi) 180 := inb_nI' (by omega) (by decide)
  have iw2 : inb (nI wi) 200 := inb_nI' (by omega) (by decide)
  have xi : ix (nI i) = i := ix_nI (by omega)
  have xj : ix (nI j) = j := ix_nI (by omega)
  have xu : ix (nI ui) = ui := ix_nI (by omega)
  have xuj : ix (nI uj) = uj := ix_nI (by omega)
  have xw : ix (nI wi) = wi := ix_nI (by omega)
  -- both keep
  obtain ⟨s1, a1, a2, a3⟩ := t_keep (σ := σ) U180 V96 q24 W12 1 (by omega) h197 h107 h154 h148
  obtain ⟨M6, hM6⟩ : ∃ X, X = mcA M 124 (ix 0) 165 (ix 0) (ix 180) := ⟨_, rfl⟩
  have k6 : KF D [] [] [165] [] M M6 := by rw [hM6]; exact KF.rf.mcA rfl (by decide)
  have v6 : ∀ u, u < 180 → mA M6 165 u = mA M 124 u := fun u hu => by
    rw [hM6, mA_mcA, show ix 0 = 0 by decide, show ix 180 = 180 by decide, ifT ⟨rfl, by omega, by omega⟩, Nat.zero_add, Nat.sub_zero]
  have g6 : RsK swI swA swT V D M σ M6 s1 := ⟨k6.mono (by decide) (by decide) (by decide) (by decide), a2.mono (by decide), PaK.of k6 rfl⟩
  have d6 : VaE 1 V U Wn D M6 s1 := d.up k6 a2 (by decide) (by decide) (by decide)
  have w6 := w.kf k6 (by decide) (by decide) a2 (by decide) d6.1.1 g6.2.2
  have h163 : ∀ r, r < q → tA σ 163 r = 0 ∨ tA σ 163 r = 1 := fun r hr => (d.2.2.2.1 r (by omega) (by rw [h154, bI_lt (by omega) (by omega)]; omega)).2
  have h235 : ∀ j, j < Wn → tA σ 235 j = 0 ∨ tA σ 235 j = 1 := fun j hj => (d.2.2.2.2.2 j hj).2
  have bk : ∀ (T : List Nat) (s : TS), Ft T s1 s → [107, 148, 154, 197, 228, 229, 230, 231, 232, 233, 234].all (fun k => !T.contains k) = true → ∃ s', F_back 1 s = some ((), s') ∧ Ft bckT s s' ∧ SmT V U q Wn σ s' := fun T s f hT => smt_bk U180 V96 q24 W12 h197 h107 h154 h148 a3 a2 f hT h163 h235
  have t207 : ∀ (T : List Nat) (s : TS), Ft T s1 s → T.contains 207 = false → T.contains 189 = false → tA s 207 i = nI ui ∧ tA s 207 j = nI uj ∧ tA s 189 ui = nI wi := fun T s f h1 h2 => ⟨by rw [(f 207 h1).2.2.1, (a2 207 rfl).2.2.1]; exact ui3, by rw [(f 207 h1).2.2.1, (a2 207 rfl).2.2.1]; exact uj3, by rw [(f 189 h2).2.2.1, (a2 189 rfl).2.2.1]; exact wi3⟩
  obtain ⟨p1, p2, p3⟩ := t207 [] s1 (Ft.rf _ _) rfl rfl
  have fK : mA M 124 wi = tA σ 166 wi := (d.2.1 wi wi1).1
  obtain ⟨f0, hf0⟩ : ∃ Y, Y = tA σ 166 wi := ⟨_, rfl⟩
  have e1wi : tA s1 166 wi = f0 := by rw [(a2 166 rfl).2.2.1, hf0]
  have x6 : mA M6 124 uj = tA s1 166 uj := (d6.2.1 uj uj1).1
  unfold K_X0_slope F_slope
  rw [ifT ii, xi, ui2, ifT iu, xu, wi2, ifT iw, xw, nm_eq, ifT (c180 a124 a165), nm_eq, ← hM6, ifT ij, ifT ij, xj, k6.ga rfl, uj2, ifT iuj, xuj, fK, ← hf0, x6]
  rw [show F_keep 1 σ = _ from a1, ob_some, ifT ii2, p1, ifT iu2, xu, p3, ifT iw2, xw, e1wi, nm_eq, ifT ij2, ifT ij2, p2, ifT iuj2, xuj]
  cases ef : fitV ((tA s1 166 uj).toInt64 + 64) with
  | none =>
    left
    obtain ⟨c1, c2⟩ : mn M6 = mn M ∧ ms M6 = ms M := ⟨k6.n, k6.2.2.2.2.2.2.2.2⟩
    rw [k_in0 (by rw [c1, c2]; exact hc.1) (by rw [c1]; exact hc.2) ef, obS_inr, t_fit0 d6.1.1 ef, ob_some, ifT iuj2, nm_eq]
    obtain ⟨s7, hs7⟩ : ∃ Y, Y = tsA (badT s1 41) 166 uj 0 := ⟨_, rfl⟩
    have f7 : Ft [0, 1, 166] s1 s7 := by rw [hs7]; exact (badT_f.mono (by decide)).tr ((Ft.rf _ _).p_tsA rfl)
    have b7 : tI s7 0 = 41 ∧ tI s7 1 = 0 := by rw [hs7]; exact ⟨rfl, rfl⟩
    obtain ⟨s', q1, q2, q3⟩ := bk _ s7 f7 (by decide)
    obtain ⟨r1, -, r3⟩ := t207 _ s7 f7 rfl rfl
    have ne : tI s7 0 ≠ 0 := by rw [b7.1]; decide
    have ne' : tI s' 0 ≠ 0 := by rw [(q2 0 rfl).1]; exact ne
    rw [← hs7, t_isBad1 ne, ob_some, ifF n1, t_J64B ne (by omega) r1 (by omega) r3 (by omega) q1 ne']
    exact ⟨_, _, _, _, ⟨rfl, rfl⟩, fo41 w (k6.mono (by decide) (by decide) (by decide) (by decide)) (PaK.of k6 rfl) (((a2.mono (by decide)).tr (f7.mono (by decide))).tr (q2.mono (by decide))) ⟨(q2 0 rfl).1.trans b7.1, (q2 1 rfl).1.trans b7.2, (q2 171 rfl).1.trans ((f7 171 rfl).1.trans d6.2.2.2.2.1.1), by rw [(q2 222 rfl).1, (f7 222 rfl).1]; exact d6.2.2.2.2.1.2⟩ (by decide), q3⟩
  | some r =>
    rw [k_in1 ef, obS_inl, ifT iuj, nm_eq, t_fit1 ef, ob_some, ifT iuj2, nm_eq]
    have d7 := d6.w2 uj r
    obtain ⟨M7, hM7⟩ : ∃ Y, Y = mwA M6 124 uj r := ⟨_, rfl⟩
    obtain ⟨s7, hs7⟩ : ∃ Y, Y = tsA s1 166 uj r := ⟨_, rfl⟩
    rw [← hM7, ← hs7] at d7 ⊢
    have k7 : KF D [] [] [124] [] M6 M7 := by rw [hM7]; exact KF.rf.wA rfl (by decide)
    have f7 : Ft [166] s1 s7 := by rw [hs7]; exact (Ft.rf _ _).p_tsA rfl
    have g7 : RsK swI swA swT V D M6 s1 M7 s7 := ⟨k7.mono (by decide) (by decide) (by decide) (by decide), f7.mono (by decide), PaK.of k7 rfl⟩
    have w7 := w6.kf k7 (by decide) (by decide) f7 (by decide) d7.1.1 g7.2.2
    have g07 := g6.tr g7 n94
    rw [t_isBad0 d7.1.1, ob_some, ifT z0]
    rcases (z_solveBlocks w7 d7).im (Q2 := fun a _ M' σ' => (a = .inl () ∧ RnW C B P mss fss V U S q A Wn K1 K2 N D M' σ' ∧ VaE 1 V U Wn D M' σ') ∧ RsK slbI slbA slbT V D M7 s7 M' σ') (fun a b M' σ' g z => ⟨z, g⟩) with ⟨M8, s8, wx, y, k1, k2, fo⟩ | ⟨a, b, M8, s8, k1, k2, -, ⟨g1, w8, d8⟩, g8⟩
    · left
      obtain ⟨n', r', -, -, -, -, f6, -⟩ := id fo
      have f8 : Ft slbT s1 s8 := (f7.mono (by decide)).tr f6
      obtain ⟨s', q1, q2, q3⟩ := bk _ s8 f8 (by decide)
      obtain ⟨r1, -, r3⟩ := t207 _ s8 f8 rfl rfl
      have ne' : tI s' 0 ≠ 0 := by rw [(q2 0 rfl).1]; exact fo.ne
      rw [k1, obS_inr, k2, ob_some, t_J64B fo.ne (by omega) r1 (by omega) r3 (by omega) q1 ne']
      exact ⟨_, _, _, _, ⟨rfl, rfl⟩, ((fo.mono (I' := swI) (A' := swA) (T' := swT) (nb' := 2) (by decide) (by decide) (by decide) (Nat.le_refl _)).tb (q2.mono (by decide)) ⟨(q2 0 rfl).1, (q2 1 rfl).1, (q2 171 rfl).1, (q2 222 rfl).1⟩).pre g07 n94, q3⟩
    · subst g1
      have f8 : Ft slbT s1 s8 := (f7.mono (by decide)).tr g8.2.1
      obtain ⟨r1, -, r3⟩ := t207 _ s8 f8 rfl rfl
      have k8 : KF D [90] [] [124, 149, 150, 165] [] M M8 := ((k6.mono (by decide) (by decide) (by decide) (by decide)).tr (k7.mono (by decide) (by decide) (by decide) (by decide))).tr (g8.1.mono (by decide) (by decide) (by decide) (by decide))
      have k68 : KF D [90] [] [124, 149, 150] [] M6 M8 := (k7.mono (by decide) (by decide) (by decide) (by decide)).tr (g8.1.mono (by decide) (by decide) (by decide) (by decide))
      have x8 : mA M8 124 wi = tA s8 166 wi := (d8.2.1 wi wi1).1
      rw [k1, obS_inl, k2, ob_some, ifT ii, k8.ga rfl, ui2, ifT iu, xu, k8.ga rfl, wi2, ifT iw, xw, x8]
      unfold J_slope_64
      rw [ifT ii2, xi, r1, ifT iu2, xu, r3, ifT iw2, xw, nm_eq, t_isBad0 d8.1.1, ob_some, ifT z0]
      have c8 : mn M8 = mn M ∧ ms M8 = ms M := ⟨k8.n, k8.2.2.2.2.2.2.2.2⟩
      have ft18 : Ft swT σ s8 := (a2.mono (by decide)).tr (f8.mono (by decide))
      cases ed : fitV ((tA s8 166 wi).toInt64 - f0.toInt64) with
      | none =>
        left
        have fb : Ft slbT s1 (badT s8 41) := f8.tr (badT_f.mono (by decide))
        obtain ⟨s', q1, q2, q3⟩ := bk _ _ fb (by decide)
        have ne' : tI s' 0 ≠ 0 := by rw [(q2 0 rfl).1]; exact bad41
        rw [k_in0 (by rw [c8.1, c8.2]; exact hc.1) (by rw [c8.1]; exact hc.2) ed, obS_inr, t_fit0 d8.1.1 ed, ob_some, q1, ob_some, t_isBad1 ne', ob_some, ifF n1]
        exact ⟨_, _, _, _, ⟨rfl, rfl⟩, fo41 w k8 (PaK.of k8 rfl) ((ft18.tr (badT_f.mono (by decide))).tr (q2.mono (by decide))) ⟨(q2 0 rfl).1, (q2 1 rfl).1, (q2 171 rfl).1.trans d8.2.2.2.2.1.1, by rw [(q2 222 rfl).1]; exact d8.2.2.2.2.1.2⟩ (by decide), q3⟩
      | some dv =>
        obtain ⟨s9, q1, q2, q3⟩ := bk _ _ f8 (by decide)
        obtain ⟨M9, hM9⟩ : ∃ X, X = mcA M8 165 (ix 0) 124 (ix 0) (ix 180) := ⟨_, rfl⟩
        have k9 : KF D [] [] [124] [] M8 M9 := by rw [hM9]; exact KF.rf.mcA rfl (by decide)
        have v9 : ∀ u, u < 180 → mA M9 124 u = mA M 124 u := fun u hu => by
          rw [hM9, mA_mcA, show ix 0 = 0 by decide, show ix 180 = 180 by decide, ifT ⟨rfl, by omega, by omega⟩, Nat.zero_add, Nat.sub_zero, k68.ga rfl, v6 u hu]
        have k09 : KF D [90] [] [124, 149, 150, 165] [] M M9 := k8.tr (k9.mono (by decide) (by decide) (by decide) (by decide))
        have c9 : mn M9 = mn M ∧ ms M9 = ms M := ⟨k09.n, k09.2.2.2.2.2.2.2.2⟩
        have b124 : mk M8 124 = 50 ∧ ml M8 124 = 180 := ⟨(k8.k _).trans a124.1, (k8.gl _).trans a124.2⟩
        have b165 : mk M8 165 = 50 ∧ ml M8 165 = 180 := ⟨(k8.k _).trans a165.1, (k8.gl _).trans a165.2⟩
        have h09 : tI s9 0 = 0 := (q2 0 rfl).1.trans d8.1.1
        have ft9 : Ft swT σ s9 := ft18.tr (q2.mono (by decide))
        rw [k_in1 ed, obS_inl, ifT (c180 b165 b124), nm_eq, ← hM9, t_fit1 ed, ob_some, q1, ob_some, t_isBad0 h09, ob_some, ifT z0]
        cases et : timV dv 67108864 with
        | none =>
          left
          rw [k_tim0 (by rw [c9.1, c9.2]; exact hc.1) (by rw [c9.1]; exact hc.2) et, obS_inr, t_tim0 h09 et, ob_some]
          refine ⟨_, _, _, _, ⟨rfl, rfl⟩, fo41 w k09 (PaK.of k09 rfl) (ft9.tr (badT_f.mono (by decide))) ⟨rfl, rfl, (q2 171 rfl).1.trans d8.2.2.2.2.1.1, ?_⟩ (by decide), q3.tr (SmT.ft (badT_f (σ := s9) (r := 41)) (by decide))⟩
          rw [k9.i rfl, show tI (badT s9 41) 222 = tI s9 222 from rfl, (q2 222 rfl).1]; exact d8.2.2.2.2.1.2
        | some v =>
          right
          rw [k_tim1 et, obS_inl, t_tim1 et, ob_some]
          have g9 : RsK swI swA swT V D M σ M9 s9 := ⟨k09, ft9, PaK.of k09 rfl⟩
          obtain ⟨⟨m1, m2, m3, m4, m5⟩, -⟩ := id q3
          have t94 : ∀ u, tA s9 94 u = tA σ 94 u := (ft9 94 rfl).2.2.1
          refine ⟨v, M9, s9, ⟨rfl, rfl⟩, g9, q3, ⟨w.kf k09 (by decide) (by decide) ft9 (by decide) h09 g9.2.2, ⟨h09, ?_, ?_⟩, fun u hu => ?_, fun v hv z => ?_, fun r hr z => ?_, ⟨(q2 171 rfl).1.trans d8.2.2.2.2.1.1, ?_⟩, fun j hj => ?_⟩, v9, fitV_ge et⟩
          · rw [k09.i rfl, m1]; exact d.1.2.1
          · rw [k09.i rfl]; exact d.1.2.2
          · rw [v9 u (by omega), (m2 u hu).1, (m2 u hu).2, k09.ga rfl]; exact d.2.1 u hu
          · rw [t94] at z
            rw [k09.i rfl, k09.i rfl, (m3 v hv).1, (m3 v hv).2]; exact d.2.2.1 v hv z
          · rw [(ft9 154 rfl).1] at z
            have rq : r < q := by rw [h154, bI_lt (by omega) (by omega)] at z; exact z
            rw [k09.ga rfl, m4 r rq]; exact d.2.2.2.1 r hr z
          · rw [k9.i rfl, (q2 222 rfl).1]; exact d8.2.2.2.2.1.2
          · rw [k09.i rfl, m5 j hj]; exact d.2.2.2.2.2 j hj
end SLOPE
