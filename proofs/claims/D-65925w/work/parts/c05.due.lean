/-! Layer B: running: an event begins: values before, sampled relations -/
set_option maxRecDepth 100000
section DUE
variable {pq : Bool} {C : PC} {B : Nat} {P : Nat → Prop} {mss fss : List Nat} {V U S q A Wn K1 K2 N e r w v u b n i j k a m : Nat} {D : FQ} {M M' M1 : CM} {σ σ' s : TS} {x x2 y : Int32}
theorem k_pre (W : FW C B P mss fss D M σ) (h15 : mI M 15 1 = nI V) (hV : V ≤ (pl D 98).length ∧ V ≤ 96) : ∃ M', K_X0_preOfDiscretes M = some ((), M') ∧ KF D [3214] [] [] [] M M' ∧ ∀ v, v < V → mI M 3203 ((pl D 98).getD v 0) = 2 → mI M' 3214 ((pl D 98).getD v 0) = mI M 3213 ((pl D 98).getD v 0) := by
  have fu : 1000 < FU := by unfold FU; decide
  have inj : ∀ {l a b : Nat}, l ∈ flL → a < (pl D l).length → b < (pl D l).length → a ≠ b → (pl D l).getD a 0 ≠ (pl D l).getD b 0 := fun hl ha hb ne z => ne (W.2.1.inj hl hl ha hb z).2
  obtain ⟨M', l1, ⟨kl1, v1⟩⟩ := loopK (L := fun n i s => KL_X0_preOfDiscretes_2 n i s) (X := V) (fun i M' => KF D [3214] [] [] [] M M' ∧ ∀ v, v < i → mI M 3203 ((pl D 98).getD v 0) = 2 → mI M' 3214 ((pl D 98).getD v 0) = mI M 3213 ((pl D 98).getD v 0)) (fun n M' ⟨k, _⟩ => by
      have t : mI M' 15 1 ≤ nI V := by rw [k.i rfl, h15, bI_le (by omega) (by omega)]; omega
      show KL_X0_preOfDiscretes_2 (n + 1) (nI V) M' = _
      rw [KL_X0_preOfDiscretes_2, ifT t]) (fun n i M' hi ⟨k, h⟩ => by
      have t : ¬ mI M' 15 1 ≤ nI i := by rw [k.i rfl, h15, bI_le (by omega) (by omega)]; omega
      have get := k.get W.2.1 (l := 98) (by decide) (show i < (pl D 98).length by omega) (by decide) (by decide) (by decide)
      obtain ⟨ko0, tz⟩ := W.v98 (v := i) (by omega)
      have ko : mk M' ((pl D 98).getD i 0) = 17 := (k.k _).trans ko0
      by_cases y : mI M' 3203 ((pl D 98).getD i 0) = 2
      · refine ⟨msI M' 3214 ((pl D 98).getD i 0) (mI M' 3213 ((pl D 98).getD i 0)), ?_, k.wI rfl tz, fun v hv z => ?_⟩
        · show KL_X0_preOfDiscretes_2 (n + 1) (nI i) M' = _
          rw [KL_X0_preOfDiscretes_2, ifF t, get, ob_some, ifT (Or.inr ko), ifT ko, ifT y, ifT ko, ifT ko, nm_eq, nm_eq, p1n]
        · rw [mI_msI, k.i rfl]
          by_cases z2 : v = i
          · rw [z2, ifT ⟨rfl, rfl⟩]
          · have nq := inj (l := 98) (by decide) (show v < (pl D 98).length by omega) (show i < (pl D 98).length by omega) z2
            rw [ifF (fun y => nq y.2)]; exact h v (by omega) z
      · refine ⟨M', ?_, k, fun v hv z => ?_⟩
        · show KL_X0_preOfDiscretes_2 (n + 1) (nI i) M' = _
          rw [KL_X0_preOfDiscretes_2, ifF t, get, ob_some, ifT (Or.inr ko), ifT ko, ifF y, nm_eq, p1n]
        · by_cases z2 : v = i
          · rw [k.i rfl, z2.symm] at y; exact absurd z y
          · exact h v (by omega) z) V 0 FU M (by omega) (by omega) ⟨KF.rf, fun v hv => by omega⟩
  refine ⟨M', ?_, kl1, v1⟩
  unfold K_X0_preOfDiscretes
  rw [show KL_X0_preOfDiscretes_2 FU 0 M = _ from l1, ob_some]
theorem t_ev12 (hU : U ≤ 180) (x1 : Int32) (h : tI σ 197 = nI U) : ∃ σ', L_event_12 FU x1 0 σ = some ((), σ') ∧ Ft [167] σ σ' ∧ ∀ u, u < U → tA σ' 167 u = tA σ 166 u := by
  have fu : 1000 < FU := by unfold FU; decide
  refine loopT (L := fun n i s => L_event_12 n x1 i s) (X := U) (fun i σ' => Ft [167] σ σ' ∧ ∀ u, u < i → tA σ' 167 u = tA σ 166 u) (fun n s ⟨f, _⟩ => ?_) (fun n i s hi ⟨f, h1⟩ => ?_) U 0 FU σ (by omega) (by omega) ⟨Ft.rf _ σ, fun u hu => by omega⟩
  · have t : tI s 197 ≤ nI U := by rw [(f 197 rfl).1, h, bI_le (by omega) (by omega)]; omega
    show L_event_12 (n + 1) x1 (nI U) s = _
    rw [L_event_12, ifT t]
  · have t : ¬ tI s 197 ≤ nI i := by rw [(f 197 rfl).1, h, bI_le (by omega) (by omega)]; omega
    have i1 : inb (nI i) 200 := inb_nI' (by omega) (by decide)
    refine ⟨_, by show L_event_12 (n + 1) x1 (nI i) s = _; rw [L_event_12, ifF t, ifT i1, ifT i1, ix_nI (by omega), nm_eq, nm_eq, p1n], f.p_tsA rfl, fun u hu => ?_⟩
    rw [tA_tsA, (f 166 rfl).2.2.1]
    by_cases z : u = i
    · rw [ifT ⟨rfl, z⟩, z]
    · rw [ifF (fun y => z y.2)]; exact h1 u (by omega)
theorem t_ev40 (hV : V ≤ 96) (x1 : Int32) (h : tI σ 107 = nI V) : ∃ σ', L_event_40 FU x1 0 σ = some ((), σ') ∧ Ft [169] σ σ' ∧ ∀ u, u < V → tA σ' 169 u = tA σ 168 u := by
  have fu : 1000 < FU := by unfold FU; decide
  refine loopT (L := fun n i s => L_event_40 n x1 i s) (X := V) (fun i σ' => Ft [169] σ σ' ∧ ∀ u, u < i → tA σ' 169 u = tA σ 168 u) (fun n s ⟨f, _⟩ => ?_) (fun n i s hi ⟨f, h1⟩ => ?_) V 0 FU σ (by omega) (by omega) ⟨Ft.rf _ σ, fun u hu => by omega⟩
  · have t : tI s 107 ≤ nI V := by rw [(f 107 rfl).1, h, bI_le (by omega) (by omega)]; omega
    show L_event_40 (n + 1) x1 (nI V) s = _
    rw [L_event_40, ifT t]
  · have t : ¬ tI s 107 ≤ nI i := by rw [(f 107 rfl).1, h, bI_le (by omega) (by omega)]; omega
    have i1 : inb (nI i) 96 := inb_nI' (by omega) (by decide)
    refine ⟨_, by show L_event_40 (n + 1) x1 (nI i) s = _; rw [L_event_40, ifF t, ifT i1, ifT i1, ix_nI (by omega), nm_eq, nm_eq, p1n], f.p_tsA rfl, fun u hu => ?_⟩
    rw [tA_tsA, (f 168 rfl).2.2.1]
    by_cases z : u = i
    · rw [ifT ⟨rfl, z⟩, z]
    · rw [ifF (fun y => z y.2)]; exact h1 u (by omega)
theorem t_ev378 (hV : V ≤ 96) (x1 x3 : Int32) (h : tI σ 107 = nI V) : ∃ σ', L_event_378 FU x1 x3 0 σ = some ((), σ') ∧ Ft [169] σ σ' ∧ ∀ u, u < V → tA σ' 169 u = tA σ 168 u := by
  have fu : 1000 < FU := by unfold FU; decide
  refine loopT (L := fun n i s => L_event_378 n x1 x3 i s) (X := V) (fun i σ' => Ft [169] σ σ' ∧ ∀ u, u < i → tA σ' 169 u = tA σ 168 u) (fun n s ⟨f, _⟩ => ?_) (fun n i s hi ⟨f, h1⟩ => ?_) V 0 FU σ (by omega) (by omega) ⟨Ft.rf _ σ, fun u hu => by omega⟩
  · have t : tI s 107 ≤ nI V := by rw [(f 107 rfl).1, h, bI_le (by omega) (by omega)]; omega
    show L_event_378 (n + 1) x1 x3 (nI V) s = _
    rw [L_event_378, ifT t]
  · have t : ¬ tI s 107 ≤ nI i := by rw [(f 107 rfl).1, h, bI_le (by omega) (by omega)]; omega
    have i1 : inb (nI i) 96 := inb_nI' (by omega) (by decide)
    refine ⟨_, by show L_event_378 (n + 1) x1 x3 (nI i) s = _; rw [L_event_378, ifF t, ifT i1, ifT i1, ix_nI (by omega), nm_eq, nm_eq, p1n], f.p_tsA rfl, fun u hu => ?_⟩
    rw [tA_tsA, (f 168 rfl).2.2.1]
    by_cases z : u = i
    · rw [ifT ⟨rfl, z⟩, z]
    · rw [ifF (fun y => z y.2)]; exact h1 u (by omega)
/-- a sampled relation is due, both sides -/
theorem z_due {xa ya : Nat} (ka : mk M a = 18) (a1 : mI M 3401 a = nI xa) (a2 : mI M 3402 a = nI ya) (hr : r < 24) (hm : m < 70000) (m1 : tA σ 153 r = nI m) (m2 : tA σ 122 m = nI xa) (m3 : tA σ 123 m = nI ya) (hy : 1 ≤ ya ∧ ya ≤ 2147418112) (ht : mI M 85 1 = tI σ 165) : ∃ v, K_X0_isDue a M = some (v, M) ∧ F_isDue (nI r) σ = some (v, σ) := by
  have ir : inb (nI r) 24 := inb_nI' hr (by decide)
  have im : inb (nI m) 70000 := inb_nI' hm (by decide)
  have ny : ¬ (nI ya).toInt64 = 0 := fun z => by
    have := congrArg Int64.toInt z
    rw [Int32.toInt_toInt64, bI_toInt (by omega)] at this
    have e : (0 : Int64).toInt = 0 := rfl
    rw [e] at this
    omega
  have lt : tI σ 165 < nI xa ↔ lg_cmp (tI σ 165).toInt64 (nI xa).toInt64 < 0 := by
    rw [← Int32.not_le (n := 0), lg_ge, Classical.not_not, Int32.lt_iff_toInt_lt, Int64.lt_iff_toInt_lt, Int32.toInt_toInt64, Int32.toInt_toInt64]
  unfold K_X0_isDue F_isDue
  rw [ifT ka, ifT ir, ix_nI (by omega), m1, ifT im, ix_nI (by omega), nm_eq, ifT ir, ifT im, nm_eq, m2, m3, ht, a1]
  by_cases z : tI σ 165 < nI xa
  · rw [ifT z, ifT (lt.mp z)]
    exact ⟨0, rfl, rfl⟩
  · rw [ifF z, ifF (fun y => z (lt.mpr y)), ifT ka, ifT ka, a2, ifT ny, ifT ny]
    by_cases z2 : lg_cmp ((tI σ 165).toInt64 - (nI xa).toInt64 - ((tI σ 165).toInt64 - (nI xa).toInt64) / (nI ya).toInt64 * (nI ya).toInt64) 0 = 0
    · rw [ifT z2, ifT z2]; exact ⟨1, rfl, rfl⟩
    · rw [ifF z2, ifF z2]; exact ⟨0, rfl, rfl⟩
end DUE
