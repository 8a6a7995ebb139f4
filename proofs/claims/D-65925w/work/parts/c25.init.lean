/-! Layer B: running: a model begins, both sides -/
set_option maxRecDepth 100000
abbrev inI : List Nat := [4, 5, 85, 86, 90, 91, 92, 95, 96, 97, 3213, 3214, 3804, 3805]
abbrev inA : List Nat := [124, 125, 148, 149, 150]
abbrev inT : List Nat := [0, 1, 2, 3, 110, 111, 163, 165, 166, 167, 168, 169, 170, 171, 222, 225, 226, 235, 236, 237, 238, 239]
/-- what a beginning leaves -/
def InO (V U Wn : Nat) (D : FQ) (M : CM) (σ : TS) (M' : CM) (σ' : TS) : Prop := (∃ n, n ≤ 2 ∧ RB D inI inA n M M') ∧ Ft inT σ σ' ∧ PaK V D σ M M' ∧ (tI σ' 0 = 0 ∧ tI σ' 171 = nI 0) ∧ (mI M' 4 1 = tI σ' 2 ∧ mI M' 5 1 = tI σ' 3) ∧ (((mI M' 91 1 = 1 ∧ tI σ' 110 = 1) ∧ (mI M' 92 1 = 0 ∧ tI σ' 111 = 0) ∧ VaX V U Wn D M' σ' ∧ (EvN2 0 M' σ' ∧ mI M' 95 1 = tI σ' 237) ∧ ∃ t0, t0 < 2147483648 ∧ tI σ' 165 = nI t0) ∨ (mI M' 91 1 = 0 ∧ tI σ' 110 = 0))
section INIT
variable {pq : Bool} {C C' : PC} {B : Nat} {P : Nat → Prop} {mss fss : List Nat} {V U S q A Wn K1 K2 N e r w v u b n i j k a m kf tf h wo nb t0 X : Nat} {D : FQ} {M M' M1 : CM} {σ σ' s σ1 : TS} {x x1 x2 x3 y z y1 y2 y3 : Int32} {I A0 T : List Nat}
/-- an unknown's first value -/
def gU (σ : TS) (u : Nat) : Int32 := if tA σ 188 u = 0 then tA σ 105 (ix (tA σ 187 u)) else 0
theorem k_in42 (W : FW C B P mss fss D M σ) (h57 : mI M 57 1 = nI U) (U180 : U ≤ 180) (V98 : V ≤ (pl D 98).length) (V96 : V ≤ 96) (hu : ∀ u, u < U → ∃ b, b < V ∧ mA M 119 u = nI b ∧ tA σ 187 u = nI b ∧ mA M 120 u = tA σ 188 u ∧ mI M 3212 ((pl D 98).getD b 0) = tA σ 105 b) : ∃ M', KL_X0_init_2_42 FU 0 M = some ((), M') ∧ KF D [] [] [124, 125] [] M M' ∧ ∀ u, u < U → mA M' 124 u = gU σ u ∧ mA M' 125 u = gU σ u := by
  have fu : 1000 < FU := by unfold FU; decide
  obtain ⟨M', l1, ⟨kl1, v1⟩⟩ := loopK (L := fun n i s => KL_X0_init_2_42 n i s) (X := 180) (fun i M' => KF D [] [] [124, 125] [] M M' ∧ ∀ u, u < i → u < U → mA M' 124 u = gU σ u ∧ mA M' 125 u = gU σ u) (fun n M' ⟨k, _⟩ => by
      show KL_X0_init_2_42 (n + 1) (nI 180) M' = _
      rw [KL_X0_init_2_42, ifT (show (180 : Int32) ≤ nI 180 by decide)]) (fun n i M' hi ⟨k, h⟩ => by
      have t : ¬ (180 : Int32) ≤ nI i := fun z => by rw [show (180 : Int32) = nI 180 from rfl, bI_le (by decide) (by omega)] at z; omega
      have ii : inb (nI i) 180 := inb_nI' (by omega) (by decide)
      have xi : ix (nI i) = i := ix_nI (by omega)
      have upd : ∀ v : Int32, (i < U → v = gU σ i) → ∃ M2, (if inb (nI i) 180 then nm (mwA M' 124 i v) fun M9 => if inb (nI i) 180 then if inb (nI i) 180 then nm (mwA M9 125 i (mA M9 124 i)) fun M12 => nm (nI i + 1) fun v13 => KL_X0_init_2_42 n v13 M12 else none else none else none) = KL_X0_init_2_42 n (nI (i + 1)) M2 ∧ KF D [] [] [124, 125] [] M M2 ∧ ∀ u, u < i + 1 → u < U → mA M2 124 u = gU σ u ∧ mA M2 125 u = gU σ u := fun v hv => by
        refine ⟨mwA (mwA M' 124 i v) 125 i (mA (mwA M' 124 i v) 124 i), by rw [ifT ii, nm_eq, ifT ii, ifT ii, nm_eq, nm_eq, p1n], (k.wA rfl (by decide)).wA rfl (by decide), fun u h1 h2 => ?_⟩
        rw [mA_mwA, mA_mwA, mA_mwA, mA_mwA, ifF (fun z => by omega), ifT (a := v) (show (124 = 124 ∧ i = i) from ⟨rfl, rfl⟩)]
        by_cases z : u = i
        · subst z
          rw [ifT ⟨rfl, rfl⟩, ifT ⟨rfl, rfl⟩, hv h2]; exact ⟨rfl, rfl⟩
        · rw [ifF (fun y => z y.2), ifF (fun y => z y.2), mA_mwA, ifF (fun y => by omega)]
          exact h u (by omega) h2
      show ∃ M2, KL_X0_init_2_42 (n + 1) (nI i) M' = KL_X0_init_2_42 n (nI (i + 1)) M2 ∧ _
      by_cases z1 : U ≤ i
      · have c1 : mI M' 57 1 ≤ nI i := by rw [k.i rfl, h57, bI_le (by omega) (by omega)]; exact z1
        rw [KL_X0_init_2_42, ifF t, ifT c1, xi]
        exact upd 0 (fun y => by omega)
      · have c1 : ¬ mI M' 57 1 ≤ nI i := by rw [k.i rfl, h57, bI_le (by omega) (by omega)]; exact z1
        obtain ⟨b, b1, b2, b3, b4, b5⟩ := hu i (by omega)
        have xb : ix (nI b) = b := ix_nI (by omega)
        rw [KL_X0_init_2_42, ifF t, ifF c1, ifT ii, xi, k.ga rfl, b4]
        by_cases z2 : tA σ 188 i = 0
        · have get := k.get W.2.1 (l := 98) (by decide) (show b < (pl D 98).length by omega) (by decide) (by decide) (by decide)
          obtain ⟨ko0, tz⟩ := W.v98 (v := b) (by omega)
          have ko : mk M' ((pl D 98).getD b 0) = 17 := (k.k _).trans ko0
          rw [ifT z2, ifT ii, k.ga rfl, b2, get, ob_some, ifT (Or.inr ko), ifT ko, k.i rfl]
          exact upd _ (fun _ => by unfold gU; rw [ifT z2, b3, xb]; exact b5)
        · rw [ifF z2]
          exact upd 0 (fun _ => by unfold gU; rw [ifF z2])) 180 0 FU M (by omega) (by omega) ⟨KF.rf, fun u hu => by omega⟩
  exact ⟨M', l1, kl1, fun u hu => v1 u (by omega) hu⟩
theorem t_in52 (U180 : U ≤ 180) (h : tI σ 197 = nI U) (hu : ∀ u, u < U → ∃ b, b < 96 ∧ tA σ 187 u = nI b) : ∃ σ', L_init_2_52 FU 0 σ = some ((), σ') ∧ Ft [166, 167] σ σ' ∧ ∀ u, u < U → tA σ' 166 u = gU σ u ∧ tA σ' 167 u = gU σ u := by
  have fu : 1000 < FU := by unfold FU; decide
  refine loopT (L := fun n i s => L_init_2_52 n i s) (X := U) (fun i σ' => Ft [166, 167] σ σ' ∧ ∀ u, u < i → tA σ' 166 u = gU σ u ∧ tA σ' 167 u = gU σ u) (fun n s ⟨f, _⟩ => ?_) (fun n i s hi ⟨f, h1⟩ => ?_) U 0 FU σ (by omega) (by omega) ⟨Ft.rf _ σ, fun u hu => by omega⟩
  · have t : tI s 197 ≤ nI U := by rw [(f 197 rfl).1, h, bI_le (by omega) (by omega)]; omega
    show L_init_2_52 (n + 1) (nI U) s = _
    rw [L_init_2_52, ifT t]
  · have t : ¬ tI s 197 ≤ nI i := by rw [(f 197 rfl).1, h, bI_le (by omega) (by omega)]; omega
    have i1 : inb (nI i) 200 := inb_nI' (by omega) (by decide)
    have xi : ix (nI i) = i := ix_nI (by omega)
    obtain ⟨b, b1, b2⟩ := hu i hi
    have ib : inb (nI b) 96 := inb_nI' (by omega) (by decide)
    have upd : ∀ v : Int32, v = gU σ i → ∃ s2, (nm (tsA s 166 i v) fun s20 => if inb (nI i) 200 then if inb (nI i) 200 then nm (tsA s20 167 i (tA s20 166 i)) fun s23 => nm (nI i + 1) fun v24 => L_init_2_52 n v24 s23 else none else none) = L_init_2_52 n (nI (i + 1)) s2 ∧ Ft [166, 167] σ s2 ∧ ∀ u, u < i + 1 → tA s2 166 u = gU σ u ∧ tA s2 167 u = gU σ u := fun v hv => by
      refine ⟨tsA (tsA s 166 i v) 167 i (tA (tsA s 166 i v) 166 i), by rw [nm_eq, ifT i1, ifT i1, nm_eq, nm_eq, p1n], (f.p_tsA rfl).p_tsA rfl, fun u h2 => ?_⟩
      rw [tA_tsA, tA_tsA, tA_tsA, tA_tsA, ifF (fun z => by omega), ifT (a := v) (show (166 = 166 ∧ i = i) from ⟨rfl, rfl⟩)]
      by_cases z : u = i
      · subst z
        rw [ifT ⟨rfl, rfl⟩, ifT ⟨rfl, rfl⟩, hv]; exact ⟨rfl, rfl⟩
      · rw [ifF (fun y => z y.2), ifF (fun y => z y.2), tA_tsA, ifF (fun y => by omega)]
        exact h1 u (by omega)
    show ∃ s2, L_init_2_52 (n + 1) (nI i) s = L_init_2_52 n (nI (i + 1)) s2 ∧ _
    rw [L_init_2_52, ifF t, ifT i1, xi, (f 188 rfl).2.2.1]
    by_cases z2 : tA σ 188 i = 0
    · rw [ifT z2, ifT i1, (f 187 rfl).2.2.1, b2, ifT ib, ifT i1, (f 105 rfl).2.2.1]
      exact upd _ (by unfold gU; rw [ifT z2, b2])
    · rw [ifF z2, ifT i1]
      exact upd 0 (by unfold gU; rw [ifF z2])
theorem k_in115 (W : FW C B P mss fss D M σ) (h15 : mI M 15 1 = nI V) (hV : V ≤ (pl D 98).length ∧ V ≤ 96) : ∃ M', KL_X0_init_2_115 FU 0 M = some ((), M') ∧ KF D [3213, 3214] [] [] [] M M' ∧ ∀ v, v < V → (mI M 3203 ((pl D 98).getD v 0) = 2 → mI M' 3213 ((pl D 98).getD v 0) = mI M 3212 ((pl D 98).getD v 0) ∧ mI M' 3214 ((pl D 98).getD v 0) = mI M 3212 ((pl D 98).getD v 0)) ∧ (¬ mI M 3203 ((pl D 98).getD v 0) = 2 → mI M' 3213 ((pl D 98).getD v 0) = mI M 3213 ((pl D 98).getD v 0)) := by
  have fu : 1000 < FU := by unfold FU; decide
  have inj : ∀ {a b : Nat}, a < (pl D 98).length → b < (pl D 98).length → a ≠ b → (pl D 98).getD a 0 ≠ (pl D 98).getD b 0 := fun ha hb ne z => ne (W.2.1.inj (l := 98) (l' := 98) (by decide) (by decide) ha hb z).2
  obtain ⟨M', l1, ⟨kl1, v1, v2⟩⟩ := loopK (L := fun n i s => KL_X0_init_2_115 n i s) (X := V) (fun i M' => KF D [3213, 3214] [] [] [] M M' ∧ (∀ v, v < i → mI M 3203 ((pl D 98).getD v 0) = 2 → mI M' 3213 ((pl D 98).getD v 0) = mI M 3212 ((pl D 98).getD v 0) ∧ mI M' 3214 ((pl D 98).getD v 0) = mI M 3212 ((pl D 98).getD v 0)) ∧ ∀ v, v < V → ¬ mI M 3203 ((pl D 98).getD v 0) = 2 → mI M' 3213 ((pl D 98).getD v 0) = mI M 3213 ((pl D 98).getD v 0)) (fun n M' ⟨k, _⟩ => by
      have t : mI M' 15 1 ≤ nI V := by rw [k.i rfl, h15, bI_le (by omega) (by omega)]; omega
      show KL_X0_init_2_115 (n + 1) (nI V) M' = _
      rw [KL_X0_init_2_115, ifT t]) (fun n i M' hi ⟨k, h, h2⟩ => by
      have t : ¬ mI M' 15 1 ≤ nI i := by rw [k.i rfl, h15, bI_le (by omega) (by omega)]; omega
      have get := k.get W.2.1 (l := 98) (by decide) (show i < (pl D 98).length by omega) (by decide) (by decide) (by decide)
      obtain ⟨ko0, tz⟩ := W.v98 (v := i) (by omega)
      have ko : mk M' ((pl D 98).getD i 0) = 17 := (k.k _).trans ko0
      have e3203 : mI M' 3203 ((pl D 98).getD i 0) = mI M 3203 ((pl D 98).getD i 0) := k.i rfl _
      have e3212 : mI M' 3212 ((pl D 98).getD i 0) = mI M 3212 ((pl D 98).getD i 0) := k.i rfl _
      by_cases y : mI M 3203 ((pl D 98).getD i 0) = 2
      · obtain ⟨M2, hM2⟩ : ∃ Y, Y = msI M' 3213 ((pl D 98).getD i 0) (mI M' 3212 ((pl D 98).getD i 0)) := ⟨_, rfl⟩
        have k2 : KF D [3213, 3214] [] [] [] M M2 := by rw [hM2]; exact k.wI rfl tz
        have ko2 : mk M2 ((pl D 98).getD i 0) = 17 := (k2.k _).trans ko0
        have e2 : mI M2 3213 ((pl D 98).getD i 0) = mI M 3212 ((pl D 98).getD i 0) := by rw [hM2, mI_msI, ifT ⟨rfl, rfl⟩, e3212]
        refine ⟨msI M2 3214 ((pl D 98).getD i 0) (mI M2 3213 ((pl D 98).getD i 0)), ?_, k2.wI rfl tz, fun v hv z => ?_, fun v hv z => ?_⟩
        · show KL_X0_init_2_115 (n + 1) (nI i) M' = _
          rw [KL_X0_init_2_115, ifF t, get, ob_some, ifT (Or.inr ko), ifT ko, ifT (e3203.trans y), ifT ko, ifT ko, nm_eq, ← hM2, ifT ko2, ifT ko2, nm_eq, nm_eq, p1n]
        · by_cases z2 : v = i
          · rw [z2, mI_msI, mI_msI, ifF (fun q => by omega), ifT ⟨rfl, rfl⟩, e2]; exact ⟨rfl, rfl⟩
          · have nq := inj (show v < (pl D 98).length by omega) (show i < (pl D 98).length by omega) z2
            rw [mI_msI, mI_msI, ifF (fun q => nq q.2), ifF (fun q => nq q.2), hM2, mI_msI, mI_msI, ifF (fun q => nq q.2), ifF (fun q => nq q.2)]
            exact h v (by omega) z
        · have z2 : v ≠ i := fun q => by rw [q] at z; exact z y
          have nq := inj (show v < (pl D 98).length by omega) (show i < (pl D 98).length by omega) z2
          rw [mI_msI, ifF (fun q => nq q.2), hM2, mI_msI, ifF (fun q => nq q.2)]
          exact h2 v hv z
      · refine ⟨M', ?_, k, fun v hv z => ?_, h2⟩
        · show KL_X0_init_2_115 (n + 1) (nI i) M' = _
          rw [KL_X0_init_2_115, ifF t, get, ob_some, ifT (Or.inr ko), ifT ko, ifF (fun q => y (e3203.symm.trans q)), nm_eq, p1n]
        · by_cases z2 : v = i
          · rw [z2] at z; exact absurd z y
          · exact h v (by omega) z) V 0 FU M (by omega) (by omega) ⟨KF.rf, fun v hv => by omega, fun v hv z => rfl⟩
  exact ⟨M', l1, kl1, fun v hv => ⟨v1 v hv, v2 v hv⟩⟩
theorem t_in110 (hV : V ≤ 96) (h : tI σ 107 = nI V) : ∃ σ', L_init_2_110 FU 0 σ = some ((), σ') ∧ Ft [168, 169] σ σ' ∧ ∀ u, u < V → tA σ' 168 u = tA σ 105 u ∧ tA σ' 169 u = tA σ 105 u := by
  have fu : 1000 < FU := by unfold FU; decide
  refine loopT (L := fun n i s => L_init_2_110 n i s) (X := V) (fun i σ' => Ft [168, 169] σ σ' ∧ ∀ u, u < i → tA σ' 168 u = tA σ 105 u ∧ tA σ' 169 u = tA σ 105 u) (fun n s ⟨f, _⟩ => ?_) (fun n i s hi ⟨f, h1⟩ => ?_) V 0 FU σ (by omega) (by omega) ⟨Ft.rf _ σ, fun u hu => by omega⟩
  · have t : tI s 107 ≤ nI V := by rw [(f 107 rfl).1, h, bI_le (by omega) (by omega)]; omega
    show L_init_2_110 (n + 1) (nI V) s = _
    rw [L_init_2_110, ifT t]
  · have t : ¬ tI s 107 ≤ nI i := by rw [(f 107 rfl).1, h, bI_le (by omega) (by omega)]; omega
    have i1 : inb (nI i) 96 := inb_nI' (by omega) (by decide)
    have xi : ix (nI i) = i := ix_nI (by omega)
    refine ⟨_, by show L_init_2_110 (n + 1) (nI i) s = _; rw [L_init_2_110, ifF t, ifT i1, ifT i1, xi, nm_eq, ifT i1, ifT i1, nm_eq, nm_eq, p1n], (f.p_tsA rfl).p_tsA rfl, fun u hu => ?_⟩
    rw [tA_tsA, tA_tsA, tA_tsA, tA_tsA, ifF (fun z => by omega), ifT (show (168 = 168 ∧ i = i) from ⟨rfl, rfl⟩), (f 105 rfl).2.2.1]
    by_cases z : u = i
    · subst z
      rw [ifT ⟨rfl, rfl⟩, ifT ⟨rfl, rfl⟩]; exact ⟨rfl, rfl⟩
    · rw [ifF (fun y => z y.2), ifF (fun y => z y.2), tA_tsA, ifF (fun y => by omega)]; exact h1 u (by omega)
theorem k_in167 (hd : True) : ∃ M', KL_X0_init_2_167 FU 0 M = some ((), M') ∧ KF D [] [] [148] [] M M' ∧ ∀ r, r < 24 → mA M' 148 r = 0 := by
  have fu : 1000 < FU := by unfold FU; decide
  obtain ⟨M', l1, ⟨kl1, v1⟩⟩ := loopK (L := fun n i s => KL_X0_init_2_167 n i s) (X := 24) (fun i M' => KF D [] [] [148] [] M M' ∧ ∀ r, r < i → mA M' 148 r = 0) (fun n M' ⟨k, _⟩ => by
      show KL_X0_init_2_167 (n + 1) (nI 24) M' = _
      rw [KL_X0_init_2_167, ifT (show (24 : Int32) ≤ nI 24 by decide)]) (fun n i M' hi ⟨k, h⟩ => by
      have t : ¬ (24 : Int32) ≤ nI i := fun z => by rw [show (24 : Int32) = nI 24 from rfl, bI_le (by decide) (by omega)] at z; omega
      have ii : inb (nI i) 24 := inb_nI' (by omega) (by decide)
      have xi : ix (nI i) = i := ix_nI (by omega)
      refine ⟨mwA M' 148 i (nZ 0), ?_, k.wA rfl (by decide), fun r hr => ?_⟩
      · show KL_X0_init_2_167 (n + 1) (nI i) M' = _
        rw [KL_X0_init_2_167, ifF t, ifT ii, xi, nm_eq, nm_eq, p1n]
      · rw [mA_mwA]
        by_cases z : r = i
        · rw [ifT ⟨rfl, z⟩]; decide
        · rw [ifF (fun y => z y.2)]; exact h r (by omega)) 24 0 FU M (by omega) (by omega) ⟨KF.rf, fun u hu => by omega⟩
  exact ⟨M', l1, kl1, v1⟩
theorem t_in150 (hq : q ≤ 24) (h : tI σ 154 = nI q) : ∃ σ', L_init_2_150 FU 0 σ = some ((), σ') ∧ Ft [163] σ σ' ∧ ∀ u, u < q → tA σ' 163 u = 0 := by
  have fu : 1000 < FU := by unfold FU; decide
  refine loopT (L := fun n i s => L_init_2_150 n i s) (X := q) (fun i σ' => Ft [163] σ σ' ∧ ∀ u, u < i → tA σ' 163 u = 0) (fun n s ⟨f, _⟩ => ?_) (fun n i s hi ⟨f, h1⟩ => ?_) q 0 FU σ (by omega) (by omega) ⟨Ft.rf _ σ, fun u hu => by omega⟩
  · have t : tI s 154 ≤ nI q := by rw [(f 154 rfl).1, h, bI_le (by omega) (by omega)]; omega
    show L_init_2_150 (n + 1) (nI q) s = _
    rw [L_init_2_150, ifT t]
  · have t : ¬ tI s 154 ≤ nI i := by rw [(f 154 rfl).1, h, bI_le (by omega) (by omega)]; omega
    have i1 : inb (nI i) 24 := inb_nI' (by omega) (by decide)
    refine ⟨_, by show L_init_2_150 (n + 1) (nI i) s = _; rw [L_init_2_150, ifF t, ifT i1, ix_nI (by omega), nm_eq, nm_eq, p1n], f.p_tsA rfl, fun u hu => ?_⟩
    rw [tA_tsA]
    by_cases z : u = i
    · rw [ifT ⟨rfl, z⟩]; decide
    · rw [ifF (fun y => z y.2)]; exact h1 u (by omega)
theorem k_in188 (W : FW C B P mss fss D M σ) (h39 : mI M 39 1 = nI Wn) (hW : Wn ≤ (pl D 113).length ∧ Wn ≤ 12) : ∃ M', KL_X0_init_2_188 FU 0 M = some ((), M') ∧ KF D [3804] [] [] [] M M' ∧ ∀ j, j < Wn → mI M' 3804 ((pl D 113).getD j 0) = 0 := by
  have fu : 1000 < FU := by unfold FU; decide
  obtain ⟨M', l1, ⟨kl1, v1⟩⟩ := loopK (L := fun n i s => KL_X0_init_2_188 n i s) (X := Wn) (fun i M' => KF D [3804] [] [] [] M M' ∧ ∀ j, j < i → mI M' 3804 ((pl D 113).getD j 0) = 0) (fun n M' ⟨k, _⟩ => by
      have t : mI M' 39 1 ≤ nI Wn := by rw [k.i rfl, h39, bI_le (by omega) (by omega)]; omega
      show KL_X0_init_2_188 (n + 1) (nI Wn) M' = _
      rw [KL_X0_init_2_188, ifT t]) (fun n i M' hi ⟨k, h⟩ => by
      have t : ¬ mI M' 39 1 ≤ nI i := by rw [k.i rfl, h39, bI_le (by omega) (by omega)]; omega
      have get := k.get W.2.1 (l := 113) (by decide) (show i < (pl D 113).length by omega) (by decide) (by decide) (by decide)
      obtain ⟨ko0, tz⟩ := W.w113 (v := i) (by omega)
      have ko : mk M' ((pl D 113).getD i 0) = 20 := (k.k _).trans ko0
      refine ⟨msI M' 3804 ((pl D 113).getD i 0) 0, ?_, k.wI rfl tz, fun v hv => ?_⟩
      · show KL_X0_init_2_188 (n + 1) (nI i) M' = _
        rw [KL_X0_init_2_188, ifF t, get, ob_some, ifT (Or.inr ko), ifT ko, nm_eq, nm_eq, p1n]
      · rw [mI_msI]
        by_cases z2 : v = i
        · rw [z2, ifT ⟨rfl, rfl⟩]
        · have nq : (pl D 113).getD v 0 ≠ (pl D 113).getD i 0 := fun z => z2 (W.2.1.inj (l := 113) (l' := 113) (by decide) (by decide) (by omega) (by omega) z).2
          rw [ifF (fun y => nq y.2)]; exact h v (by omega)) Wn 0 FU M (by omega) (by omega) ⟨KF.rf, fun v hv => by omega⟩
  exact ⟨M', l1, kl1, v1⟩
theorem t_in173 (hW : Wn ≤ 12) (h : tI σ 148 = nI Wn) : ∃ σ', L_init_2_173 FU 0 σ = some ((), σ') ∧ Ft [235] σ σ' ∧ ∀ u, u < Wn → tA σ' 235 u = 0 := by
  have fu : 1000 < FU := by unfold FU; decide
  refine loopT (L := fun n i s => L_init_2_173 n i s) (X := Wn) (fun i σ' => Ft [235] σ σ' ∧ ∀ u, u < i → tA σ' 235 u = 0) (fun n s ⟨f, _⟩ => ?_) (fun n i s hi ⟨f, h1⟩ => ?_) Wn 0 FU σ (by omega) (by omega) ⟨Ft.rf _ σ, fun u hu => by omega⟩
  · have t : tI s 148 ≤ nI Wn := by rw [(f 148 rfl).1, h, bI_le (by omega) (by omega)]; omega
    show L_init_2_173 (n + 1) (nI Wn) s = _
    rw [L_init_2_173, ifT t]
  · have t : ¬ tI s 148 ≤ nI i := by rw [(f 148 rfl).1, h, bI_le (by omega) (by omega)]; omega
    have i1 : inb (nI i) 12 := inb_nI' (by omega) (by decide)
    refine ⟨_, by show L_init_2_173 (n + 1) (nI i) s = _; rw [L_init_2_173, ifF t, ifT i1, ix_nI (by omega), nm_eq, nm_eq, p1n], f.p_tsA rfl, fun u hu => ?_⟩
    rw [tA_tsA]
    by_cases z : u = i
    · rw [ifT ⟨rfl, z⟩]; decide
    · rw [ifF (fun y => z y.2)]; exact h1 u (by omega)
/-- a model begins -/
theorem z_init (w : RnW C B P mss fss V U S q A Wn K1 K2 N D M σ) (h171 : tI σ 171 = nI 0) (h46 : ¬ mI M 46 1 = 0) (h109 : ¬ tI σ 109 = 0) (h45 : mI M 4 1 = tI σ 2 ∧ mI M 5 1 = tI σ 3) : ∃ r M' σ', K_X0_init_2 M = some (r, M') ∧ F_init_2 σ = some (r, σ') ∧ InO V U Wn D M σ M' σ' := by
  have fu : 1000 < FU := by unfold FU; decide
  obtain ⟨⟨V96, V98, U180, -, q24, -⟩, ⟨h15, h107⟩, ⟨h57, h197⟩, ⟨-, h154⟩, ⟨⟨h39, h148⟩, W12, Wl⟩, uk, -⟩ := w.st
  -- resets
  obtain ⟨M0, hM0⟩ : ∃ Y, Y = msI (msI (msI (msI (msI (msI M 91 1 0) 85 1 0) 95 1 0) 96 1 0) 97 1 0) 90 1 0 := ⟨_, rfl⟩
  have k0 : KF D [85, 90, 91, 95, 96, 97] [] [] [] M M0 := by rw [hM0]; exact (((((KF.rf.wI rfl TZ.one).wI rfl TZ.one).wI rfl TZ.one).wI rfl TZ.one).wI rfl TZ.one).wI rfl TZ.one
  have v0 : mI M0 91 1 = 0 ∧ mI M0 85 1 = 0 ∧ mI M0 95 1 = 0 ∧ mI M0 96 1 = 0 ∧ mI M0 97 1 = 0 ∧ mI M0 90 1 = 0 := by
    rw [hM0]
    simp only [mI_msI]
    refine ⟨rfl, rfl, rfl, rfl, rfl, rfl⟩
  obtain ⟨s0, hs0⟩ : ∃ Y, Y = tsI (tsI (tsI (tsI (tsI (tsI (tsI (tsI σ 0 0) 110 0) 111 0) 165 0) 222 0) 237 0) 238 0) 239 0 := ⟨_, rfl⟩
  have f0 : Ft [0, 110, 111, 165, 222, 237, 238, 239] σ s0 := by rw [hs0]; exact ((((((((Ft.rf _ σ).p_tsI rfl).p_tsI rfl).p_tsI rfl).p_tsI rfl).p_tsI rfl).p_tsI rfl).p_tsI rfl).p_tsI rfl
  have u0 : tI s0 0 = 0 ∧ tI s0 110 = 0 ∧ tI s0 111 = 0 ∧ tI s0 165 = 0 ∧ tI s0 222 = 0 ∧ tI s0 237 = 0 ∧ tI s0 238 = 0 ∧ tI s0 239 = 0 := by
    rw [hs0]; exact ⟨rfl, rfl, rfl, rfl, rfl, rfl, rfl, rfl⟩
  have pk0 : PaK V D σ M M0 := PaK.of k0 rfl
  have w0 := w.kf k0 (by decide) (by decide) f0 (by decide) u0.1 pk0
  -- what comes first
  have hu : ∀ u, u < U → ∃ b, b < V ∧ mA M0 119 u = nI b ∧ tA s0 187 u = nI b ∧ mA M0 120 u = tA s0 188 u ∧ mI M0 3212 ((pl D 98).getD b 0) = tA s0 105 b := fun u hu => by
    obtain ⟨⟨b, ⟨b1, -⟩, b2, b3⟩, ⟨o, -, o2, o3⟩, -⟩ := uk.2 u hu
    obtain ⟨-, -, -, v4, -⟩ := w0.vr b1
    exact ⟨b, b1, by rw [k0.ga rfl]; exact b2, by rw [(f0 187 rfl).2.2.1]; exact b3, by rw [k0.ga rfl, (f0 188 rfl).2.2.1, o2, o3], v4⟩
  obtain ⟨M1, a1, a2, a3⟩ := k_in42 w0.1 (by rw [k0.i rfl]; exact h57) U180 V98 V96 hu
  obtain ⟨s1, b1, b2, b3⟩ := t_in52 (σ := s0) U180 ((f0 197 rfl).1.trans h197) (fun u hu' => by
    obtain ⟨b, c1, -, c3, -⟩ := hu u hu'
    exact ⟨b, by omega, c3⟩)
  have w1 := w0.kf a2 (by decide) (by decide) b2 (by decide) ((b2 0 rfl).1.trans u0.1) (PaK.of a2 rfl)
  obtain ⟨M2, a4, a5, a6⟩ := k_in115 w1.1 (by rw [a2.i rfl, k0.i rfl]; exact h15) ⟨V98, V96⟩
  obtain ⟨s2, b4, b5, b6⟩ := t_in110 (σ := s1) V96 ((b2 107 rfl).1.trans ((f0 107 rfl).1.trans h107))
  have kk2 : ∀ v, v < V → ∃ k, k < 3 ∧ mI M1 3203 ((pl D 98).getD v 0) = nI k ∧ tA s1 94 v = nI k := fun v hv => (w1.vr hv).2.2.1
  have pk2 : PaK V D s1 M1 M2 := fun v hv z => (a6 v hv).2 (fun y => by
    obtain ⟨k, k0, k1, k2⟩ := kk2 v hv
    have := k1.symm.trans y
    have := k2.symm.trans z
    have e1 : k = 2 := nIq (b := 2) ‹nI k = 2› (by omega) (by omega)
    have e2 : k = 1 := nIq (b := 1) ‹nI k = 1› (by omega) (by omega)
    omega)
  have w2 := w1.kf a5 (by decide) (by decide) b5 (by decide) ((b5 0 rfl).1.trans ((b2 0 rfl).1.trans u0.1)) pk2
  obtain ⟨M3, a7, a8, a9⟩ := k_in167 (D := D) (M := M2) trivial
  obtain ⟨s3, b7, b8, b9⟩ := t_in150 (σ := s2) q24 ((b5 154 rfl).1.trans ((b2 154 rfl).1.trans ((f0 154 rfl).1.trans h154)))
  have w3 := w2.kf a8 (by decide) (by decide) b8 (by decide) ((b8 0 rfl).1.trans ((b5 0 rfl).1.trans ((b2 0 rfl).1.trans u0.1))) (PaK.of a8 rfl)
  obtain ⟨M4, a10, a11, a12⟩ := k_in188 w3.1 (by rw [a8.i rfl, a5.i rfl, a2.i rfl, k0.i rfl]; exact h39) ⟨Wl, W12⟩
  obtain ⟨s4, b10, b11, b12⟩ := t_in173 (σ := s3) W12 ((b8 148 rfl).1.trans ((b5 148 rfl).1.trans ((b2 148 rfl).1.trans ((f0 148 rfl).1.trans h148))))
  have f4 : Ft [0, 110, 111, 163, 165, 166, 167, 168, 169, 222, 235, 237, 238, 239] σ s4 := ((((f0.mono (by decide)).tr (b2.mono (by decide))).tr (b5.mono (by decide))).tr (b8.mono (by decide))).tr (b11.mono (by decide))
  have f04 : Ft [163, 166, 167, 168, 169, 235] s0 s4 := (((b2.mono (by decide)).tr (b5.mono (by decide))).tr (b8.mono (by decide))).tr (b11.mono (by decide))
  have k04 : KF D [3213, 3214, 3804] [] [124, 125, 148] [] M0 M4 := (((a2.mono (by decide) (by decide) (by decide) (by decide)).tr (a5.mono (by decide) (by decide) (by decide) (by decide))).tr (a8.mono (by decide) (by decide) (by decide) (by decide))).tr (a11.mono (by decide) (by decide) (by decide) (by decide))
  have h04 : tI s4 0 = 0 := (f04 0 rfl).1.trans u0.1
  have w4 := w3.kf a11 (by decide) (by decide) b11 (by decide) h04 (PaK.of a11 rfl)
  have p94 : ∀ v, tA s1 94 v = tA σ 94 v := fun v => (b2 94 rfl).2.2.1 v |>.trans ((f0 94 rfl).2.2.1 v)
  have pk4 : PaK V D σ M M4 := fun v hv z => by
    rw [a11.i rfl, a8.i rfl, pk2 v hv ((p94 v).trans z), a2.i rfl, k0.i rfl]
  have g4 : RsK inI inA inT V D M σ M4 s4 := ⟨(k0.mono (by decide) (by decide) (by decide) (by decide)).tr (k04.mono (by decide) (by decide) (by decide) (by decide)), f4.mono (by decide), pk4⟩
  have d4 : VaX V U Wn D M4 s4 := by
    refine ⟨h04, ⟨by rw [k04.i rfl, v0.2.1, (f04 165 rfl).1, u0.2.2.2.1], fun u hu' => ?_, fun v hv z => ?_, fun r hr z => ?_, fun j hj => ?_⟩, (f4 171 rfl).1.trans h171, by rw [k04.i rfl, v0.2.2.2.2.2, (f04 222 rfl).1, u0.2.2.2.2.1]⟩
    · rw [a11.ga rfl, a11.ga rfl, a8.ga rfl, a8.ga rfl, a5.ga rfl, a5.ga rfl, (a3 u hu').1, (a3 u hu').2, (b11 166 rfl).2.2.1, (b11 167 rfl).2.2.1, (b8 166 rfl).2.2.1, (b8 167 rfl).2.2.1, (b5 166 rfl).2.2.1, (b5 167 rfl).2.2.1, (b3 u hu').1, (b3 u hu').2]
      exact ⟨rfl, rfl⟩
    · have z1 : tA s1 94 v = 2 := (p94 v).trans (((f4 94 rfl).2.2.1 v).symm.trans z)
      have kz : mI M1 3203 ((pl D 98).getD v 0) = 2 := by
        obtain ⟨k, -, k1, k2⟩ := kk2 v hv
        rw [k1, ← k2]; exact z1
      obtain ⟨c1, c2⟩ := (a6 v hv).1 kz
      obtain ⟨-, -, -, v4, -⟩ := w1.vr hv
      rw [a11.i rfl, a11.i rfl, a8.i rfl, a8.i rfl, c1, c2, v4, (b11 168 rfl).2.2.1, (b11 169 rfl).2.2.1, (b8 168 rfl).2.2.1, (b8 169 rfl).2.2.1, (b6 v hv).1, (b6 v hv).2]
      exact ⟨rfl, rfl⟩
    · have rq : r < q := by
        rw [(f4 154 rfl).1, h154, bI_lt (by omega) (by omega)] at z; exact z
      rw [a11.ga rfl, a9 r hr, (b11 163 rfl).2.2.1, b9 r rq]; exact ⟨rfl, Or.inl rfl⟩
    · rw [a12 j hj, b12 j hj]; exact ⟨rfl, Or.inl rfl⟩
  have c4 : EvN2 0 M4 s4 := ⟨by rw [k04.i rfl, v0.2.2.2.2.1, (f04 239 rfl).1, u0.2.2.2.2.2.2.2], by rw [k04.i rfl, v0.2.2.2.1, (f04 238 rfl).1, u0.2.2.2.2.2.2.1]; rfl⟩
  have e95 : mI M4 95 1 = 0 ∧ tI s4 237 = 0 := ⟨(k04.i rfl 1).trans v0.2.2.1, (f04 237 rfl).1.trans u0.2.2.2.2.2.1⟩
  have e91 : mI M4 91 1 = 0 ∧ tI s4 110 = 0 := ⟨(k04.i rfl 1).trans v0.1, (f04 110 rfl).1.trans u0.2.1⟩
  unfold K_X0_init_2 F_init_2
  rw [ifF h46, ifF h109]
  simp only [nm_eq]
  rw [← hM0, ← hs0, a1, ob_some, a4, ob_some, a7, ob_some, a10, ob_some, b1, ob_some, b4, ob_some, b7, ob_some, b10, ob_some]
  rcases (z_event 1 w4 d4 c4).im (Q2 := fun a _ M' σ' => (a = .inl () ∧ RnW C B P mss fss V U S q A Wn K1 K2 N D M' σ' ∧ VaE 1 V U Wn D M' σ' ∧ EvN2 0 M' σ') ∧ RsK evI evA evT V D M4 s4 M' σ') (fun a b M' σ' g z => ⟨z, g⟩) with ⟨M5, s5, wx, y, k1, k2, fo⟩ | ⟨a, b, M5, s5, k1, k2, -, ⟨g1, w5, d5, c5⟩, g⟩
  · obtain ⟨n, r, ⟨n1, rb⟩, ⟨o1, o2, o3⟩, r0, ⟨e0, e1⟩, f, ⟨h171', h90⟩, pk⟩ := id fo
    obtain ⟨M6, hM6⟩ : ∃ Y, Y = msI (msI M5 4 1 (mI M5 1200 wx)) 5 1 (mI M5 1201 wx) := ⟨_, rfl⟩
    have k6 : KF D [4, 5] [] [] [] M5 M6 := by rw [hM6]; exact (KF.rf.wI rfl TZ.one).wI rfl TZ.one
    obtain ⟨i3, -⟩ := RbF.of n M5 rb
    have n167 := w4.1.n167
    have i91 : mI M5 91 1 = mI M4 91 1 := i3 91 1 (by omega) (by decide)
    refine ⟨-5, M6, flT s5, by rw [k1, obS_inr, k_failW o2, ob_some, hM6], by rw [k2, ob_some, t_isBad1 fo.ne, ob_some, ifF (show ¬ (1 : Int32) = 0 by decide), t_faulted, ob_some], ⟨n, n1, ?_⟩, ?_, ?_, ⟨rfl, h171'⟩, ⟨?_, ?_⟩, Or.inr ⟨?_, ?_⟩⟩
    · exact RB.pre g4.1 n _ (RB.kf (k6.mono (by decide) (by decide) (by decide) (by decide)) n (RB.mono (by decide) (by decide) n _ _ rb))
    · exact (g4.2.1.tr (f.mono (by decide))).tr (flT_f.mono (by decide))
    · exact (g4.2.2.tr pk (fun v => (g4.2.1 94 rfl).2.2.1 v)).tr (PaK.of (σ := s5) k6 rfl) (fun v => ((g4.2.1.tr (f.mono (by decide))) 94 rfl).2.2.1 v)
    · rw [hM6, mI_msI, ifF (by omega), mI_msI, ifT ⟨rfl, rfl⟩, o3, ← e0]; rfl
    · rw [hM6, mI_msI, ifT ⟨rfl, rfl⟩, e1 rfl]; rfl
    · rw [k6.i rfl, i91]; exact e91.1
    · exact ((f 110 rfl).1.trans e91.2 : tI s5 110 = 0)
  · subst g1
    obtain ⟨M6, hM6⟩ : ∃ Y, Y = msI (msI M5 91 1 1) 92 1 0 := ⟨_, rfl⟩
    have k6 : KF D [91, 92] [] [] [] M5 M6 := by rw [hM6]; exact (KF.rf.wI rfl TZ.one).wI rfl TZ.one
    obtain ⟨s6, hs6⟩ : ∃ Y, Y = tsI s5 110 1 := ⟨_, rfl⟩
    have f6 : Ft [110] s5 s6 := by rw [hs6]; exact (Ft.rf _ s5).p_tsI rfl
    have g6 : RsK inI inA inT V D M σ M6 s6 := (g4.tr (g.mono (by decide) (by decide) (by decide)) rfl).tr ⟨k6.mono (by decide) (by decide) (by decide) (by decide), f6.mono (by decide), PaK.of k6 rfl⟩ rfl
    have e4 : mI M6 4 1 = mI M 4 1 ∧ mI M6 5 1 = mI M 5 1 := ⟨by rw [k6.i rfl, g.1.i rfl, k04.i rfl, k0.i rfl], by rw [k6.i rfl, g.1.i rfl, k04.i rfl, k0.i rfl]⟩
    have t2 : tI s6 2 = tI σ 2 ∧ tI s6 3 = tI σ 3 := ⟨(f6 2 rfl).1.trans ((g.2.1 2 rfl).1.trans (f4 2 rfl).1), (f6 3 rfl).1.trans ((g.2.1 3 rfl).1.trans (f4 3 rfl).1)⟩
    have d6 : VaX V U Wn D M6 s6 := d5.vx.up k6 f6 (by decide) (by decide) (by decide)
    refine ⟨0, M6, s6, by rw [k1, obS_inl, hM6], by rw [k2, ob_some, t_isBad0 d5.1.1, ob_some, ifT (rfl : (0 : Int32) = 0), hs6], ⟨0, by decide, g6.1⟩, g6.2.1, g6.2.2, ⟨d6.1, d6.2.2.1⟩, ⟨e4.1.trans (h45.1.trans t2.1.symm), e4.2.trans (h45.2.trans t2.2.symm)⟩, Or.inl ⟨⟨?_, ?_⟩, ⟨?_, ?_⟩, d6, ⟨c5.up k6 f6 ⟨rfl, rfl⟩ ⟨rfl, rfl⟩, ?_⟩, 0, by decide, ?_⟩⟩
    · rw [hM6, mI_msI, ifF (by omega), mI_msI, ifT ⟨rfl, rfl⟩]
    · rw [hs6, tI_tsI, ifT rfl]
    · rw [hM6, mI_msI, ifT ⟨rfl, rfl⟩]
    · rw [(f6 111 rfl).1, (g.2.1 111 rfl).1, (f04 111 rfl).1]; exact u0.2.2.1
    · rw [k6.i rfl, g.1.i rfl, e95.1, (f6 237 rfl).1, (g.2.1 237 rfl).1, e95.2]
    · rw [(f6 165 rfl).1, (g.2.1 165 rfl).1, (f04 165 rfl).1, u0.2.2.2.1]; rfl
end INIT
