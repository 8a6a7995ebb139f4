/-! Layer B: running: keeping and going back, the component -/
set_option maxRecDepth 100000
section BACK
variable {C : PC} {B : Nat} {P : Nat → Prop} {mss fss : List Nat} {V U S q A Wn K1 K2 N e r w v u j m kf tf a b i n : Nat} {D : FQ} {M M' M1 : CM} {σ σ' s : TS} {x x2 y : Int32} {I R A0 X : List Nat}
theorem KF.mcA (h : KF D I R A0 X M M1) (hA : A0.contains b = true) (ho : 117 ≤ b ∧ b < 167) {i j n : Nat} : KF D I R A0 X M (mcA M1 a i b j n) := h.tr ⟨Fz.rf.mcA (fun _ => by rw [tgo_s ho.2]; exact Or.inr (Or.inl ho)), fun _ _ _ => rfl, fun _ _ _ => rfl, fun f q z => by rw [mA_mcA, ifF (fun y => by rw [y.1, hA] at z; cases z)], fun _ _ _ => rfl, fun _ _ => rfl, fun _ => ⟨rfl, rfl⟩, rfl, rfl⟩
theorem KF.fx (k : KF D I R A0 X M M') (W : FW C B P mss fss D M σ) {t : Nat × Nat × Nat} (ht : t ∈ bfK) : mk M' t.1 = t.2.1 ∧ ml M' t.1 = t.2.2 := by
  obtain ⟨a1, a2⟩ := W.2.2.2.1.1 t ht
  exact ⟨(k.k _).trans a1, (k.gl _).trans a2⟩
theorem FW.v98 (W : FW C B P mss fss D M σ) (hv : v < (pl D 98).length) : mk M ((pl D 98).getD v 0) = 17 ∧ TZ (tgof D ((pl D 98).getD v 0)) := ⟨(W.2.1.2.1 98 (by decide) v hv).1, TZ.vr W.2.1 hv⟩
theorem FW.w113 (W : FW C B P mss fss D M σ) (hv : v < (pl D 113).length) : mk M ((pl D 113).getD v 0) = 20 ∧ TZ (tgof D ((pl D 113).getD v 0)) := by
  obtain ⟨a1, a2, a3⟩ := W.2.1.2.1 113 (by decide) v hv
  have := (W.2.1.1 113 (by decide)).2.2
  have fx : flX 113 = 12 := rfl
  exact ⟨a1, by rw [tgo_d a2.1, a3]; unfold TZ tg; omega⟩
/-- what is kept -/
def KkR (V Wn : Nat) (D : FQ) (M M' : CM) : Prop := mI M' 800 151 = mI M 85 1 ∧ (∀ u, u < 180 → mA M' 152 u = mA M 124 u ∧ mA M' 153 u = mA M 125 u) ∧ (∀ v, v < V → mA M' 154 v = mI M 3213 ((pl D 98).getD v 0) ∧ mA M' 155 v = mI M 3214 ((pl D 98).getD v 0)) ∧ (∀ r, r < 24 → mA M' 156 r = mA M 148 r) ∧ ∀ w, w < Wn → mA M' 157 w = nZ (mI M 3804 ((pl D 113).getD w 0))
theorem c180 {a b : Nat} (ha : mk M a = 50 ∧ ml M a = 180) (hb : mk M b = 50 ∧ ml M b = 180) : mk M a = 50 ∧ mk M b = 50 ∧ ¬ (0 : Int32) < 0 ∧ ¬ (0 : Int32) < 0 ∧ ¬ (180 : Int32) < 0 ∧ ix 0 + ix 180 ≤ ml M a ∧ ix 0 + ix 180 ≤ ml M b := ⟨ha.1, hb.1, by decide, by decide, by decide, by rw [ha.2]; decide, by rw [hb.2]; decide⟩
theorem c24 {a b : Nat} (ha : mk M a = 52 ∧ ml M a = 24) (hb : mk M b = 52 ∧ ml M b = 24) : mk M a = 52 ∧ mk M b = 52 ∧ ¬ (0 : Int32) < 0 ∧ ¬ (0 : Int32) < 0 ∧ ¬ (24 : Int32) < 0 ∧ ix 0 + ix 24 ≤ ml M a ∧ ix 0 + ix 24 ≤ ml M b := ⟨ha.1, hb.1, by decide, by decide, by decide, by rw [ha.2]; decide, by rw [hb.2]; decide⟩
theorem k_keep (W : FW C B P mss fss D M σ) (h15 : mI M 15 1 = nI V) (h39 : mI M 39 1 = nI Wn) (hV : V ≤ (pl D 98).length ∧ V ≤ 96) (hW : Wn ≤ (pl D 113).length ∧ Wn ≤ 12) : ∃ M', K_X0_keep M = some ((), M') ∧ KF D [800] [] [152, 153, 154, 155, 156, 157] [] M M' ∧ KkR V Wn D M M' := by
  have fu : 1000 < FU := by unfold FU; decide
  obtain ⟨M1, hM1⟩ : ∃ X, X = msI M 800 151 (mI M 85 1) := ⟨_, rfl⟩
  have t151 : TZ (tgof D 151) := by rw [tgo_s (by decide)]; exact Or.inr (Or.inl (by decide))
  have k1 : KF D [800] [] [152, 153, 154, 155, 156, 157] [] M M1 := by rw [hM1]; exact KF.rf.wI rfl t151
  obtain ⟨M3, hM3⟩ : ∃ X, X = mcA M1 124 (ix 0) 152 (ix 0) (ix 180) := ⟨_, rfl⟩
  have k3 : KF D [800] [] [152, 153, 154, 155, 156, 157] [] M M3 := by rw [hM3]; exact k1.mcA rfl (by decide)
  obtain ⟨M5, hM5⟩ : ∃ X, X = mcA M3 125 (ix 0) 153 (ix 0) (ix 180) := ⟨_, rfl⟩
  have k5 : KF D [800] [] [152, 153, 154, 155, 156, 157] [] M M5 := by rw [hM5]; exact k3.mcA rfl (by decide)
  obtain ⟨M7, hM7⟩ : ∃ X, X = mcA M5 148 (ix 0) 156 (ix 0) (ix 24) := ⟨_, rfl⟩
  have k7 : KF D [800] [] [152, 153, 154, 155, 156, 157] [] M M7 := by rw [hM7]; exact k5.mcA rfl (by decide)
  have p1 : ∀ i, nI i + 1 = nI (i + 1) := p1n
  -- variables
  obtain ⟨M27, l1, ⟨kl1, v1⟩⟩ := loopK (L := fun n i s => KL_X0_keep_69 n i s) (X := V) (fun i M' => KF D [] [] [154, 155] [] M7 M' ∧ ∀ v, v < i → mA M' 154 v = mI M 3213 ((pl D 98).getD v 0) ∧ mA M' 155 v = mI M 3214 ((pl D 98).getD v 0)) (fun n M' ⟨k, _⟩ => by
      have t : mI M' 15 1 ≤ nI V := by rw [k.i rfl, k7.i rfl, h15, bI_le (by omega) (by omega)]; omega
      show KL_X0_keep_69 (n + 1) (nI V) M' = _
      rw [KL_X0_keep_69, ifT t]) (fun n i M' hi ⟨k, h⟩ => by
      have t : ¬ mI M' 15 1 ≤ nI i := by rw [k.i rfl, k7.i rfl, h15, bI_le (by omega) (by omega)]; omega
      have kk : KF D [800] [] [152, 153, 154, 155, 156, 157] [] M M' := k7.tr (k.mono (by decide) (by decide) (by decide) (by decide))
      have get := kk.get W.2.1 (l := 98) (by decide) (show i < (pl D 98).length by omega) (by decide) (by decide) (by decide)
      have ko : mk M' ((pl D 98).getD i 0) = 17 := (kk.k _).trans (W.v98 (by omega)).1
      have i96 : inb (nI i) 96 := inb_nI' (by omega) (by decide)
      have xi : ix (nI i) = i := ix_nI (by omega)
      obtain ⟨Ma, hMa⟩ : ∃ X, X = mwA M' 154 i (mI M' 3213 ((pl D 98).getD i 0)) := ⟨_, rfl⟩
      have ka : KF D [] [] [154, 155] [] M7 Ma := by rw [hMa]; exact k.wA rfl (by decide)
      have kka : KF D [800] [] [152, 153, 154, 155, 156, 157] [] M Ma := k7.tr (ka.mono (by decide) (by decide) (by decide) (by decide))
      have geta := kka.get W.2.1 (l := 98) (by decide) (show i < (pl D 98).length by omega) (by decide) (by decide) (by decide)
      have koa : mk Ma ((pl D 98).getD i 0) = 17 := (kka.k _).trans (W.v98 (by omega)).1
      refine ⟨mwA Ma 155 i (mI Ma 3214 ((pl D 98).getD i 0)), ?_, ka.wA rfl (by decide), fun v hv => ?_⟩
      · show KL_X0_keep_69 (n + 1) (nI i) M' = _
        rw [KL_X0_keep_69, ifF t, get, ob_some, ifT (Or.inr ko), ifT ko, ifT i96, xi, nm_eq, ← hMa, geta, ob_some, ifT (Or.inr koa), ifT koa, ifT i96, nm_eq, nm_eq, p1]
      · rw [mA_mwA, mA_mwA, ifF (fun z => by omega), ka.i rfl, k7.i rfl, hMa, mA_mwA, mA_mwA, k.i rfl, k7.i rfl]
        by_cases z : v = i
        · rw [ifT ⟨rfl, z⟩, ifT ⟨rfl, z⟩, z]; exact ⟨rfl, rfl⟩
        · rw [ifF (fun y => z y.2), ifF (fun y => z y.2), ifF (fun y => by omega)]; exact h v (by omega)) V 0 FU M7 (by omega) (by omega) ⟨KF.rf, fun v hv => by omega⟩
  have k27 : KF D [800] [] [152, 153, 154, 155, 156, 157] [] M M27 := k7.tr (kl1.mono (by decide) (by decide) (by decide) (by decide))
  -- whens
  obtain ⟨M41, l2, ⟨kl2, v2⟩⟩ := loopK (L := fun n i s => KL_X0_keep_131 n i s) (X := Wn) (fun i M' => KF D [] [] [157] [] M27 M' ∧ ∀ v, v < i → mA M' 157 v = nZ (mI M 3804 ((pl D 113).getD v 0))) (fun n M' ⟨k, _⟩ => by
      have t : mI M' 39 1 ≤ nI Wn := by rw [k.i rfl, k27.i rfl, h39, bI_le (by omega) (by omega)]; omega
      show KL_X0_keep_131 (n + 1) (nI Wn) M' = _
      rw [KL_X0_keep_131, ifT t]) (fun n i M' hi ⟨k, h⟩ => by
      have t : ¬ mI M' 39 1 ≤ nI i := by rw [k.i rfl, k27.i rfl, h39, bI_le (by omega) (by omega)]; omega
      have kk : KF D [800] [] [152, 153, 154, 155, 156, 157] [] M M' := k27.tr (k.mono (by decide) (by decide) (by decide) (by decide))
      have get := kk.get W.2.1 (l := 113) (by decide) (show i < (pl D 113).length by omega) (by decide) (by decide) (by decide)
      have ko : mk M' ((pl D 113).getD i 0) = 20 := (kk.k _).trans (W.w113 (by omega)).1
      have i96 : inb (nI i) 12 := inb_nI' (by omega) (by decide)
      have xi : ix (nI i) = i := ix_nI (by omega)
      refine ⟨mwA M' 157 i (nZ (mI M' 3804 ((pl D 113).getD i 0))), ?_, k.wA rfl (by decide), fun v hv => ?_⟩
      · show KL_X0_keep_131 (n + 1) (nI i) M' = _
        rw [KL_X0_keep_131, ifF t, get, ob_some, ifT (Or.inr ko), ifT ko, ifT i96, xi, nm_eq, nm_eq, p1]
      · rw [mA_mwA, k.i rfl, k27.i rfl]
        by_cases z : v = i
        · rw [ifT ⟨rfl, z⟩, z]
        · rw [ifF (fun y => z y.2)]; exact h v (by omega)) Wn 0 FU M27 (by omega) (by omega) ⟨KF.rf, fun v hv => by omega⟩
  have k41 : KF D [800] [] [152, 153, 154, 155, 156, 157] [] M M41 := k27.tr (kl2.mono (by decide) (by decide) (by decide) (by decide))
  have c01 := c180 (k1.fx W (t := (124, 50, 180)) (by decide)) (k1.fx W (t := (152, 50, 180)) (by decide))
  have c02 := c180 (k3.fx W (t := (125, 50, 180)) (by decide)) (k3.fx W (t := (153, 50, 180)) (by decide))
  have c03 := c24 (k5.fx W (t := (148, 52, 24)) (by decide)) (k5.fx W (t := (156, 52, 24)) (by decide))
  refine ⟨M41, ?_, k41, ?_, fun u hu => ?_, fun v hv => ?_, fun r hr => ?_, v2⟩
  · unfold K_X0_keep
    rw [nm_eq, ← hM1, ifT c01, nm_eq, ← hM3, ifT c02, nm_eq, ← hM5, ifT c03, nm_eq, ← hM7, show KL_X0_keep_69 FU 0 M7 = _ from l1, ob_some, show KL_X0_keep_131 FU 0 M27 = _ from l2, ob_some]
  · rw [kl2.i rfl, kl1.i rfl, hM7, mI_mcA, hM5, mI_mcA, hM3, mI_mcA, hM1, mI_msI, ifT ⟨rfl, rfl⟩]
  · have x0 : ix 0 = 0 := by decide
    have x180 : ix 180 = 180 := by decide
    rw [kl2.ga rfl, kl1.ga rfl, kl2.ga rfl, kl1.ga rfl, hM7, mA_mcA, mA_mcA, ifF (fun z => by omega), ifF (fun z => by omega), hM5, mA_mcA, mA_mcA, ifF (fun z => by omega), hM3, mA_mcA, mA_mcA, x0, x180, ifT ⟨rfl, by omega, by omega⟩, ifT ⟨rfl, by omega, by omega⟩, ifF (fun z => by omega), hM1, mA_msI, mA_msI]
    exact ⟨by congr 1; omega, by congr 1; omega⟩
  · rw [kl2.ga rfl, kl2.ga rfl]; exact v1 v hv
  · have x0 : ix 0 = 0 := by decide
    have x24 : ix 24 = 24 := by decide
    rw [kl2.ga rfl, kl1.ga rfl, hM7, mA_mcA, x0, x24, ifT ⟨rfl, by omega, by omega⟩, hM5, mA_mcA, ifF (fun z => by omega), hM3, mA_mcA, ifF (fun z => by omega), hM1, mA_msI]
    congr 1; omega
/-- what is gone back to -/
def BkK (V Wn : Nat) (D : FQ) (M M' : CM) : Prop := mI M' 85 1 = mI M 800 151 ∧ (∀ u, u < 180 → mA M' 124 u = mA M 152 u ∧ mA M' 125 u = mA M 153 u) ∧ (∀ v, v < V → mI M' 3213 ((pl D 98).getD v 0) = mA M 154 v ∧ mI M' 3214 ((pl D 98).getD v 0) = mA M 155 v) ∧ (∀ r, r < 24 → mA M' 148 r = mA M 156 r) ∧ ∀ w, w < Wn → mI M' 3804 ((pl D 113).getD w 0) = mA M 157 w
theorem k_back (W : FW C B P mss fss D M σ) (h15 : mI M 15 1 = nI V) (h39 : mI M 39 1 = nI Wn) (hV : V ≤ (pl D 98).length ∧ V ≤ 96) (hW : Wn ≤ (pl D 113).length ∧ Wn ≤ 12) : ∃ M', K_X0_back M = some ((), M') ∧ KF D [85, 3213, 3214, 3804] [] [124, 125, 148] [] M M' ∧ BkK V Wn D M M' := by
  have fu : 1000 < FU := by unfold FU; decide
  have p1 : ∀ i, nI i + 1 = nI (i + 1) := p1n
  obtain ⟨M1, hM1⟩ : ∃ X, X = msI M 85 1 (mI M 800 151) := ⟨_, rfl⟩
  have k1 : KF D [85, 3213, 3214, 3804] [] [124, 125, 148] [] M M1 := by rw [hM1]; exact KF.rf.wI rfl TZ.one
  obtain ⟨M3, hM3⟩ : ∃ X, X = mcA M1 152 (ix 0) 124 (ix 0) (ix 180) := ⟨_, rfl⟩
  have k3 : KF D [85, 3213, 3214, 3804] [] [124, 125, 148] [] M M3 := by rw [hM3]; exact k1.mcA rfl (by decide)
  obtain ⟨M5, hM5⟩ : ∃ X, X = mcA M3 153 (ix 0) 125 (ix 0) (ix 180) := ⟨_, rfl⟩
  have k5 : KF D [85, 3213, 3214, 3804] [] [124, 125, 148] [] M M5 := by rw [hM5]; exact k3.mcA rfl (by decide)
  obtain ⟨M7, hM7⟩ : ∃ X, X = mcA M5 156 (ix 0) 148 (ix 0) (ix 24) := ⟨_, rfl⟩
  have k7 : KF D [85, 3213, 3214, 3804] [] [124, 125, 148] [] M M7 := by rw [hM7]; exact k5.mcA rfl (by decide)
  have inj : ∀ {l a b : Nat}, l ∈ flL → a < (pl D l).length → b < (pl D l).length → a ≠ b → (pl D l).getD a 0 ≠ (pl D l).getD b 0 := fun hl ha hb ne z => ne (W.2.1.inj hl hl ha hb z).2
  obtain ⟨M27, l1, ⟨kl1, v1⟩⟩ := loopK (L := fun n i s => KL_X0_back_69 n i s) (X := V) (fun i M' => KF D [3213, 3214] [] [] [] M7 M' ∧ ∀ v, v < i → mI M' 3213 ((pl D 98).getD v 0) = mA M 154 v ∧ mI M' 3214 ((pl D 98).getD v 0) = mA M 155 v) (fun n M' ⟨k, _⟩ => by
      have t : mI M' 15 1 ≤ nI V := by rw [k.i rfl, k7.i rfl, h15, bI_le (by omega) (by omega)]; omega
      show KL_X0_back_69 (n + 1) (nI V) M' = _
      rw [KL_X0_back_69, ifT t]) (fun n i M' hi ⟨k, h⟩ => by
      have t : ¬ mI M' 15 1 ≤ nI i := by rw [k.i rfl, k7.i rfl, h15, bI_le (by omega) (by omega)]; omega
      have kk : KF D [85, 3213, 3214, 3804] [] [124, 125, 148] [] M M' := k7.tr (k.mono (by decide) (by decide) (by decide) (by decide))
      have get := kk.get W.2.1 (l := 98) (by decide) (show i < (pl D 98).length by omega) (by decide) (by decide) (by decide)
      obtain ⟨ko0, tz⟩ := W.v98 (v := i) (by omega)
      have ko : mk M' ((pl D 98).getD i 0) = 17 := (kk.k _).trans ko0
      have i96 : inb (nI i) 96 := inb_nI' (by omega) (by decide)
      have xi : ix (nI i) = i := ix_nI (by omega)
      obtain ⟨Ma, hMa⟩ : ∃ X, X = msI M' 3213 ((pl D 98).getD i 0) (mA M' 154 i) := ⟨_, rfl⟩
      have ka : KF D [3213, 3214] [] [] [] M7 Ma := by rw [hMa]; exact k.wI rfl tz
      have kka : KF D [85, 3213, 3214, 3804] [] [124, 125, 148] [] M Ma := k7.tr (ka.mono (by decide) (by decide) (by decide) (by decide))
      have geta := kka.get W.2.1 (l := 98) (by decide) (show i < (pl D 98).length by omega) (by decide) (by decide) (by decide)
      have koa : mk Ma ((pl D 98).getD i 0) = 17 := (kka.k _).trans ko0
      refine ⟨msI Ma 3214 ((pl D 98).getD i 0) (mA Ma 155 i), ?_, ka.wI rfl tz, fun v hv => ?_⟩
      · show KL_X0_back_69 (n + 1) (nI i) M' = _
        rw [KL_X0_back_69, ifF t, get, ob_some, ifT (Or.inr ko), ifT i96, ifT ko, xi, nm_eq, ← hMa, geta, ob_some, ifT (Or.inr koa), ifT i96, ifT koa, nm_eq, nm_eq, p1]
      · rw [mI_msI, mI_msI, ifF (fun z => by omega), ka.ga rfl, k7.ga rfl, hMa, mI_msI, mI_msI, k.ga rfl, k7.ga rfl]
        by_cases z : v = i
        · rw [z, ifT ⟨rfl, rfl⟩, ifT ⟨rfl, rfl⟩]; exact ⟨rfl, rfl⟩
        · have nq := inj (l := 98) (by decide) (show v < (pl D 98).length by omega) (show i < (pl D 98).length by omega) z
          rw [ifF (fun y => nq y.2), ifF (fun y => nq y.2), ifF (fun y => by omega)]; exact h v (by omega)) V 0 FU M7 (by omega) (by omega) ⟨KF.rf, fun v hv => by omega⟩
  have k27 : KF D [85, 3213, 3214, 3804] [] [124, 125, 148] [] M M27 := k7.tr (kl1.mono (by decide) (by decide) (by decide) (by decide))
  obtain ⟨M41, l2, ⟨kl2, v2⟩⟩ := loopK (L := fun n i s => KL_X0_back_131 n i s) (X := Wn) (fun i M' => KF D [3804] [] [] [] M27 M' ∧ ∀ v, v < i → mI M' 3804 ((pl D 113).getD v 0) = mA M 157 v) (fun n M' ⟨k, _⟩ => by
      have t : mI M' 39 1 ≤ nI Wn := by rw [k.i rfl, k27.i rfl, h39, bI_le (by omega) (by omega)]; omega
      show KL_X0_back_131 (n + 1) (nI Wn) M' = _
      rw [KL_X0_back_131, ifT t]) (fun n i M' hi ⟨k, h⟩ => by
      have t : ¬ mI M' 39 1 ≤ nI i := by rw [k.i rfl, k27.i rfl, h39, bI_le (by omega) (by omega)]; omega
      have kk : KF D [85, 3213, 3214, 3804] [] [124, 125, 148] [] M M' := k27.tr (k.mono (by decide) (by decide) (by decide) (by decide))
      have get := kk.get W.2.1 (l := 113) (by decide) (show i < (pl D 113).length by omega) (by decide) (by decide) (by decide)
      obtain ⟨ko0, tz⟩ := W.w113 (v := i) (by omega)
      have ko : mk M' ((pl D 113).getD i 0) = 20 := (kk.k _).trans ko0
      have i96 : inb (nI i) 12 := inb_nI' (by omega) (by decide)
      have xi : ix (nI i) = i := ix_nI (by omega)
      refine ⟨msI M' 3804 ((pl D 113).getD i 0) (mA M' 157 i), ?_, k.wI rfl tz, fun v hv => ?_⟩
      · show KL_X0_back_131 (n + 1) (nI i) M' = _
        rw [KL_X0_back_131, ifF t, get, ob_some, ifT (Or.inr ko), ifT i96, ifT ko, xi, nm_eq, nm_eq, p1]
      · rw [mI_msI, k.ga rfl, k27.ga rfl]
        by_cases z : v = i
        · rw [z, ifT ⟨rfl, rfl⟩]
        · have nq := inj (l := 113) (by decide) (show v < (pl D 113).length by omega) (show i < (pl D 113).length by omega) z
          rw [ifF (fun y => nq y.2)]; exact h v (by omega)) Wn 0 FU M27 (by omega) (by omega) ⟨KF.rf, fun v hv => by omega⟩
  have k41 : KF D [85, 3213, 3214, 3804] [] [124, 125, 148] [] M M41 := k27.tr (kl2.mono (by decide) (by decide) (by decide) (by decide))
  have c01 := c180 (k1.fx W (t := (152, 50, 180)) (by decide)) (k1.fx W (t := (124, 50, 180)) (by decide))
  have c02 := c180 (k3.fx W (t := (153, 50, 180)) (by decide)) (k3.fx W (t := (125, 50, 180)) (by decide))
  have c03 := c24 (k5.fx W (t := (156, 52, 24)) (by decide)) (k5.fx W (t := (148, 52, 24)) (by decide))
  refine ⟨M41, ?_, k41, ?_, fun u hu => ?_, fun v hv => ?_, fun r hr => ?_, v2⟩
  · unfold K_X0_back
    rw [nm_eq, ← hM1, ifT c01, nm_eq, ← hM3, ifT c02, nm_eq, ← hM5, ifT c03, nm_eq, ← hM7, show KL_X0_back_69 FU 0 M7 = _ from l1, ob_some, show KL_X0_back_131 FU 0 M27 = _ from l2, ob_some]
  · rw [kl2.i rfl, kl1.i rfl, hM7, mI_mcA, hM5, mI_mcA, hM3, mI_mcA, hM1, mI_msI, ifT ⟨rfl, rfl⟩]
  · have x0 : ix 0 = 0 := by decide
    have x180 : ix 180 = 180 := by decide
    rw [kl2.ga rfl, kl1.ga rfl, kl2.ga rfl, kl1.ga rfl, hM7, mA_mcA, mA_mcA, ifF (fun z => by omega), ifF (fun z => by omega), hM5, mA_mcA, mA_mcA, ifF (fun z => by omega), hM3, mA_mcA, mA_mcA, x0, x180, ifT ⟨rfl, by omega, by omega⟩, ifT ⟨rfl, by omega, by omega⟩, ifF (fun z => by omega), hM1, mA_msI, mA_msI]
    exact ⟨by congr 1; omega, by congr 1; omega⟩
  · rw [kl2.i rfl, kl2.i rfl]; exact v1 v hv
  · have x0 : ix 0 = 0 := by decide
    have x24 : ix 24 = 24 := by decide
    rw [kl2.ga rfl, kl1.ga rfl, hM7, mA_mcA, x0, x24, ifT ⟨rfl, by omega, by omega⟩, hM5, mA_mcA, ifF (fun z => by omega), hM3, mA_mcA, ifF (fun z => by omega), hM1, mA_msI]
    congr 1; omega
end BACK
