/-! Layer B: units: what the component finds of each sort of node, all sorts -/
set_option maxRecDepth 100000
section UNIT6
variable {M M0 M' M1 M2 : CM} {i j k p q d f a b n h kf v vo x y c : Nat} {r r2 : Int32} {u w : UV} {e e2 : E3} {S : Int}
theorem k9_45 {M6 M9 M : CM} {ro p : Nat} {v : Int32} (h : M9 = mcA M6 ro 0 116 p 3) (z3 : mI M6 45 1 = mI M 45 1) : mI (mwA M9 116 (p + 1) v) 45 1 = mI M 45 1 := by
  rw [h]; exact z3
theorem CU.num (g0 : K8 M0) (ka : mk M0 a = 18) (ho : mI M0 3400 a = 0)  : CU M0 (h + 1) a (some none) := by
  intro kf p M hk hp K
  obtain ⟨kf, rfl⟩ : ∃ g, kf = g + 1 := ⟨kf - 1, by omega⟩
  have g := K.k8 g0
  obtain ⟨M6, z1, z2, z3, z4, z5⟩ := kz8 (cu := (KG_X0_alike kf).2) (ca := (KG_X0_alike kf).1) (a := a) (p := p) (by omega) 3 p FU M rfl (by have := fu2; omega) g
  have K6 := K.tr z2
  have g6 := z2.k8 g
  have ka6 : mk M6 a = 18 := (K6.2.2.2.2.2.1 a).1.trans ka
  have o6 : mI M6 3400 a = 0 := (K6.2.2.1 3400 a (fun z => by omega)).trans ho
  have r6 : ∀ f, mR M6 f a = mR M0 f a := fun f => K6.2.2.2.1 f a
  refine ⟨1, M6, ?_, z2, z4, fun z => (by cases z), fun z => z3.trans z, fun _ => ⟨z3, rfl, z5 p (Nat.le_refl _) (by omega), z5 (p + 1) (by omega) (by omega), z5 (p + 2) (by omega) (by omega)⟩⟩
  · show KB_X0_unit (KG_X0_alike kf).2 (KG_X0_alike kf).1 a (nI p) M = _
    rw [KB_X0_unit, z1, ob_some, ifT ka6, o6, ifT (rfl : (0 : Int32) = 0)]
theorem CU.tim (g0 : K8 M0) (ka : mk M0 a = 18) (ho : mI M0 3400 a = 2)  : CU M0 (h + 1) a (some (some (0, 1, 0))) := by
  intro kf p M hk hp K
  obtain ⟨kf, rfl⟩ : ∃ g, kf = g + 1 := ⟨kf - 1, by omega⟩
  have g := K.k8 g0
  obtain ⟨M6, z1, z2, z3, z4, z5⟩ := kz8 (cu := (KG_X0_alike kf).2) (ca := (KG_X0_alike kf).1) (a := a) (p := p) (by omega) 3 p FU M rfl (by have := fu2; omega) g
  have K6 := K.tr z2
  have g6 := z2.k8 g
  have ka6 : mk M6 a = 18 := (K6.2.2.2.2.2.1 a).1.trans ka
  have o6 : mI M6 3400 a = 2 := (K6.2.2.1 3400 a (fun z => by omega)).trans ho
  have r6 : ∀ f, mR M6 f a = mR M0 f a := fun f => K6.2.2.2.1 f a
  have wv : ∀ j, mA (mwA M6 116 (p + 1) 1) 116 j = if j = p + 1 then 1 else mA M6 116 j := fun j => mA_w116
  refine ⟨0, mwA M6 116 (p + 1) 1, ?_, z2.tr (Ku.rf g6.2).wa, fun j hj => by rw [wv, ifF (by omega), z4 j hj], fun z => (by cases z), fun z => z3.trans z, fun _ => ⟨z3, rfl, ?_, ?_, ?_⟩⟩
  · show KB_X0_unit (KG_X0_alike kf).2 (KG_X0_alike kf).1 a (nI p) M = _
    rw [KB_X0_unit, z1, ob_some, ifT ka6, o6, ifF (show ¬ (2 : Int32) = 0 by decide), ifF (show ¬ (2 : Int32) = 1 by decide), ifT (rfl : (2 : Int32) = 2)]
    rw [nI_addL, ifT (inb_nI' (by omega) (by decide)), ix_nI (by omega), nm_eq]
  · rw [wv, ifF (by omega), z5 p (Nat.le_refl _) (by omega)]; rfl
  · rw [wv, ifT rfl]; rfl
  · rw [wv, ifF (by omega), z5 (p + 2) (by omega) (by omega)]; rfl
theorem CU.var (g0 : K8 M0) (ka : mk M0 a = 18) (ho : mI M0 3400 a = 1) (hv : mI M0 3401 a = nI v) (hg : ∀ M, Ku M0 M → K_J2_get 98 (nI v) M = some (vo, M)) (h17 : mk M0 vo = 17) (hA : mk M0 (mR M0 3204 vo) = 50 ∧ ml M0 (mR M0 3204 vo) = 3) (hn : mR M0 3204 vo ≠ 116) (hV : mA M0 (mR M0 3204 vo) 0 = iI e.1 ∧ mA M0 (mR M0 3204 vo) 1 = iI e.2.1 ∧ mA M0 (mR M0 3204 vo) 2 = iI e.2.2) : CU M0 (h + 1) a (some (some e)) := by
  intro kf p M hk hp K
  obtain ⟨kf, rfl⟩ : ∃ g, kf = g + 1 := ⟨kf - 1, by omega⟩
  have g := K.k8 g0
  obtain ⟨M6, z1, z2, z3, z4, z5⟩ := kz8 (cu := (KG_X0_alike kf).2) (ca := (KG_X0_alike kf).1) (a := a) (p := p) (by omega) 3 p FU M rfl (by have := fu2; omega) g
  have K6 := K.tr z2
  have g6 := z2.k8 g
  have ka6 : mk M6 a = 18 := (K6.2.2.2.2.2.1 a).1.trans ka
  have o6 : mI M6 3400 a = 1 := (K6.2.2.1 3400 a (fun z => by omega)).trans ho
  have r6 : ∀ f, mR M6 f a = mR M0 f a := fun f => K6.2.2.2.1 f a
  obtain ⟨ro, hro⟩ : ∃ q, q = mR M0 3204 vo := ⟨_, rfl⟩
  rw [← hro] at hA hn hV
  have rv : mR M6 3204 vo = ro := (K6.2.2.2.1 3204 vo).trans hro.symm
  obtain ⟨M9, hM9⟩ : ∃ q, q = mcA M6 ro 0 116 p 3 := ⟨_, rfl⟩
  have cp : ∀ j, mA M9 116 j = if p ≤ j ∧ j < p + 3 then mA M6 ro (0 + (j - p)) else mA M6 116 j := fun j => by
    rw [hM9]
    by_cases z : p ≤ j ∧ j < p + 3
    · rw [ifT z]; exact if_pos ⟨rfl, z⟩
    · rw [ifF z]; exact if_neg (fun y => z y.2)
  have k9 : Ku M6 M9 := by rw [hM9]; exact (Ku.rf g6.2).cp
  have vA : ∀ k, mA M6 ro k = mA M0 ro k := fun k => K6.2.2.2.2.1 ro k hn
  obtain ⟨c0, c1, c2⟩ : mA M9 116 p = iI e.1 ∧ mA M9 116 (p + 1) = iI e.2.1 ∧ mA M9 116 (p + 2) = iI e.2.2 := by
    refine ⟨?_, ?_, ?_⟩
    · rw [cp, ifT ⟨Nat.le_refl _, by omega⟩, Nat.sub_self, vA]; exact hV.1
    · rw [cp, ifT ⟨by omega, by omega⟩, show 0 + (p + 1 - p) = 1 by omega, vA]; exact hV.2.1
    · rw [cp, ifT ⟨by omega, by omega⟩, show 0 + (p + 2 - p) = 2 by omega, vA]; exact hV.2.2
  have wv : ∀ x j, mA (mwA M9 116 (p + 1) x) 116 j = if j = p + 1 then x else mA M9 116 j := fun x j => mA_w116
  have k17 : mk M6 vo = 17 := (K6.2.2.2.2.2.1 vo).1.trans h17
  have i0 : ix (0 : Int32) = 0 := ix_nI (n := 0) (by decide)
  have i3 : ix (3 : Int32) = 3 := ix_nI (n := 3) (by decide)
  have e1 : iI e.2.1 - 0 = iI (e.2.1) := by rw [show (0 : Int32) = iI 0 from iI0.symm, iI_sub]; rw [Int.sub_zero]
  refine ⟨0, mwA M9 116 (p + 1) (iI (e.2.1)), ?_, (z2.tr k9).tr (Ku.rf (k9.k8 g6).2).wa, fun j hj => by rw [wv, ifF (by omega), cp, ifF (by omega), z4 j hj], fun z => (by cases z), fun z => (k9_45 hM9 z3).trans z, fun _ => ⟨k9_45 hM9 z3, rfl, ?_, ?_, ?_⟩⟩
  · show KB_X0_unit (KG_X0_alike kf).2 (KG_X0_alike kf).1 a (nI p) M = _
    rw [KB_X0_unit, z1, ob_some, ifT ka6, o6, ifF (show ¬ (1 : Int32) = 0 by decide), ifT (rfl : (1 : Int32) = 1)]
    rw [ifT ka6, (K6.2.2.1 3401 a (fun z => by omega)), hv, hg M6 K6, ob_some, ifT (Or.inr k17), ifT k17, rv]
    rw [ifT ⟨(K6.2.2.2.2.2.1 ro).1.trans hA.1, g6.1.1, by decide, fun z => by rw [show (0 : Int32) = nI 0 from rfl, bI_lt (by omega) (by decide)] at z; omega, by decide, by rw [i0, i3, (K6.2.2.2.2.2.1 ro).2, hA.2]; decide, by rw [ix_nI (by omega), i3, g6.1.2]; omega⟩, i0, i3, ix_nI (show p < 2147483648 by omega), nm_eq, ← hM9, nI_addL, ifT (inb_nI' (by omega) (by decide)), ifT ((k9.2.2.2.2.2.1 a).1.trans ka6), (k9.2.2.1 3400 a (fun z => by omega)), o6, ifF (show ¬ (1 : Int32) = 15 by decide), ifT (inb_nI' (by omega) (by decide)), ix_nI (by omega), nm_eq, c1, e1]
  · rw [wv, ifF (by omega)]; exact c0
  · rw [wv, ifT rfl]; rfl
  · rw [wv, ifF (by omega)]; exact c2
theorem CU.pre (g0 : K8 M0) (ka : mk M0 a = 18) (ho : mI M0 3400 a = 16) (hv : mI M0 3401 a = nI v) (hg : ∀ M, Ku M0 M → K_J2_get 98 (nI v) M = some (vo, M)) (h17 : mk M0 vo = 17) (hA : mk M0 (mR M0 3204 vo) = 50 ∧ ml M0 (mR M0 3204 vo) = 3) (hn : mR M0 3204 vo ≠ 116) (hV : mA M0 (mR M0 3204 vo) 0 = iI e.1 ∧ mA M0 (mR M0 3204 vo) 1 = iI e.2.1 ∧ mA M0 (mR M0 3204 vo) 2 = iI e.2.2) : CU M0 (h + 1) a (some (some e)) := by
  intro kf p M hk hp K
  obtain ⟨kf, rfl⟩ : ∃ g, kf = g + 1 := ⟨kf - 1, by omega⟩
  have g := K.k8 g0
  obtain ⟨M6, z1, z2, z3, z4, z5⟩ := kz8 (cu := (KG_X0_alike kf).2) (ca := (KG_X0_alike kf).1) (a := a) (p := p) (by omega) 3 p FU M rfl (by have := fu2; omega) g
  have K6 := K.tr z2
  have g6 := z2.k8 g
  have ka6 : mk M6 a = 18 := (K6.2.2.2.2.2.1 a).1.trans ka
  have o6 : mI M6 3400 a = 16 := (K6.2.2.1 3400 a (fun z => by omega)).trans ho
  have r6 : ∀ f, mR M6 f a = mR M0 f a := fun f => K6.2.2.2.1 f a
  obtain ⟨ro, hro⟩ : ∃ q, q = mR M0 3204 vo := ⟨_, rfl⟩
  rw [← hro] at hA hn hV
  have rv : mR M6 3204 vo = ro := (K6.2.2.2.1 3204 vo).trans hro.symm
  obtain ⟨M9, hM9⟩ : ∃ q, q = mcA M6 ro 0 116 p 3 := ⟨_, rfl⟩
  have cp : ∀ j, mA M9 116 j = if p ≤ j ∧ j < p + 3 then mA M6 ro (0 + (j - p)) else mA M6 116 j := fun j => by
    rw [hM9]
    by_cases z : p ≤ j ∧ j < p + 3
    · rw [ifT z]; exact if_pos ⟨rfl, z⟩
    · rw [ifF z]; exact if_neg (fun y => z y.2)
  have k9 : Ku M6 M9 := by rw [hM9]; exact (Ku.rf g6.2).cp
  have vA : ∀ k, mA M6 ro k = mA M0 ro k := fun k => K6.2.2.2.2.1 ro k hn
  obtain ⟨c0, c1, c2⟩ : mA M9 116 p = iI e.1 ∧ mA M9 116 (p + 1) = iI e.2.1 ∧ mA M9 116 (p + 2) = iI e.2.2 := by
    refine ⟨?_, ?_, ?_⟩
    · rw [cp, ifT ⟨Nat.le_refl _, by omega⟩, Nat.sub_self, vA]; exact hV.1
    · rw [cp, ifT ⟨by omega, by omega⟩, show 0 + (p + 1 - p) = 1 by omega, vA]; exact hV.2.1
    · rw [cp, ifT ⟨by omega, by omega⟩, show 0 + (p + 2 - p) = 2 by omega, vA]; exact hV.2.2
  have wv : ∀ x j, mA (mwA M9 116 (p + 1) x) 116 j = if j = p + 1 then x else mA M9 116 j := fun x j => mA_w116
  have k17 : mk M6 vo = 17 := (K6.2.2.2.2.2.1 vo).1.trans h17
  have i0 : ix (0 : Int32) = 0 := ix_nI (n := 0) (by decide)
  have i3 : ix (3 : Int32) = 3 := ix_nI (n := 3) (by decide)
  have e1 : iI e.2.1 - 0 = iI (e.2.1) := by rw [show (0 : Int32) = iI 0 from iI0.symm, iI_sub]; rw [Int.sub_zero]
  refine ⟨0, mwA M9 116 (p + 1) (iI (e.2.1)), ?_, (z2.tr k9).tr (Ku.rf (k9.k8 g6).2).wa, fun j hj => by rw [wv, ifF (by omega), cp, ifF (by omega), z4 j hj], fun z => (by cases z), fun z => (k9_45 hM9 z3).trans z, fun _ => ⟨k9_45 hM9 z3, rfl, ?_, ?_, ?_⟩⟩
  · show KB_X0_unit (KG_X0_alike kf).2 (KG_X0_alike kf).1 a (nI p) M = _
    rw [KB_X0_unit, z1, ob_some, ifT ka6, o6, ifF (show ¬ (16 : Int32) = 0 by decide), ifF (show ¬ (16 : Int32) = 1 by decide), ifF (show ¬ (16 : Int32) = 2 by decide), ifF (show ¬ (16 : Int32) = 3 by decide), ifF (show ¬ (16 : Int32) = 4 by decide), ifF (show ¬ (16 : Int32) = 5 by decide), ifF (show ¬ (16 : Int32) = 6 by decide), ifF (show ¬ (16 : Int32) = 7 by decide), ifF (show ¬ (16 : Int32) = 8 by decide), ifF (show ¬ (16 : Int32) = 9 by decide), ifF (show ¬ (16 : Int32) = 10 by decide), ifF (show ¬ (16 : Int32) = 11 by decide), ifF (show ¬ (16 : Int32) = 12 by decide), ifF (show ¬ (16 : Int32) = 13 by decide), ifF (show ¬ (16 : Int32) = 14 by decide), ifF (show ¬ (16 : Int32) = 15 by decide), ifT (rfl : (16 : Int32) = 16)]
    rw [ifT ka6, (K6.2.2.1 3401 a (fun z => by omega)), hv, hg M6 K6, ob_some, ifT (Or.inr k17), ifT k17, rv]
    rw [ifT ⟨(K6.2.2.2.2.2.1 ro).1.trans hA.1, g6.1.1, by decide, fun z => by rw [show (0 : Int32) = nI 0 from rfl, bI_lt (by omega) (by decide)] at z; omega, by decide, by rw [i0, i3, (K6.2.2.2.2.2.1 ro).2, hA.2]; decide, by rw [ix_nI (by omega), i3, g6.1.2]; omega⟩, i0, i3, ix_nI (show p < 2147483648 by omega), nm_eq, ← hM9, nI_addL, ifT (inb_nI' (by omega) (by decide)), ifT ((k9.2.2.2.2.2.1 a).1.trans ka6), (k9.2.2.1 3400 a (fun z => by omega)), o6, ifF (show ¬ (16 : Int32) = 15 by decide), ifT (inb_nI' (by omega) (by decide)), ix_nI (by omega), nm_eq, c1, e1]
  · rw [wv, ifF (by omega)]; exact c0
  · rw [wv, ifT rfl]; rfl
  · rw [wv, ifF (by omega)]; exact c2
theorem CU.der (g0 : K8 M0) (ka : mk M0 a = 18) (ho : mI M0 3400 a = 15) (hv : mI M0 3401 a = nI v) (hg : ∀ M, Ku M0 M → K_J2_get 98 (nI v) M = some (vo, M)) (h17 : mk M0 vo = 17) (hA : mk M0 (mR M0 3204 vo) = 50 ∧ ml M0 (mR M0 3204 vo) = 3) (hn : mR M0 3204 vo ≠ 116) (hV : mA M0 (mR M0 3204 vo) 0 = iI e.1 ∧ mA M0 (mR M0 3204 vo) 1 = iI e.2.1 ∧ mA M0 (mR M0 3204 vo) 2 = iI e.2.2) : CU M0 (h + 1) a (some (some (eDr e))) := by
  intro kf p M hk hp K
  obtain ⟨kf, rfl⟩ : ∃ g, kf = g + 1 := ⟨kf - 1, by omega⟩
  have g := K.k8 g0
  obtain ⟨M6, z1, z2, z3, z4, z5⟩ := kz8 (cu := (KG_X0_alike kf).2) (ca := (KG_X0_alike kf).1) (a := a) (p := p) (by omega) 3 p FU M rfl (by have := fu2; omega) g
  have K6 := K.tr z2
  have g6 := z2.k8 g
  have ka6 : mk M6 a = 18 := (K6.2.2.2.2.2.1 a).1.trans ka
  have o6 : mI M6 3400 a = 15 := (K6.2.2.1 3400 a (fun z => by omega)).trans ho
  have r6 : ∀ f, mR M6 f a = mR M0 f a := fun f => K6.2.2.2.1 f a
  obtain ⟨ro, hro⟩ : ∃ q, q = mR M0 3204 vo := ⟨_, rfl⟩
  rw [← hro] at hA hn hV
  have rv : mR M6 3204 vo = ro := (K6.2.2.2.1 3204 vo).trans hro.symm
  obtain ⟨M9, hM9⟩ : ∃ q, q = mcA M6 ro 0 116 p 3 := ⟨_, rfl⟩
  have cp : ∀ j, mA M9 116 j = if p ≤ j ∧ j < p + 3 then mA M6 ro (0 + (j - p)) else mA M6 116 j := fun j => by
    rw [hM9]
    by_cases z : p ≤ j ∧ j < p + 3
    · rw [ifT z]; exact if_pos ⟨rfl, z⟩
    · rw [ifF z]; exact if_neg (fun y => z y.2)
  have k9 : Ku M6 M9 := by rw [hM9]; exact (Ku.rf g6.2).cp
  have vA : ∀ k, mA M6 ro k = mA M0 ro k := fun k => K6.2.2.2.2.1 ro k hn
  obtain ⟨c0, c1, c2⟩ : mA M9 116 p = iI e.1 ∧ mA M9 116 (p + 1) = iI e.2.1 ∧ mA M9 116 (p + 2) = iI e.2.2 := by
    refine ⟨?_, ?_, ?_⟩
    · rw [cp, ifT ⟨Nat.le_refl _, by omega⟩, Nat.sub_self, vA]; exact hV.1
    · rw [cp, ifT ⟨by omega, by omega⟩, show 0 + (p + 1 - p) = 1 by omega, vA]; exact hV.2.1
    · rw [cp, ifT ⟨by omega, by omega⟩, show 0 + (p + 2 - p) = 2 by omega, vA]; exact hV.2.2
  have wv : ∀ x j, mA (mwA M9 116 (p + 1) x) 116 j = if j = p + 1 then x else mA M9 116 j := fun x j => mA_w116
  have k17 : mk M6 vo = 17 := (K6.2.2.2.2.2.1 vo).1.trans h17
  have i0 : ix (0 : Int32) = 0 := ix_nI (n := 0) (by decide)
  have i3 : ix (3 : Int32) = 3 := ix_nI (n := 3) (by decide)
  have e1 : iI e.2.1 - 1 = iI (e.2.1 - 1) := by rw [show (1 : Int32) = iI 1 from iI1.symm, iI_sub]; skip
  refine ⟨0, mwA M9 116 (p + 1) (iI (e.2.1 - 1)), ?_, (z2.tr k9).tr (Ku.rf (k9.k8 g6).2).wa, fun j hj => by rw [wv, ifF (by omega), cp, ifF (by omega), z4 j hj], fun z => (by cases z), fun z => (k9_45 hM9 z3).trans z, fun _ => ⟨k9_45 hM9 z3, rfl, ?_, ?_, ?_⟩⟩
  · show KB_X0_unit (KG_X0_alike kf).2 (KG_X0_alike kf).1 a (nI p) M = _
    rw [KB_X0_unit, z1, ob_some, ifT ka6, o6, ifF (show ¬ (15 : Int32) = 0 by decide), ifF (show ¬ (15 : Int32) = 1 by decide), ifF (show ¬ (15 : Int32) = 2 by decide), ifF (show ¬ (15 : Int32) = 3 by decide), ifF (show ¬ (15 : Int32) = 4 by decide), ifF (show ¬ (15 : Int32) = 5 by decide), ifF (show ¬ (15 : Int32) = 6 by decide), ifF (show ¬ (15 : Int32) = 7 by decide), ifF (show ¬ (15 : Int32) = 8 by decide), ifF (show ¬ (15 : Int32) = 9 by decide), ifF (show ¬ (15 : Int32) = 10 by decide), ifF (show ¬ (15 : Int32) = 11 by decide), ifF (show ¬ (15 : Int32) = 12 by decide), ifF (show ¬ (15 : Int32) = 13 by decide), ifF (show ¬ (15 : Int32) = 14 by decide), ifT (rfl : (15 : Int32) = 15)]
    rw [ifT ka6, (K6.2.2.1 3401 a (fun z => by omega)), hv, hg M6 K6, ob_some, ifT (Or.inr k17), ifT k17, rv]
    rw [ifT ⟨(K6.2.2.2.2.2.1 ro).1.trans hA.1, g6.1.1, by decide, fun z => by rw [show (0 : Int32) = nI 0 from rfl, bI_lt (by omega) (by decide)] at z; omega, by decide, by rw [i0, i3, (K6.2.2.2.2.2.1 ro).2, hA.2]; decide, by rw [ix_nI (by omega), i3, g6.1.2]; omega⟩, i0, i3, ix_nI (show p < 2147483648 by omega), nm_eq, ← hM9, nI_addL, ifT (inb_nI' (by omega) (by decide)), ifT ((k9.2.2.2.2.2.1 a).1.trans ka6), (k9.2.2.1 3400 a (fun z => by omega)), o6, ifT (rfl : (15 : Int32) = 15), ifT (inb_nI' (by omega) (by decide)), ix_nI (by omega), nm_eq, c1, e1]
  · rw [wv, ifF (by omega)]; exact c0
  · rw [wv, ifT rfl]; rfl
  · rw [wv, ifF (by omega)]; exact c2
theorem CU.neg (g0 : K8 M0) (ka : mk M0 a = 18) (ho : mI M0 3400 a = 7) (A : CU M0 h (mR M0 3405 a) u) : CU M0 (h + 1) a (u) := by
  intro kf p M hk hp K
  obtain ⟨kf, rfl⟩ : ∃ g, kf = g + 1 := ⟨kf - 1, by omega⟩
  have g := K.k8 g0
  obtain ⟨M6, z1, z2, z3, z4, z5⟩ := kz8 (cu := (KG_X0_alike kf).2) (ca := (KG_X0_alike kf).1) (a := a) (p := p) (by omega) 3 p FU M rfl (by have := fu2; omega) g
  have K6 := K.tr z2
  have g6 := z2.k8 g
  have ka6 : mk M6 a = 18 := (K6.2.2.2.2.2.1 a).1.trans ka
  have o6 : mI M6 3400 a = 7 := (K6.2.2.1 3400 a (fun z => by omega)).trans ho
  have r6 : ∀ f, mR M6 f a = mR M0 f a := fun f => K6.2.2.2.1 f a
  obtain ⟨r, M', a1, a2, a3, a4, a5, a6⟩ := A kf p M6 (by omega) (by omega) K6
  refine ⟨r, M', ?_, z2.tr a2, fun j hj => (a3 j hj).trans (z4 j hj), a4, fun z => a5 (z3.trans z), fun z => ⟨(a6 z).1.trans z3, (a6 z).2⟩⟩
  · show KB_X0_unit (KG_X0_alike kf).2 (KG_X0_alike kf).1 a (nI p) M = _
    rw [KB_X0_unit, z1, ob_some, ifT ka6, o6, ifF (show ¬ (7 : Int32) = 0 by decide), ifF (show ¬ (7 : Int32) = 1 by decide), ifF (show ¬ (7 : Int32) = 2 by decide), ifF (show ¬ (7 : Int32) = 3 by decide), ifF (show ¬ (7 : Int32) = 4 by decide), ifF (show ¬ (7 : Int32) = 5 by decide), ifF (show ¬ (7 : Int32) = 6 by decide), ifT (rfl : (7 : Int32) = 7)]
    rw [ifT ka6, r6, a1, ob_some]
theorem CU.abs (g0 : K8 M0) (ka : mk M0 a = 18) (ho : mI M0 3400 a = 8) (A : CU M0 h (mR M0 3405 a) u) : CU M0 (h + 1) a (u) := by
  intro kf p M hk hp K
  obtain ⟨kf, rfl⟩ : ∃ g, kf = g + 1 := ⟨kf - 1, by omega⟩
  have g := K.k8 g0
  obtain ⟨M6, z1, z2, z3, z4, z5⟩ := kz8 (cu := (KG_X0_alike kf).2) (ca := (KG_X0_alike kf).1) (a := a) (p := p) (by omega) 3 p FU M rfl (by have := fu2; omega) g
  have K6 := K.tr z2
  have g6 := z2.k8 g
  have ka6 : mk M6 a = 18 := (K6.2.2.2.2.2.1 a).1.trans ka
  have o6 : mI M6 3400 a = 8 := (K6.2.2.1 3400 a (fun z => by omega)).trans ho
  have r6 : ∀ f, mR M6 f a = mR M0 f a := fun f => K6.2.2.2.1 f a
  obtain ⟨r, M', a1, a2, a3, a4, a5, a6⟩ := A kf p M6 (by omega) (by omega) K6
  refine ⟨r, M', ?_, z2.tr a2, fun j hj => (a3 j hj).trans (z4 j hj), a4, fun z => a5 (z3.trans z), fun z => ⟨(a6 z).1.trans z3, (a6 z).2⟩⟩
  · show KB_X0_unit (KG_X0_alike kf).2 (KG_X0_alike kf).1 a (nI p) M = _
    rw [KB_X0_unit, z1, ob_some, ifT ka6, o6, ifF (show ¬ (8 : Int32) = 0 by decide), ifF (show ¬ (8 : Int32) = 1 by decide), ifF (show ¬ (8 : Int32) = 2 by decide), ifF (show ¬ (8 : Int32) = 3 by decide), ifF (show ¬ (8 : Int32) = 4 by decide), ifF (show ¬ (8 : Int32) = 5 by decide), ifF (show ¬ (8 : Int32) = 6 by decide), ifF (show ¬ (8 : Int32) = 7 by decide), ifT (rfl : (8 : Int32) = 8)]
    rw [ifT ka6, r6, a1, ob_some]
theorem CU.flr (g0 : K8 M0) (ka : mk M0 a = 18) (ho : mI M0 3400 a = 13) (A : CU M0 h (mR M0 3405 a) u) : CU M0 (h + 1) a (u) := by
  intro kf p M hk hp K
  obtain ⟨kf, rfl⟩ : ∃ g, kf = g + 1 := ⟨kf - 1, by omega⟩
  have g := K.k8 g0
  obtain ⟨M6, z1, z2, z3, z4, z5⟩ := kz8 (cu := (KG_X0_alike kf).2) (ca := (KG_X0_alike kf).1) (a := a) (p := p) (by omega) 3 p FU M rfl (by have := fu2; omega) g
  have K6 := K.tr z2
  have g6 := z2.k8 g
  have ka6 : mk M6 a = 18 := (K6.2.2.2.2.2.1 a).1.trans ka
  have o6 : mI M6 3400 a = 13 := (K6.2.2.1 3400 a (fun z => by omega)).trans ho
  have r6 : ∀ f, mR M6 f a = mR M0 f a := fun f => K6.2.2.2.1 f a
  obtain ⟨r, M', a1, a2, a3, a4, a5, a6⟩ := A kf p M6 (by omega) (by omega) K6
  refine ⟨r, M', ?_, z2.tr a2, fun j hj => (a3 j hj).trans (z4 j hj), a4, fun z => a5 (z3.trans z), fun z => ⟨(a6 z).1.trans z3, (a6 z).2⟩⟩
  · show KB_X0_unit (KG_X0_alike kf).2 (KG_X0_alike kf).1 a (nI p) M = _
    rw [KB_X0_unit, z1, ob_some, ifT ka6, o6, ifF (show ¬ (13 : Int32) = 0 by decide), ifF (show ¬ (13 : Int32) = 1 by decide), ifF (show ¬ (13 : Int32) = 2 by decide), ifF (show ¬ (13 : Int32) = 3 by decide), ifF (show ¬ (13 : Int32) = 4 by decide), ifF (show ¬ (13 : Int32) = 5 by decide), ifF (show ¬ (13 : Int32) = 6 by decide), ifF (show ¬ (13 : Int32) = 7 by decide), ifF (show ¬ (13 : Int32) = 8 by decide), ifF (show ¬ (13 : Int32) = 9 by decide), ifF (show ¬ (13 : Int32) = 10 by decide), ifF (show ¬ (13 : Int32) = 11 by decide), ifF (show ¬ (13 : Int32) = 12 by decide), ifT (rfl : (13 : Int32) = 13)]
    rw [ifT ka6, r6, a1, ob_some]
theorem CU.sgn (g0 : K8 M0) (ka : mk M0 a = 18) (ho : mI M0 3400 a = 12) (A : CU M0 h (mR M0 3405 a) u) : CU M0 (h + 1) a (uSg u) := by
  intro kf p M hk hp K
  obtain ⟨kf, rfl⟩ : ∃ g, kf = g + 1 := ⟨kf - 1, by omega⟩
  have g := K.k8 g0
  obtain ⟨M6, z1, z2, z3, z4, z5⟩ := kz8 (cu := (KG_X0_alike kf).2) (ca := (KG_X0_alike kf).1) (a := a) (p := p) (by omega) 3 p FU M rfl (by have := fu2; omega) g
  have K6 := K.tr z2
  have g6 := z2.k8 g
  have ka6 : mk M6 a = 18 := (K6.2.2.2.2.2.1 a).1.trans ka
  have o6 : mI M6 3400 a = 12 := (K6.2.2.1 3400 a (fun z => by omega)).trans ho
  have r6 : ∀ f, mR M6 f a = mR M0 f a := fun f => K6.2.2.2.1 f a
  obtain ⟨r, M7, a1, a2, a3, a4, a5, a6⟩ := A kf p M6 (by omega) (by omega) K6
  obtain ⟨M', c1, c2, c3, c4, c5⟩ := kz193 (cu := (KG_X0_alike kf).2) (ca := (KG_X0_alike kf).1) (p := p) (by omega) 3 p FU M7 rfl (by have := fu2; omega) (a2.k8 g6)
  refine ⟨1, M', ?_, (z2.tr a2).tr c2, fun j hj => (c4 j hj).trans ((a3 j hj).trans (z4 j hj)), fun z => ?_, fun z => c3.trans (a5 (z3.trans z)), fun z => ?_⟩
  · show KB_X0_unit (KG_X0_alike kf).2 (KG_X0_alike kf).1 a (nI p) M = _
    rw [KB_X0_unit, z1, ob_some, ifT ka6, o6, ifF (show ¬ (12 : Int32) = 0 by decide), ifF (show ¬ (12 : Int32) = 1 by decide), ifF (show ¬ (12 : Int32) = 2 by decide), ifF (show ¬ (12 : Int32) = 3 by decide), ifF (show ¬ (12 : Int32) = 4 by decide), ifF (show ¬ (12 : Int32) = 5 by decide), ifF (show ¬ (12 : Int32) = 6 by decide), ifF (show ¬ (12 : Int32) = 7 by decide), ifF (show ¬ (12 : Int32) = 8 by decide), ifF (show ¬ (12 : Int32) = 9 by decide), ifF (show ¬ (12 : Int32) = 10 by decide), ifF (show ¬ (12 : Int32) = 11 by decide), ifT (rfl : (12 : Int32) = 12)]
    rw [ifT ka6, r6, a1, ob_some, c1, ob_some]
  · cases u with
    | none => exact c3.trans (a4 rfl)
    | some u => cases z
  · cases u with
    | none => exact absurd rfl z
    | some u => exact ⟨c3.trans ((a6 (by intro z; cases z)).1.trans z3), rfl, c5 p (Nat.le_refl _) (by omega), c5 (p + 1) (by omega) (by omega), c5 (p + 2) (by omega) (by omega)⟩
theorem CU.sqr (g0 : K8 M0) (ka : mk M0 a = 18) (ho : mI M0 3400 a = 9) (A : CU M0 h (mR M0 3405 a) u) (hb : bV 100000 u) : CU M0 (h + 1) a (uSq u) := by
  intro kf p M hk hp K
  obtain ⟨kf, rfl⟩ : ∃ g, kf = g + 1 := ⟨kf - 1, by omega⟩
  have g := K.k8 g0
  obtain ⟨M6, z1, z2, z3, z4, z5⟩ := kz8 (cu := (KG_X0_alike kf).2) (ca := (KG_X0_alike kf).1) (a := a) (p := p) (by omega) 3 p FU M rfl (by have := fu2; omega) g
  have K6 := K.tr z2
  have g6 := z2.k8 g
  have ka6 : mk M6 a = 18 := (K6.2.2.2.2.2.1 a).1.trans ka
  have o6 : mI M6 3400 a = 9 := (K6.2.2.1 3400 a (fun z => by omega)).trans ho
  have r6 : ∀ f, mR M6 f a = mR M0 f a := fun f => K6.2.2.2.1 f a
  obtain ⟨r, M7, a1, a2, a3, a4, a5, a6⟩ := A kf p M6 (by omega) (by omega) K6
  obtain ⟨M', c1, c2, c3, c3b, c3c, c4, c5⟩ := k228 (cu := (KG_X0_alike kf).2) (ca := (KG_X0_alike kf).1) (p := p) (by omega) (x6 := r) 3 p FU M7 rfl (by have := fu2; omega) (a2.k8 g6)
  have bz : bU 100000 (eZ u) := by
    cases u with
    | none => exact bU0
    | some u =>
      cases u with
      | none => exact bU0
      | some e => exact hb
  obtain ⟨⟨q1, q2⟩, ⟨q3, q4⟩, q5, q6⟩ := bz
  have dv : ∀ a : Int, -(100000 : Int) ≤ a → a ≤ 100000 → iI a / 2 = iI (a.tdiv 2) ∧ (iI a - iI a / 2 * 2 = 0 ↔ a - a.tdiv 2 * 2 = 0) := fun a h1 h2 => by
    have e1 := iI_d2 h1 h2
    have h3 := td2 h1 h2
    refine ⟨e1, ?_⟩
    rw [e1, show (2 : Int32) = iI 2 from iI2.symm, iI_mul, iI_sub, show (0 : Int32) = iI 0 from iI0.symm, iI_eq (by omega) (by omega)]
  obtain ⟨x1, y1⟩ := dv (eZ u).1 q1 q2
  obtain ⟨x2, y2⟩ := dv (eZ u).2.1 q3 q4
  obtain ⟨x3, y3⟩ := dv (eZ u).2.2 q5 q6
  have ev1 : u ≠ none → eEv (eZ u) → ∀ i, p ≤ i → i < p + 3 → mA M7 116 i - mA M7 116 i / 2 * 2 = 0 := fun hu he i h1 h2 => by
    obtain ⟨-, -, v1, v2, v3⟩ := a6 hu
    have : i = p ∨ i = p + 1 ∨ i = p + 2 := by omega
    rcases this with rfl | rfl | rfl
    · rw [v1]; exact y1.mpr he.1
    · rw [v2]; exact y2.mpr he.2.1
    · rw [v3]; exact y3.mpr he.2.2
  have ev2 : u ≠ none → ¬ eEv (eZ u) → ∃ i, p ≤ i ∧ i < p + 3 ∧ ¬ mA M7 116 i - mA M7 116 i / 2 * 2 = 0 := fun hu he => by
    obtain ⟨-, -, v1, v2, v3⟩ := a6 hu
    by_cases w1 : (eZ u).1 - (eZ u).1.tdiv 2 * 2 = 0
    · by_cases w2 : (eZ u).2.1 - (eZ u).2.1.tdiv 2 * 2 = 0
      · exact ⟨p + 2, by omega, by omega, fun z => he ⟨w1, w2, y3.mp (by rw [v3] at z; exact z)⟩⟩
      · exact ⟨p + 1, by omega, by omega, fun z => w2 (y2.mp (by rw [v2] at z; exact z))⟩
    · exact ⟨p, by omega, by omega, fun z => w1 (y1.mp (by rw [v1] at z; exact z))⟩
  have vv : u ≠ none → V3 M' p (eHf (eZ u)) := fun hu => by
    obtain ⟨-, -, v1, v2, v3⟩ := a6 hu
    refine ⟨?_, ?_, ?_⟩
    · rw [c5 p (Nat.le_refl _) (by omega), v1, x1]; rfl
    · rw [c5 (p + 1) (by omega) (by omega), v2, x2]; rfl
    · rw [c5 (p + 2) (by omega) (by omega), v3, x3]; rfl
  refine ⟨r, M', ?_, (z2.tr a2).tr c2, fun j hj => (c4 j hj).trans ((a3 j hj).trans (z4 j hj)), fun z => ?_, fun z => c3c (a5 (z3.trans z)), fun z => ?_⟩
  · show KB_X0_unit (KG_X0_alike kf).2 (KG_X0_alike kf).1 a (nI p) M = _
    rw [KB_X0_unit, z1, ob_some, ifT ka6, o6, ifF (show ¬ (9 : Int32) = 0 by decide), ifF (show ¬ (9 : Int32) = 1 by decide), ifF (show ¬ (9 : Int32) = 2 by decide), ifF (show ¬ (9 : Int32) = 3 by decide), ifF (show ¬ (9 : Int32) = 4 by decide), ifF (show ¬ (9 : Int32) = 5 by decide), ifF (show ¬ (9 : Int32) = 6 by decide), ifF (show ¬ (9 : Int32) = 7 by decide), ifF (show ¬ (9 : Int32) = 8 by decide), ifT (rfl : (9 : Int32) = 9)]
    rw [ifT ka6, r6, a1, ob_some, c1, ob_some]
  · cases u with
    | none => exact c3c (a4 rfl)
    | some u =>
      cases u with
      | none => cases z
      | some e =>
        have z : (if eEv e then some (some (eHf e)) else none) = none := z
        by_cases y : eEv e
        · rw [ifT y] at z; cases z
        · exact c3b (ev2 (by intro z; cases z) y)
  · cases u with
    | none => exact absurd rfl z
    | some u =>
      obtain ⟨t1, t2, t3⟩ := a6 (by intro z; cases z)
      cases u with
      | none => exact ⟨(c3 (ev1 (by intro z; cases z) (by decide))).trans (t1.trans z3), t2, vv (by intro z; cases z)⟩
      | some e =>
        have e1 : uSq (some (some e)) = if eEv e then some (some (eHf e)) else none := rfl
        rw [e1] at z ⊢
        by_cases y : eEv e
        · rw [ifT y, ifF (by intro z; cases z)]
          rw [ifF (by intro z; cases z)] at t2
          exact ⟨(c3 (ev1 (by intro z; cases z) y)).trans (t1.trans z3), t2, vv (by intro z; cases z)⟩
        · rw [ifF y] at z; exact absurd rfl z
theorem CU.mul (g0 : K8 M0) (ka : mk M0 a = 18) (ho : mI M0 3400 a = 5) (A : CU M0 h (mR M0 3405 a) u) (B : CU M0 h (mR M0 3406 a) w) : CU M0 (h + 1) a (uMu (1) u w) := by
  intro kf p M hk hp K
  obtain ⟨kf, rfl⟩ : ∃ g, kf = g + 1 := ⟨kf - 1, by omega⟩
  have g := K.k8 g0
  obtain ⟨M6, z1, z2, z3, z4, z5⟩ := kz8 (cu := (KG_X0_alike kf).2) (ca := (KG_X0_alike kf).1) (a := a) (p := p) (by omega) 3 p FU M rfl (by have := fu2; omega) g
  have K6 := K.tr z2
  have g6 := z2.k8 g
  have ka6 : mk M6 a = 18 := (K6.2.2.2.2.2.1 a).1.trans ka
  have o6 : mI M6 3400 a = 5 := (K6.2.2.1 3400 a (fun z => by omega)).trans ho
  have r6 : ∀ f, mR M6 f a = mR M0 f a := fun f => K6.2.2.2.1 f a
  obtain ⟨r, M7, a1, a2, a3, a4, a5, a6⟩ := A kf p M6 (by omega) (by omega) K6
  have K7 := K6.tr a2
  obtain ⟨r2, M8, b1, b2, b3, b4, b5, b6⟩ := B kf (p + 3) M7 (by omega) (by omega) K7
  have K8' := K7.tr b2
  have ka7 : mk M7 a = 18 := (K7.2.2.2.2.2.1 a).1.trans ka
  have ka8 : mk M8 a = 18 := (K8'.2.2.2.2.2.1 a).1.trans ka
  have o8 : mI M8 3400 a = 5 := (K8'.2.2.1 3400 a (fun z => by omega)).trans ho
  obtain ⟨M', c1, c2, c3, c4, c5⟩ := k303 (cu := (KG_X0_alike kf).2) (ca := (KG_X0_alike kf).1) (a := a) (p := p) (by omega) (x5 := r) (x6 := r2) (op := 5) 3 p FU M8 rfl (Nat.le_refl _) (by have := fu2; omega) (K8'.k8 g0) ka8 o8
  have vv : u ≠ none → w ≠ none → V3 M' p (eAd (1) (eZ u) (eZ w)) := fun hu hw => by
    obtain ⟨-, -, v1, v2, v3⟩ := a6 hu
    obtain ⟨-, -, w1, w2, w3⟩ := b6 hw
    have ad : ∀ x y : Int, iI x + (if (5 : Int32) = 5 then iI y else - iI y) = iI (x + 1 * y) := fun x y => by
      rw [ifT rfl, iI_add, Int.one_mul]
    refine ⟨?_, ?_, ?_⟩
    · rw [c5 p (Nat.le_refl _) (by omega), b3 p (by omega), v1, w1, ad]; rfl
    · rw [c5 (p + 1) (by omega) (by omega), b3 (p + 1) (by omega), v2, show p + 1 + 3 = p + 3 + 1 by omega, w2, ad]; rfl
    · rw [c5 (p + 2) (by omega) (by omega), b3 (p + 2) (by omega), v3, show p + 2 + 3 = p + 3 + 2 by omega, w3, ad]; rfl
  refine ⟨if r = 0 then 0 else if r2 = 0 then 0 else 1, M', ?_, ((z2.tr a2).tr b2).tr c2, fun j hj => (c4 j (Or.inl hj)).trans ((b3 j (by omega)).trans ((a3 j hj).trans (z4 j hj))), fun z => ?_, fun z => c3.trans (b5 (a5 (z3.trans z))), fun z => ?_⟩
  · show KB_X0_unit (KG_X0_alike kf).2 (KG_X0_alike kf).1 a (nI p) M = _
    rw [KB_X0_unit, z1, ob_some, ifT ka6, o6, ifF (show ¬ (5 : Int32) = 0 by decide), ifF (show ¬ (5 : Int32) = 1 by decide), ifF (show ¬ (5 : Int32) = 2 by decide), ifF (show ¬ (5 : Int32) = 3 by decide), ifF (show ¬ (5 : Int32) = 4 by decide), ifT (rfl : (5 : Int32) = 5)]
    rw [ifT ka6, r6, a1, ob_some, ifT ka7, K7.2.2.2.1, nI_addL, b1, ob_some, c1, ob_some]
    by_cases y : r = 0
    · rw [ifT y, ifT y]
    · rw [ifF y, ifF y]
      by_cases y2 : r2 = 0
      · rw [ifT y2, ifT y2]
      · rw [ifF y2, ifF y2]
  · cases u with
    | none => exact c3.trans (b5 (a4 rfl))
    | some u =>
      cases w with
      | none => exact c3.trans (b4 rfl)
      | some w => cases u <;> cases w <;> cases z
  · cases u with
    | none => exact absurd rfl z
    | some u =>
      cases w with
      | none => cases u <;> exact absurd rfl z
      | some w =>
        obtain ⟨t1, t2, t3⟩ := a6 (by intro z; cases z)
        obtain ⟨s1, s2, s3⟩ := b6 (by intro z; cases z)
        have v := vv (by intro z; cases z) (by intro z; cases z)
        have t45 := c3.trans (s1.trans (t1.trans z3))
        refine ⟨t45, ?_, ?_⟩
        · rw [t2, s2]
          cases u <;> cases w <;> rfl
        · cases u <;> cases w <;> exact v
theorem CU.div (g0 : K8 M0) (ka : mk M0 a = 18) (ho : mI M0 3400 a = 6) (A : CU M0 h (mR M0 3405 a) u) (B : CU M0 h (mR M0 3406 a) w) : CU M0 (h + 1) a (uMu (-1) u w) := by
  intro kf p M hk hp K
  obtain ⟨kf, rfl⟩ : ∃ g, kf = g + 1 := ⟨kf - 1, by omega⟩
  have g := K.k8 g0
  obtain ⟨M6, z1, z2, z3, z4, z5⟩ := kz8 (cu := (KG_X0_alike kf).2) (ca := (KG_X0_alike kf).1) (a := a) (p := p) (by omega) 3 p FU M rfl (by have := fu2; omega) g
  have K6 := K.tr z2
  have g6 := z2.k8 g
  have ka6 : mk M6 a = 18 := (K6.2.2.2.2.2.1 a).1.trans ka
  have o6 : mI M6 3400 a = 6 := (K6.2.2.1 3400 a (fun z => by omega)).trans ho
  have r6 : ∀ f, mR M6 f a = mR M0 f a := fun f => K6.2.2.2.1 f a
  obtain ⟨r, M7, a1, a2, a3, a4, a5, a6⟩ := A kf p M6 (by omega) (by omega) K6
  have K7 := K6.tr a2
  obtain ⟨r2, M8, b1, b2, b3, b4, b5, b6⟩ := B kf (p + 3) M7 (by omega) (by omega) K7
  have K8' := K7.tr b2
  have ka7 : mk M7 a = 18 := (K7.2.2.2.2.2.1 a).1.trans ka
  have ka8 : mk M8 a = 18 := (K8'.2.2.2.2.2.1 a).1.trans ka
  have o8 : mI M8 3400 a = 6 := (K8'.2.2.1 3400 a (fun z => by omega)).trans ho
  obtain ⟨M', c1, c2, c3, c4, c5⟩ := k303 (cu := (KG_X0_alike kf).2) (ca := (KG_X0_alike kf).1) (a := a) (p := p) (by omega) (x5 := r) (x6 := r2) (op := 6) 3 p FU M8 rfl (Nat.le_refl _) (by have := fu2; omega) (K8'.k8 g0) ka8 o8
  have vv : u ≠ none → w ≠ none → V3 M' p (eAd ((-1)) (eZ u) (eZ w)) := fun hu hw => by
    obtain ⟨-, -, v1, v2, v3⟩ := a6 hu
    obtain ⟨-, -, w1, w2, w3⟩ := b6 hw
    have ad : ∀ x y : Int, iI x + (if (6 : Int32) = 5 then iI y else - iI y) = iI (x + (-1) * y) := fun x y => by
      rw [ifF (by decide), iI_neg, iI_add, Int.neg_mul, Int.one_mul]
    refine ⟨?_, ?_, ?_⟩
    · rw [c5 p (Nat.le_refl _) (by omega), b3 p (by omega), v1, w1, ad]; rfl
    · rw [c5 (p + 1) (by omega) (by omega), b3 (p + 1) (by omega), v2, show p + 1 + 3 = p + 3 + 1 by omega, w2, ad]; rfl
    · rw [c5 (p + 2) (by omega) (by omega), b3 (p + 2) (by omega), v3, show p + 2 + 3 = p + 3 + 2 by omega, w3, ad]; rfl
  refine ⟨if r = 0 then 0 else if r2 = 0 then 0 else 1, M', ?_, ((z2.tr a2).tr b2).tr c2, fun j hj => (c4 j (Or.inl hj)).trans ((b3 j (by omega)).trans ((a3 j hj).trans (z4 j hj))), fun z => ?_, fun z => c3.trans (b5 (a5 (z3.trans z))), fun z => ?_⟩
  · show KB_X0_unit (KG_X0_alike kf).2 (KG_X0_alike kf).1 a (nI p) M = _
    rw [KB_X0_unit, z1, ob_some, ifT ka6, o6, ifF (show ¬ (6 : Int32) = 0 by decide), ifF (show ¬ (6 : Int32) = 1 by decide), ifF (show ¬ (6 : Int32) = 2 by decide), ifF (show ¬ (6 : Int32) = 3 by decide), ifF (show ¬ (6 : Int32) = 4 by decide), ifF (show ¬ (6 : Int32) = 5 by decide), ifT (rfl : (6 : Int32) = 6)]
    rw [ifT ka6, r6, a1, ob_some, ifT ka7, K7.2.2.2.1, nI_addL, b1, ob_some, c1, ob_some]
    by_cases y : r = 0
    · rw [ifT y, ifT y]
    · rw [ifF y, ifF y]
      by_cases y2 : r2 = 0
      · rw [ifT y2, ifT y2]
      · rw [ifF y2, ifF y2]
  · cases u with
    | none => exact c3.trans (b5 (a4 rfl))
    | some u =>
      cases w with
      | none => exact c3.trans (b4 rfl)
      | some w => cases u <;> cases w <;> cases z
  · cases u with
    | none => exact absurd rfl z
    | some u =>
      cases w with
      | none => cases u <;> exact absurd rfl z
      | some w =>
        obtain ⟨t1, t2, t3⟩ := a6 (by intro z; cases z)
        obtain ⟨s1, s2, s3⟩ := b6 (by intro z; cases z)
        have v := vv (by intro z; cases z) (by intro z; cases z)
        have t45 := c3.trans (s1.trans (t1.trans z3))
        refine ⟨t45, ?_, ?_⟩
        · rw [t2, s2]
          cases u <;> cases w <;> rfl
        · cases u <;> cases w <;> exact v
theorem CU.add (g0 : K8 M0) (ka : mk M0 a = 18) (ho : mI M0 3400 a = 3) (A : CU M0 h (mR M0 3405 a) u) (B : CU M0 h (mR M0 3406 a) w) (hu : bV 100000 u) (hw : bV 100000 w) : CU M0 (h + 1) a (uAl u w) := by
  intro kf p M hk hp K
  obtain ⟨kf, rfl⟩ : ∃ g, kf = g + 2 := ⟨kf - 2, by omega⟩
  have g := K.k8 g0
  obtain ⟨M6, z1, z2, z3, z4, z5⟩ := kz8 (cu := (KG_X0_alike (kf + 1)).2) (ca := (KG_X0_alike (kf + 1)).1) (a := a) (p := p) (by omega) 3 p FU M rfl (by have := fu2; omega) g
  have K6 := K.tr z2
  have g6 := z2.k8 g
  have ka6 : mk M6 a = 18 := (K6.2.2.2.2.2.1 a).1.trans ka
  have o6 : mI M6 3400 a = 3 := (K6.2.2.1 3400 a (fun z => by omega)).trans ho
  have r6 : ∀ f, mR M6 f a = mR M0 f a := fun f => K6.2.2.2.1 f a
  obtain ⟨r, M', a1, a2, a3, a4, a5, a6⟩ := CA (p := p) g0 A B hu hw (show 2 * h ≤ kf by omega) (by omega) K6
  refine ⟨r, M', ?_, z2.tr a2, fun j hj => (a3 j hj).trans (z4 j hj), a4, fun z => a5 (z3.trans z), fun z => ⟨(a6 z).1.trans z3, (a6 z).2⟩⟩
  · show KB_X0_unit (KG_X0_alike (kf + 1)).2 (KG_X0_alike (kf + 1)).1 a (nI p) M = _
    rw [KB_X0_unit, z1, ob_some, ifT ka6, o6, ifF (show ¬ (3 : Int32) = 0 by decide), ifF (show ¬ (3 : Int32) = 1 by decide), ifF (show ¬ (3 : Int32) = 2 by decide), ifT (rfl : (3 : Int32) = 3)]
    rw [ifT ka6, ifF (show ¬ (3 : Int32) = 14 by decide), ifT ka6, ifT ka6, r6, r6, show (KG_X0_alike (kf + 1)).1 = KB_X0_alike (KG_X0_alike kf).2 from rfl, a1, ob_some]
theorem CU.sub (g0 : K8 M0) (ka : mk M0 a = 18) (ho : mI M0 3400 a = 4) (A : CU M0 h (mR M0 3405 a) u) (B : CU M0 h (mR M0 3406 a) w) (hu : bV 100000 u) (hw : bV 100000 w) : CU M0 (h + 1) a (uAl u w) := by
  intro kf p M hk hp K
  obtain ⟨kf, rfl⟩ : ∃ g, kf = g + 2 := ⟨kf - 2, by omega⟩
  have g := K.k8 g0
  obtain ⟨M6, z1, z2, z3, z4, z5⟩ := kz8 (cu := (KG_X0_alike (kf + 1)).2) (ca := (KG_X0_alike (kf + 1)).1) (a := a) (p := p) (by omega) 3 p FU M rfl (by have := fu2; omega) g
  have K6 := K.tr z2
  have g6 := z2.k8 g
  have ka6 : mk M6 a = 18 := (K6.2.2.2.2.2.1 a).1.trans ka
  have o6 : mI M6 3400 a = 4 := (K6.2.2.1 3400 a (fun z => by omega)).trans ho
  have r6 : ∀ f, mR M6 f a = mR M0 f a := fun f => K6.2.2.2.1 f a
  obtain ⟨r, M', a1, a2, a3, a4, a5, a6⟩ := CA (p := p) g0 A B hu hw (show 2 * h ≤ kf by omega) (by omega) K6
  refine ⟨r, M', ?_, z2.tr a2, fun j hj => (a3 j hj).trans (z4 j hj), a4, fun z => a5 (z3.trans z), fun z => ⟨(a6 z).1.trans z3, (a6 z).2⟩⟩
  · show KB_X0_unit (KG_X0_alike (kf + 1)).2 (KG_X0_alike (kf + 1)).1 a (nI p) M = _
    rw [KB_X0_unit, z1, ob_some, ifT ka6, o6, ifF (show ¬ (4 : Int32) = 0 by decide), ifF (show ¬ (4 : Int32) = 1 by decide), ifF (show ¬ (4 : Int32) = 2 by decide), ifF (show ¬ (4 : Int32) = 3 by decide), ifT (rfl : (4 : Int32) = 4)]
    rw [ifT ka6, ifF (show ¬ (4 : Int32) = 14 by decide), ifT ka6, ifT ka6, r6, r6, show (KG_X0_alike (kf + 1)).1 = KB_X0_alike (KG_X0_alike kf).2 from rfl, a1, ob_some]
theorem CU.mn (g0 : K8 M0) (ka : mk M0 a = 18) (ho : mI M0 3400 a = 10) (A : CU M0 h (mR M0 3405 a) u) (B : CU M0 h (mR M0 3406 a) w) (hu : bV 100000 u) (hw : bV 100000 w) : CU M0 (h + 1) a (uAl u w) := by
  intro kf p M hk hp K
  obtain ⟨kf, rfl⟩ : ∃ g, kf = g + 2 := ⟨kf - 2, by omega⟩
  have g := K.k8 g0
  obtain ⟨M6, z1, z2, z3, z4, z5⟩ := kz8 (cu := (KG_X0_alike (kf + 1)).2) (ca := (KG_X0_alike (kf + 1)).1) (a := a) (p := p) (by omega) 3 p FU M rfl (by have := fu2; omega) g
  have K6 := K.tr z2
  have g6 := z2.k8 g
  have ka6 : mk M6 a = 18 := (K6.2.2.2.2.2.1 a).1.trans ka
  have o6 : mI M6 3400 a = 10 := (K6.2.2.1 3400 a (fun z => by omega)).trans ho
  have r6 : ∀ f, mR M6 f a = mR M0 f a := fun f => K6.2.2.2.1 f a
  obtain ⟨r, M', a1, a2, a3, a4, a5, a6⟩ := CA (p := p) g0 A B hu hw (show 2 * h ≤ kf by omega) (by omega) K6
  refine ⟨r, M', ?_, z2.tr a2, fun j hj => (a3 j hj).trans (z4 j hj), a4, fun z => a5 (z3.trans z), fun z => ⟨(a6 z).1.trans z3, (a6 z).2⟩⟩
  · show KB_X0_unit (KG_X0_alike (kf + 1)).2 (KG_X0_alike (kf + 1)).1 a (nI p) M = _
    rw [KB_X0_unit, z1, ob_some, ifT ka6, o6, ifF (show ¬ (10 : Int32) = 0 by decide), ifF (show ¬ (10 : Int32) = 1 by decide), ifF (show ¬ (10 : Int32) = 2 by decide), ifF (show ¬ (10 : Int32) = 3 by decide), ifF (show ¬ (10 : Int32) = 4 by decide), ifF (show ¬ (10 : Int32) = 5 by decide), ifF (show ¬ (10 : Int32) = 6 by decide), ifF (show ¬ (10 : Int32) = 7 by decide), ifF (show ¬ (10 : Int32) = 8 by decide), ifF (show ¬ (10 : Int32) = 9 by decide), ifT (rfl : (10 : Int32) = 10)]
    rw [ifT ka6, ifF (show ¬ (10 : Int32) = 14 by decide), ifT ka6, ifT ka6, r6, r6, show (KG_X0_alike (kf + 1)).1 = KB_X0_alike (KG_X0_alike kf).2 from rfl, a1, ob_some]
theorem CU.mx (g0 : K8 M0) (ka : mk M0 a = 18) (ho : mI M0 3400 a = 11) (A : CU M0 h (mR M0 3405 a) u) (B : CU M0 h (mR M0 3406 a) w) (hu : bV 100000 u) (hw : bV 100000 w) : CU M0 (h + 1) a (uAl u w) := by
  intro kf p M hk hp K
  obtain ⟨kf, rfl⟩ : ∃ g, kf = g + 2 := ⟨kf - 2, by omega⟩
  have g := K.k8 g0
  obtain ⟨M6, z1, z2, z3, z4, z5⟩ := kz8 (cu := (KG_X0_alike (kf + 1)).2) (ca := (KG_X0_alike (kf + 1)).1) (a := a) (p := p) (by omega) 3 p FU M rfl (by have := fu2; omega) g
  have K6 := K.tr z2
  have g6 := z2.k8 g
  have ka6 : mk M6 a = 18 := (K6.2.2.2.2.2.1 a).1.trans ka
  have o6 : mI M6 3400 a = 11 := (K6.2.2.1 3400 a (fun z => by omega)).trans ho
  have r6 : ∀ f, mR M6 f a = mR M0 f a := fun f => K6.2.2.2.1 f a
  obtain ⟨r, M', a1, a2, a3, a4, a5, a6⟩ := CA (p := p) g0 A B hu hw (show 2 * h ≤ kf by omega) (by omega) K6
  refine ⟨r, M', ?_, z2.tr a2, fun j hj => (a3 j hj).trans (z4 j hj), a4, fun z => a5 (z3.trans z), fun z => ⟨(a6 z).1.trans z3, (a6 z).2⟩⟩
  · show KB_X0_unit (KG_X0_alike (kf + 1)).2 (KG_X0_alike (kf + 1)).1 a (nI p) M = _
    rw [KB_X0_unit, z1, ob_some, ifT ka6, o6, ifF (show ¬ (11 : Int32) = 0 by decide), ifF (show ¬ (11 : Int32) = 1 by decide), ifF (show ¬ (11 : Int32) = 2 by decide), ifF (show ¬ (11 : Int32) = 3 by decide), ifF (show ¬ (11 : Int32) = 4 by decide), ifF (show ¬ (11 : Int32) = 5 by decide), ifF (show ¬ (11 : Int32) = 6 by decide), ifF (show ¬ (11 : Int32) = 7 by decide), ifF (show ¬ (11 : Int32) = 8 by decide), ifF (show ¬ (11 : Int32) = 9 by decide), ifF (show ¬ (11 : Int32) = 10 by decide), ifT (rfl : (11 : Int32) = 11)]
    rw [ifT ka6, ifF (show ¬ (11 : Int32) = 14 by decide), ifT ka6, ifT ka6, r6, r6, show (KG_X0_alike (kf + 1)).1 = KB_X0_alike (KG_X0_alike kf).2 from rfl, a1, ob_some]
theorem CU.if_ (g0 : K8 M0) (ka : mk M0 a = 18) (ho : mI M0 3400 a = 14) (A : CU M0 h (mR M0 3406 a) u) (B : CU M0 h (mR M0 3407 a) w) (hu : bV 100000 u) (hw : bV 100000 w) : CU M0 (h + 1) a (uAl u w) := by
  intro kf p M hk hp K
  obtain ⟨kf, rfl⟩ : ∃ g, kf = g + 2 := ⟨kf - 2, by omega⟩
  have g := K.k8 g0
  obtain ⟨M6, z1, z2, z3, z4, z5⟩ := kz8 (cu := (KG_X0_alike (kf + 1)).2) (ca := (KG_X0_alike (kf + 1)).1) (a := a) (p := p) (by omega) 3 p FU M rfl (by have := fu2; omega) g
  have K6 := K.tr z2
  have g6 := z2.k8 g
  have ka6 : mk M6 a = 18 := (K6.2.2.2.2.2.1 a).1.trans ka
  have o6 : mI M6 3400 a = 14 := (K6.2.2.1 3400 a (fun z => by omega)).trans ho
  have r6 : ∀ f, mR M6 f a = mR M0 f a := fun f => K6.2.2.2.1 f a
  obtain ⟨r, M', a1, a2, a3, a4, a5, a6⟩ := CA (p := p) g0 A B hu hw (show 2 * h ≤ kf by omega) (by omega) K6
  refine ⟨r, M', ?_, z2.tr a2, fun j hj => (a3 j hj).trans (z4 j hj), a4, fun z => a5 (z3.trans z), fun z => ⟨(a6 z).1.trans z3, (a6 z).2⟩⟩
  · show KB_X0_unit (KG_X0_alike (kf + 1)).2 (KG_X0_alike (kf + 1)).1 a (nI p) M = _
    rw [KB_X0_unit, z1, ob_some, ifT ka6, o6, ifF (show ¬ (14 : Int32) = 0 by decide), ifF (show ¬ (14 : Int32) = 1 by decide), ifF (show ¬ (14 : Int32) = 2 by decide), ifF (show ¬ (14 : Int32) = 3 by decide), ifF (show ¬ (14 : Int32) = 4 by decide), ifF (show ¬ (14 : Int32) = 5 by decide), ifF (show ¬ (14 : Int32) = 6 by decide), ifF (show ¬ (14 : Int32) = 7 by decide), ifF (show ¬ (14 : Int32) = 8 by decide), ifF (show ¬ (14 : Int32) = 9 by decide), ifF (show ¬ (14 : Int32) = 10 by decide), ifF (show ¬ (14 : Int32) = 11 by decide), ifF (show ¬ (14 : Int32) = 12 by decide), ifF (show ¬ (14 : Int32) = 13 by decide), ifT (rfl : (14 : Int32) = 14)]
    rw [ifT ka6, ifT (rfl : (14 : Int32) = 14), ifT ka6, ifT ka6, r6, r6, show (KG_X0_alike (kf + 1)).1 = KB_X0_alike (KG_X0_alike kf).2 from rfl, a1, ob_some]
end UNIT6
