/-! Layer B: the component's tokens, all of them -/
set_option maxRecDepth 100000
/-- a token was written -/
def Tk1 (M M1 : CM) (t : Nat) (a v h p : Int32) : Prop := (mI M1 404 90 = nI (t + 1) ∧ ∀ g o, ¬ (g = 404 ∧ o = 90) → mI M1 g o = mI M g o) ∧ (∀ g o, mR M1 g o = mR M g o) ∧ (∀ x i, mL M1 x i = mL M x i) ∧ (∀ x i, mX M1 x i = mX M x i) ∧ (∀ o, mk M1 o = mk M o ∧ ml M1 o = ml M o) ∧ mn M1 = mn M ∧ ms M1 = ms M ∧ (∀ x i, ¬ ((x = 91 ∨ x = 92 ∨ x = 93 ∨ x = 94) ∧ i = t) → mA M1 x i = mA M x i) ∧ mA M1 91 t = a ∧ mA M1 92 t = v ∧ mA M1 93 t = h ∧ mA M1 94 t = p
theorem tkM_1 (M : CM) (t : Nat) (a v p : Int32) : Tk1 M (tkM M t a v p) t a v 0 p := by
  unfold tkM
  refine ⟨⟨by simp only [tI_tsI, tL_tsI, tA_tsI, tB_tsI, tI_tsL, tL_tsL, tA_tsL, tB_tsL, tI_tsA, tL_tsA, tA_tsA, tB_tsA, tI_tsB, tL_tsB, tA_tsB, tB_tsB, mI_msI, mR_msI, mA_msI, mL_msI, mX_msI, mk_msI, ml_msI, mn_msI, ms_msI, mI_msR, mR_msR, mA_msR, mL_msR, mX_msR, mk_msR, ml_msR, mn_msR, ms_msR, mI_mwA, mR_mwA, mA_mwA, mL_mwA, mX_mwA, mk_mwA, ml_mwA, mn_mwA, ms_mwA, mI_mwL, mR_mwL, mA_mwL, mL_mwL, mX_mwL, mk_mwL, ml_mwL, mn_mwL, ms_mwL, mI_mwX, mR_mwX, mA_mwX, mL_mwX, mX_mwX, mk_mwX, ml_mwX, mn_mwX, ms_mwX, mI_mcA, mR_mcA, mA_mcA, mL_mcA, mX_mcA, mk_mcA, ml_mcA, mn_mcA, ms_mcA, mI_mcL, mR_mcL, mA_mcL, mL_mcL, mX_mcL, mk_mcL, ml_mcL, mn_mcL, ms_mcL, mI_mcX, mR_mcX, mA_mcX, mL_mcX, mX_mcX, mk_mcX, ml_mcX, mn_mcX, ms_mcX, mI_mnew, mR_mnew, mA_mnew, mL_mnew, mX_mnew, mk_mnew, ml_mnew, mn_mnew, ms_mnew, and_self, if_true], fun g o q => by simp only [tI_tsI, tL_tsI, tA_tsI, tB_tsI, tI_tsL, tL_tsL, tA_tsL, tB_tsL, tI_tsA, tL_tsA, tA_tsA, tB_tsA, tI_tsB, tL_tsB, tA_tsB, tB_tsB, mI_msI, mR_msI, mA_msI, mL_msI, mX_msI, mk_msI, ml_msI, mn_msI, ms_msI, mI_msR, mR_msR, mA_msR, mL_msR, mX_msR, mk_msR, ml_msR, mn_msR, ms_msR, mI_mwA, mR_mwA, mA_mwA, mL_mwA, mX_mwA, mk_mwA, ml_mwA, mn_mwA, ms_mwA, mI_mwL, mR_mwL, mA_mwL, mL_mwL, mX_mwL, mk_mwL, ml_mwL, mn_mwL, ms_mwL, mI_mwX, mR_mwX, mA_mwX, mL_mwX, mX_mwX, mk_mwX, ml_mwX, mn_mwX, ms_mwX, mI_mcA, mR_mcA, mA_mcA, mL_mcA, mX_mcA, mk_mcA, ml_mcA, mn_mcA, ms_mcA, mI_mcL, mR_mcL, mA_mcL, mL_mcL, mX_mcL, mk_mcL, ml_mcL, mn_mcL, ms_mcL, mI_mcX, mR_mcX, mA_mcX, mL_mcX, mX_mcX, mk_mcX, ml_mcX, mn_mcX, ms_mcX, mI_mnew, mR_mnew, mA_mnew, mL_mnew, mX_mnew, mk_mnew, ml_mnew, mn_mnew, ms_mnew]; rw [ifF q]⟩, fun _ _ => rfl, fun _ _ => rfl, fun _ _ => rfl, fun _ => ⟨rfl, rfl⟩, rfl, rfl, fun x i q => ?_, ?_, ?_, ?_, ?_⟩
  · simp only [tI_tsI, tL_tsI, tA_tsI, tB_tsI, tI_tsL, tL_tsL, tA_tsL, tB_tsL, tI_tsA, tL_tsA, tA_tsA, tB_tsA, tI_tsB, tL_tsB, tA_tsB, tB_tsB, mI_msI, mR_msI, mA_msI, mL_msI, mX_msI, mk_msI, ml_msI, mn_msI, ms_msI, mI_msR, mR_msR, mA_msR, mL_msR, mX_msR, mk_msR, ml_msR, mn_msR, ms_msR, mI_mwA, mR_mwA, mA_mwA, mL_mwA, mX_mwA, mk_mwA, ml_mwA, mn_mwA, ms_mwA, mI_mwL, mR_mwL, mA_mwL, mL_mwL, mX_mwL, mk_mwL, ml_mwL, mn_mwL, ms_mwL, mI_mwX, mR_mwX, mA_mwX, mL_mwX, mX_mwX, mk_mwX, ml_mwX, mn_mwX, ms_mwX, mI_mcA, mR_mcA, mA_mcA, mL_mcA, mX_mcA, mk_mcA, ml_mcA, mn_mcA, ms_mcA, mI_mcL, mR_mcL, mA_mcL, mL_mcL, mX_mcL, mk_mcL, ml_mcL, mn_mcL, ms_mcL, mI_mcX, mR_mcX, mA_mcX, mL_mcX, mX_mcX, mk_mcX, ml_mcX, mn_mcX, ms_mcX, mI_mnew, mR_mnew, mA_mnew, mL_mnew, mX_mnew, mk_mnew, ml_mnew, mn_mnew, ms_mnew]
    rw [ifF (fun z => q ⟨by omega, z.2⟩), ifF (fun z => q ⟨by omega, z.2⟩), ifF (fun z => q ⟨by omega, z.2⟩), ifF (fun z => q ⟨by omega, z.2⟩)]
  · simp [tI_tsI, tL_tsI, tA_tsI, tB_tsI, tI_tsL, tL_tsL, tA_tsL, tB_tsL, tI_tsA, tL_tsA, tA_tsA, tB_tsA, tI_tsB, tL_tsB, tA_tsB, tB_tsB, mI_msI, mR_msI, mA_msI, mL_msI, mX_msI, mk_msI, ml_msI, mn_msI, ms_msI, mI_msR, mR_msR, mA_msR, mL_msR, mX_msR, mk_msR, ml_msR, mn_msR, ms_msR, mI_mwA, mR_mwA, mA_mwA, mL_mwA, mX_mwA, mk_mwA, ml_mwA, mn_mwA, ms_mwA, mI_mwL, mR_mwL, mA_mwL, mL_mwL, mX_mwL, mk_mwL, ml_mwL, mn_mwL, ms_mwL, mI_mwX, mR_mwX, mA_mwX, mL_mwX, mX_mwX, mk_mwX, ml_mwX, mn_mwX, ms_mwX, mI_mcA, mR_mcA, mA_mcA, mL_mcA, mX_mcA, mk_mcA, ml_mcA, mn_mcA, ms_mcA, mI_mcL, mR_mcL, mA_mcL, mL_mcL, mX_mcL, mk_mcL, ml_mcL, mn_mcL, ms_mcL, mI_mcX, mR_mcX, mA_mcX, mL_mcX, mX_mcX, mk_mcX, ml_mcX, mn_mcX, ms_mcX, mI_mnew, mR_mnew, mA_mnew, mL_mnew, mX_mnew, mk_mnew, ml_mnew, mn_mnew, ms_mnew]
  · simp [tI_tsI, tL_tsI, tA_tsI, tB_tsI, tI_tsL, tL_tsL, tA_tsL, tB_tsL, tI_tsA, tL_tsA, tA_tsA, tB_tsA, tI_tsB, tL_tsB, tA_tsB, tB_tsB, mI_msI, mR_msI, mA_msI, mL_msI, mX_msI, mk_msI, ml_msI, mn_msI, ms_msI, mI_msR, mR_msR, mA_msR, mL_msR, mX_msR, mk_msR, ml_msR, mn_msR, ms_msR, mI_mwA, mR_mwA, mA_mwA, mL_mwA, mX_mwA, mk_mwA, ml_mwA, mn_mwA, ms_mwA, mI_mwL, mR_mwL, mA_mwL, mL_mwL, mX_mwL, mk_mwL, ml_mwL, mn_mwL, ms_mwL, mI_mwX, mR_mwX, mA_mwX, mL_mwX, mX_mwX, mk_mwX, ml_mwX, mn_mwX, ms_mwX, mI_mcA, mR_mcA, mA_mcA, mL_mcA, mX_mcA, mk_mcA, ml_mcA, mn_mcA, ms_mcA, mI_mcL, mR_mcL, mA_mcL, mL_mcL, mX_mcL, mk_mcL, ml_mcL, mn_mcL, ms_mcL, mI_mcX, mR_mcX, mA_mcX, mL_mcX, mX_mcX, mk_mcX, ml_mcX, mn_mcX, ms_mcX, mI_mnew, mR_mnew, mA_mnew, mL_mnew, mX_mnew, mk_mnew, ml_mnew, mn_mnew, ms_mnew]
  · simp [tI_tsI, tL_tsI, tA_tsI, tB_tsI, tI_tsL, tL_tsL, tA_tsL, tB_tsL, tI_tsA, tL_tsA, tA_tsA, tB_tsA, tI_tsB, tL_tsB, tA_tsB, tB_tsB, mI_msI, mR_msI, mA_msI, mL_msI, mX_msI, mk_msI, ml_msI, mn_msI, ms_msI, mI_msR, mR_msR, mA_msR, mL_msR, mX_msR, mk_msR, ml_msR, mn_msR, ms_msR, mI_mwA, mR_mwA, mA_mwA, mL_mwA, mX_mwA, mk_mwA, ml_mwA, mn_mwA, ms_mwA, mI_mwL, mR_mwL, mA_mwL, mL_mwL, mX_mwL, mk_mwL, ml_mwL, mn_mwL, ms_mwL, mI_mwX, mR_mwX, mA_mwX, mL_mwX, mX_mwX, mk_mwX, ml_mwX, mn_mwX, ms_mwX, mI_mcA, mR_mcA, mA_mcA, mL_mcA, mX_mcA, mk_mcA, ml_mcA, mn_mcA, ms_mcA, mI_mcL, mR_mcL, mA_mcL, mL_mcL, mX_mcL, mk_mcL, ml_mcL, mn_mcL, ms_mcL, mI_mcX, mR_mcX, mA_mcX, mL_mcX, mX_mcX, mk_mcX, ml_mcX, mn_mcX, ms_mcX, mI_mnew, mR_mnew, mA_mnew, mL_mnew, mX_mnew, mk_mnew, ml_mnew, mn_mnew, ms_mnew]
  · simp [tI_tsI, tL_tsI, tA_tsI, tB_tsI, tI_tsL, tL_tsL, tA_tsL, tB_tsL, tI_tsA, tL_tsA, tA_tsA, tB_tsA, tI_tsB, tL_tsB, tA_tsB, tB_tsB, mI_msI, mR_msI, mA_msI, mL_msI, mX_msI, mk_msI, ml_msI, mn_msI, ms_msI, mI_msR, mR_msR, mA_msR, mL_msR, mX_msR, mk_msR, ml_msR, mn_msR, ms_msR, mI_mwA, mR_mwA, mA_mwA, mL_mwA, mX_mwA, mk_mwA, ml_mwA, mn_mwA, ms_mwA, mI_mwL, mR_mwL, mA_mwL, mL_mwL, mX_mwL, mk_mwL, ml_mwL, mn_mwL, ms_mwL, mI_mwX, mR_mwX, mA_mwX, mL_mwX, mX_mwX, mk_mwX, ml_mwX, mn_mwX, ms_mwX, mI_mcA, mR_mcA, mA_mcA, mL_mcA, mX_mcA, mk_mcA, ml_mcA, mn_mcA, ms_mcA, mI_mcL, mR_mcL, mA_mcL, mL_mcL, mX_mcL, mk_mcL, ml_mcL, mn_mcL, ms_mcL, mI_mcX, mR_mcX, mA_mcX, mL_mcX, mX_mcX, mk_mcX, ml_mcX, mn_mcX, ms_mcX, mI_mnew, mR_mnew, mA_mnew, mL_mnew, mX_mnew, mk_mnew, ml_mnew, mn_mnew, ms_mnew]
theorem tkM_2 (M : CM) (t : Nat) (a v h p : Int32) : Tk1 M (mwA (tkM M t a v p) 93 t h) t a v h p := by
  obtain ⟨⟨h1, h2⟩, h3, h4, h5, h6, h7, h8, h9, h10, h11, h12, h13⟩ := tkM_1 M t a v p
  refine ⟨⟨h1, h2⟩, h3, h4, h5, h6, h7, h8, fun x i q => ?_, ?_, ?_, ?_, ?_⟩
  · rw [mA_mwA, ifF (fun z => q ⟨by omega, z.2⟩)]; exact h9 x i q
  · rw [mA_mwA, ifF (by omega)]; exact h10
  · rw [mA_mwA, ifF (by omega)]; exact h11
  · rw [mA_mwA, ifT ⟨rfl, rfl⟩]
  · rw [mA_mwA, ifF (by omega)]; exact h13
theorem Tk1.kt {M M1 : CM} {t : Nat} {a v h p : Int32} (k : Tk1 M M1 t a v h p) : KT M M1 := by
  obtain ⟨⟨h1, h2⟩, h3, h4, h5, h6, h7, h8, h9, -⟩ := k
  exact ⟨by omega, fun o _ => h6 o, fun g o _ _ q => h2 g o q, fun g o _ _ => h3 g o, fun x i _ q1 q2 q3 q4 => h9 x i (fun z => by omega), fun x i _ => h5 x i, fun x i _ _ => h4 x i, Or.inl (h3 _ _)⟩
theorem Tk1.wcq {M M1 : CM} {t : Nat} {a v h p : Int32} (k : Tk1 M M1 t a v h p) (w : Nat) : wc M1 w = wc M w := by
  obtain ⟨⟨h1, h2⟩, h3, h4, -⟩ := k
  unfold wc
  rw [h3, h4]
theorem Tk1.wn {M M1 : CM} {t m L : Nat} {a v h p : Int32} (k : Tk1 M M1 t a v h p) (W : WN M m L) : WN M1 m L := by
  obtain ⟨⟨h1, h2⟩, h3, h4, h5, h6, h7, h8, h9, -⟩ := k
  obtain ⟨w1, w2, w3, w4, w5, w6, w7, w8, w9, w10⟩ := W
  unfold WN
  rw [h3, (h6 _).1, (h6 _).2, h7, h2 202 4 (by omega)]
  exact ⟨w1, w2, w3, w4, w5, w6, w7, w8, fun k hk => by rw [h4]; exact w9 k hk, fun i j hi hj q => by rw [h4, h4] at q; exact w10 i j hi hj q⟩
/-- what a search for a word left -/
def OfI (M M' : CM) (m L m' L' : Nat) : Prop := KeysOK M' ∧ WN M' m' L' ∧ KT M M' ∧ L ≤ L' ∧ mn M' ≤ mn M + (L' - L) ∧ ms M' ≤ ms M + 2 * (L' - L) ∧ m ≤ m' ∧ m' ≤ m + 1 ∧ (∀ w, w < 38 + m → wc M' w = wc M w) ∧ (∀ a i, a < mn M → mA M' a i = mA M a i) ∧ mI M' 404 90 = mI M 404 90
theorem OfI.rf {M : CM} {m L : Nat} (H : KeysOK M) (W : WN M m L) : OfI M M m L m L := ⟨H, W, KT.rf M, Nat.le_refl _, by omega, by omega, Nat.le_refl _, by omega, fun _ _ => rfl, fun _ _ _ => rfl, rfl⟩
section KLEX
variable {M0 M M' M1 : CM} {m0 L0 m L m' L' len t c : Nat} {b : Nat → Int32} {pos : Nat → Nat}
theorem TokK.mono {j p e kd : Nat} (h : TokK M m b len j p e kd) (hm : m ≤ m') (h91 : mA M1 91 j = mA M 91 j) (h92 : mA M1 92 j = mA M 92 j) (h93 : mA M1 93 j = mA M 93 j) (h94 : mA M1 94 j = mA M 94 j) (hw : ∀ w, w < 38 + m → wc M1 w = wc M w) : TokK M1 m' b len j p e kd := by
  obtain ⟨s, wd, sg, nu, wh, h1, h2, h3⟩ := h
  refine ⟨s, wd, sg, nu, wh, h1, by rw [h94]; exact h2, ?_⟩
  rw [h91, h92, h93]
  rcases h3 with q | ⟨q1, q2, w, q3, q4, q5⟩ | q | q | q
  · exact Or.inl q
  · exact Or.inr (Or.inl ⟨q1, q2, w, q3, by omega, by rw [hw w q4]; exact q5⟩)
  · exact Or.inr (Or.inr (Or.inl q))
  · exact Or.inr (Or.inr (Or.inr (Or.inl q)))
  · exact Or.inr (Or.inr (Or.inr (Or.inr q)))
theorem LexI.tape (I : LexI M0 M m0 L0 m L b len c t pos) : TapeK M b len := ⟨I.2.2.2.1, I.2.2.1.2.2.1, fun i hi => (I.2.2.2.2.1 i hi).1⟩
theorem LexI.add (I : LexI M0 M m0 L0 m L b len t t pos) (hO : OfI M M' m L m' L') {a v h p : Int32} (hk : Tk1 M' M1 t a v h p) {e kd : Nat} (hkd : kd = 1 ∨ kd = 2 ∨ kd = 3) (hT : TokK M1 m' b len t (pos t) e kd) (he : pos t < e) (hel : e ≤ len) : LexI M0 M1 m0 L0 m' L' b len (t + 1) (t + 1) (fun j => if j ≤ t then pos j else e) := by
  obtain ⟨i1, i2, ⟨i3a, i3b, i3c, i3d, i3e, i3f, i3g⟩, i4, i5, i6, ⟨i7a, i7b, i7c⟩, i8, ⟨i9a, i9b, i9c, i9d, i9e, i9f⟩, i10⟩ := I
  obtain ⟨o1, o2, o3, o4, o5, o6, o7, o8, o9, o10, o11⟩ := hO
  have kt1 : KT M' M1 := hk.kt
  have hmn : 167 ≤ mn M := Nat.le_trans i3e i9a.1
  have hmn' : 167 ≤ mn M' := Nat.le_trans hmn o3.1
  have hmA : ∀ x i, x < mn M → ¬ ((x = 91 ∨ x = 92 ∨ x = 93 ∨ x = 94) ∧ i = t) → mA M1 x i = mA M x i := fun x i hx q => by rw [hk.2.2.2.2.2.2.2.1 x i q, o10 x i hx]
  have hwc : ∀ w, w < 38 + m → wc M1 w = wc M w := fun w hw => by rw [hk.wcq, o9 w hw]
  refine ⟨o1.kt kt1 hmn', hk.wn o2, ⟨?_, ?_, i3c, i3d, i3e, i3f, i3g⟩, ?_, fun i hi => ⟨?_, (i5 i hi).2⟩, hk.1.1, ⟨?_, ?_, ?_⟩, by omega, ⟨i9a.tr (o3.tr kt1), by omega, ?_, ?_, by omega, fun w hw => ?_⟩, fun j hj => ?_⟩
  · rw [(kt1.2.1 2 (by omega)).1, (o3.2.1 2 (by omega)).1]; exact i3a
  · rw [(kt1.2.1 2 (by omega)).2, (o3.2.1 2 (by omega)).2]; exact i3b
  · rw [kt1.2.2.1 1 1 (by omega) (by omega) (by omega), o3.2.2.1 1 1 (by omega) (by omega) (by omega)]; exact i4
  · rw [hmA 2 i (by omega) (by omega)]; exact (i5 i hi).1
  · show (if 0 ≤ t then pos 0 else e) = 0
    rw [ifT (Nat.zero_le _)]; exact i7a
  · show t + 1 ≤ if t + 1 ≤ t then pos (t + 1) else e
    rw [ifF (by omega)]; omega
  · show (if t + 1 ≤ t then pos (t + 1) else e) ≤ len
    rw [ifF (by omega)]; exact hel
  · rw [hk.2.2.2.2.2.1]; omega
  · rw [hk.2.2.2.2.2.2.1]; omega
  · rw [hwc w (by omega)]; exact i9f w hw
  · by_cases ej : j = t
    · subst ej
      dsimp only
      rw [ifT (Nat.le_refl _), ifF (by omega)]
      exact ⟨⟨kd, hkd, hT⟩, he⟩
    · dsimp only
      rw [ifT (by omega), ifT (by omega)]
      obtain ⟨⟨kd', g1, g2⟩, g3⟩ := i10 j (by omega)
      exact ⟨⟨kd', g1, g2.mono (by omega) (hmA 91 j (by omega) (by omega)) (hmA 92 j (by omega) (by omega)) (hmA 93 j (by omega) (by omega)) (hmA 94 j (by omega) (by omega)) hwc⟩, g3⟩
/-- the last token -/
theorem LexI.fin (I : LexI M0 M m0 L0 m L b len t t pos) {a v h p : Int32} (hk : Tk1 M M1 t a v h p) {e kd : Nat} (hT : TokK M1 m b len t (pos t) e kd) : LexI M0 M1 m0 L0 m L b len (t + 1) t pos ∧ TokK M1 m b len t (pos t) e kd := by
  obtain ⟨i1, i2, ⟨i3a, i3b, i3c, i3d, i3e, i3f, i3g⟩, i4, i5, i6, ⟨i7a, i7b, i7c⟩, i8, ⟨i9a, i9b, i9c, i9d, i9e, i9f⟩, i10⟩ := I
  have kt1 : KT M M1 := hk.kt
  have hmn : 167 ≤ mn M := Nat.le_trans i3e i9a.1
  have hmA : ∀ x i, x < mn M → ¬ ((x = 91 ∨ x = 92 ∨ x = 93 ∨ x = 94) ∧ i = t) → mA M1 x i = mA M x i := fun x i hx q => hk.2.2.2.2.2.2.2.1 x i q
  have hwc : ∀ w, w < 38 + m → wc M1 w = wc M w := fun w hw => hk.wcq w
  refine ⟨⟨i1.kt kt1 hmn, hk.wn i2, ⟨?_, ?_, i3c, i3d, i3e, i3f, i3g⟩, ?_, fun i hi => ⟨?_, (i5 i hi).2⟩, hk.1.1, ⟨i7a, i7b, i7c⟩, by omega, ⟨i9a.tr kt1, by omega, ?_, ?_, by omega, fun w hw => ?_⟩, fun j hj => ?_⟩, hT⟩
  · rw [(kt1.2.1 2 (by omega)).1]; exact i3a
  · rw [(kt1.2.1 2 (by omega)).2]; exact i3b
  · rw [kt1.2.2.1 1 1 (by omega) (by omega) (by omega)]; exact i4
  · rw [hmA 2 i (by omega) (by omega)]; exact (i5 i hi).1
  · rw [hk.2.2.2.2.2.1]; omega
  · rw [hk.2.2.2.2.2.2.1]; omega
  · rw [hwc w (by omega)]; exact i9f w hw
  · obtain ⟨⟨kd', g1, g2⟩, g3⟩ := i10 j (by omega)
    exact ⟨⟨kd', g1, g2.mono (by omega) (hmA 91 j (by omega) (by omega)) (hmA 92 j (by omega) (by omega)) (hmA 93 j (by omega) (by omega)) (hmA 94 j (by omega) (by omega)) hwc⟩, g3⟩
/-! signs -/
def sgB (r : Nat) : Int32 := (csB_.getD 32 []).getD r 0
theorem sg_iff (c : Int32) : isSg c ↔ ∃ r, r < 15 ∧ sgB r = c := by
  constructor
  · rintro (h | h | h | h | h | h | h | h | h | h | h | h | h | h | h) <;> subst h
    · exact ⟨0, by decide, by decide⟩
    · exact ⟨1, by decide, by decide⟩
    · exact ⟨2, by decide, by decide⟩
    · exact ⟨3, by decide, by decide⟩
    · exact ⟨4, by decide, by decide⟩
    · exact ⟨5, by decide, by decide⟩
    · exact ⟨6, by decide, by decide⟩
    · exact ⟨7, by decide, by decide⟩
    · exact ⟨8, by decide, by decide⟩
    · exact ⟨9, by decide, by decide⟩
    · exact ⟨10, by decide, by decide⟩
    · exact ⟨11, by decide, by decide⟩
    · exact ⟨12, by decide, by decide⟩
    · exact ⟨13, by decide, by decide⟩
    · exact ⟨14, by decide, by decide⟩
  · rintro ⟨r, h1, rfl⟩
    have : ∀ r, r < 15 → isSg (sgB r) := by unfold isSg; decide
    exact this r h1
theorem sg_loop {M : CM} {v : Int32} : ∀ (d i f : Nat), i + d = 15 → d < f → (KL_J4_indexOfChar_7 f 8796093022240 (nI 15) v (nI i) M = some (.inl (), M) ∧ ∀ r, i ≤ r → r < 15 → sgB r ≠ v) ∨ ∃ r, i ≤ r ∧ r < 15 ∧ KL_J4_indexOfChar_7 f 8796093022240 (nI 15) v (nI i) M = some (.inr (nI r), M) ∧ sgB r = v
  | 0, i, f + 1, hd, _ => by
    left
    rw [KL_J4_indexOfChar_7, ifT ((bI_le (by decide) (by omega)).mpr (by omega))]
    exact ⟨rfl, fun r h1 h2 => by omega⟩
  | d + 1, i, f + 1, hd, hf => by
    have e2 : bAt M 8796093022240 i = sgB i := by unfold bAt; rw [ifT (by decide)]; rfl
    rw [KL_J4_indexOfChar_7, ifF (by rw [bI_le (by decide) (by omega)]; omega), ifT ⟨Or.inl (by decide), by unfold bLen; rw [ifT (by decide)]; exact inb_nI' (n := 15) (by omega) (by decide)⟩, ix_nI (by omega), e2]
    by_cases e : sgB i = v
    · right
      rw [ifT e]
      exact ⟨i, Nat.le_refl _, by omega, rfl, e⟩
    · rw [ifF e, nm_eq, nI_addL]
      rcases sg_loop (M := M) (v := v) d (i + 1) f (by omega) (by omega) with ⟨h, g⟩ | ⟨r, h1, h2, h3, h4⟩
      · left
        refine ⟨h, fun r q1 q2 => ?_⟩
        by_cases er : r = i
        · subst er; exact e
        · exact g r (by omega) q2
      · right
        exact ⟨r, by omega, h2, h3, h4⟩
theorem k_sg (M : CM) {c : Int32} (hb : nB c = c) : (isSg c ∧ ∃ r, K_J3_indexOf 2199023255584 c M = some (nI r, M) ∧ r < 15) ∨ (¬ isSg c ∧ K_J3_indexOf 2199023255584 c M = some (-1, M)) := by
  have hs : isStr M 2199023255584 := Or.inl (by decide)
  have e1 : sVal M 2199023255584 = 8796093022240 := by unfold sVal; rw [ifT (by decide)]
  have e2 : sLen M 2199023255584 = 15 := by unfold sLen bLen; rw [e1, ifT (by decide)]; decide
  have e3 : bLen M 8796093022240 = 15 := by unfold bLen; rw [ifT (by decide)]; decide
  have h0 : ¬ c < 0 → c ≤ 127 := fun h => by
    rcases byte_cases hb with ⟨-, q, -⟩ | ⟨q, -⟩
    · exact q
    · exact absurd q h
  simp only [K_J3_indexOf, K_J3_indexOf_2, ifT hs, nm_eq, ob_some, obS_inl, obS_inr, e1, e2, show ¬ ((1 : Int32) = 0) from by decide, if_false, K_J4_indexOf, K_J4_canEncode]
  by_cases c0 : c < 0
  · right
    rw [ifT c0, ob_some, ifT rfl]
    refine ⟨fun q => ?_, rfl⟩
    rcases q with h | h | h | h | h | h | h | h | h | h | h | h | h | h | h <;> (subst h; exact absurd c0 (by decide))
  · have hc127 := h0 c0
    rw [ifF c0, ifF (fun q => absurd (Int32.lt_of_lt_of_le q hc127) (by decide)), ob_some, ifF (by decide), ifT (Or.inl (by decide)), e3]
    rw [show mmin (nI 15) (nI 15) = nI 15 from by decide, show mmax 0 0 = nI 0 from by decide, ifT (by decide)]
    unfold K_J4_indexOfChar
    rw [nm_eq, hb]
    rcases sg_loop (M := M) (v := c) 15 0 FU rfl (by decide) with ⟨h, g⟩ | ⟨r, h1, h2, h3, h4⟩
    · right
      rw [h, obS_inl, ob_some]
      exact ⟨fun q => by obtain ⟨r, a1, a2⟩ := (sg_iff c).mp q; exact g r (Nat.zero_le _) a1 a2, rfl⟩
    · left
      rw [h3, obS_inr, ob_some]
      exact ⟨(sg_iff c).mpr ⟨r, h2, h4⟩, r, rfl, h2⟩
end KLEX
