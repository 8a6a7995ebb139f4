/-! Layer B: running: how far a step goes, both sides -/
set_option maxRecDepth 100000
/-- the next sample behind T, so far: a (the component), what is left of a step: t (the twin) -/
def NxR (T st : Nat) (a t : Int64) : Prop := (a = 9223372036854775807 ∧ t = n64 st) ∨ ∃ k, (1 ≤ k ∧ k ≤ 8589934592) ∧ a = n64 (T + k) ∧ t = n64 (min st k)
section NEXT
variable {pq : Bool} {C : PC} {B : Nat} {P : Nat → Prop} {mss fss : List Nat} {V U S q A Wn K1 K2 N e r w v u b n i j k m kf tf h t0 st : Nat} {D : FQ} {M M' M1 : CM} {σ σ' s : TS} {x x1 x2 x3 y z y1 y2 y3 : Int32} {a t : Int64}
theorem n64_max : (9223372036854775807 : Int64) = n64 9223372036854775807 := rfl
theorem nx_step (h : NxR t0 st a t) (hj : 1 ≤ j ∧ j ≤ 8589934592) (hT : t0 < 2147483648) (hs : st ≤ 6553600) : NxR t0 st (if 0 ≤ lg_cmp (n64 (t0 + j)) a then a else n64 (t0 + j)) (mminL t (n64 j)) := by
  unfold mminL
  rcases h with ⟨rfl, rfl⟩ | ⟨k, ⟨k1, k2⟩, rfl, rfl⟩
  · have c : ¬ 0 ≤ lg_cmp (n64 (t0 + j)) 9223372036854775807 := by
      rw [lg_ge, Classical.not_not, n64_max, n64_lt (by omega) (by omega)]; omega
    rw [ifF c]
    refine Or.inr ⟨j, hj, rfl, ?_⟩
    by_cases z : j < st
    · rw [ifT ((n64_lt (by omega) (by omega)).mpr z), Nat.min_eq_right (by omega)]
    · rw [ifF (fun y => z ((n64_lt (by omega) (by omega)).mp y)), Nat.min_eq_left (by omega)]
  · by_cases z : j < k
    · have c : ¬ 0 ≤ lg_cmp (n64 (t0 + j)) (n64 (t0 + k)) := by
        rw [lg_ge, Classical.not_not, n64_lt (by omega) (by omega)]; omega
      rw [ifF c]
      refine Or.inr ⟨j, hj, rfl, ?_⟩
      by_cases z2 : j < min st k
      · rw [ifT ((n64_lt (by omega) (by omega)).mpr z2), Nat.min_eq_right (by omega)]
      · rw [ifF (fun y => z2 ((n64_lt (by omega) (by omega)).mp y)), Nat.min_eq_left (by omega), Nat.min_eq_left (by omega)]
    · have c : 0 ≤ lg_cmp (n64 (t0 + j)) (n64 (t0 + k)) := by
        rw [lg_ge, n64_lt (by omega) (by omega)]; omega
      rw [ifT c, ifF (fun y => by rw [n64_lt (by omega) (by omega)] at y; omega)]
      exact Or.inr ⟨k, ⟨k1, k2⟩, rfl, rfl⟩
theorem nx_loop (hT : t0 < 2147483648) (hs : st ≤ 6553600) (w : RnW C B P mss fss V U S q A Wn K1 K2 N D M σ) (d : VaX V U Wn D M σ) (ht : tI σ 165 = nI t0) : ∀ (m r kf tf : Nat) (a t : Int64), r + m = q → m < kf → m < tf → NxR t0 st a t →
    ∃ a' t', KL_X0_nextSample_6 kf a (nI r) M = some (a', M) ∧ L_nextSize_8 tf t (nI r) σ = some (t', σ) ∧ NxR t0 st a' t' := by
  intro m
  obtain ⟨⟨-, -, -, -, q24, -⟩, -, -, ⟨h41, h154⟩, -⟩ := w.st
  have h85 : mI M 85 1 = nI t0 := d.2.1.1.trans ht
  induction m with
  | zero =>
    intro r kf tf a t e hk htf nx
    obtain ⟨kf, rfl⟩ : ∃ g, kf = g + 1 := ⟨kf - 1, by omega⟩
    obtain ⟨tf, rfl⟩ : ∃ g, tf = g + 1 := ⟨tf - 1, by omega⟩
    have t1 : mI M 41 1 ≤ nI r := by rw [h41, bI_le (by omega) (by omega)]; omega
    have t2 : tI σ 154 ≤ nI r := by rw [h154, bI_le (by omega) (by omega)]; omega
    exact ⟨a, t, by rw [KL_X0_nextSample_6, ifT t1], by rw [L_nextSize_8, ifT t2], nx⟩
  | succ m ih =>
    intro r kf tf a t e hk htf nx
    obtain ⟨kf, rfl⟩ : ∃ g, kf = g + 1 := ⟨kf - 1, by omega⟩
    obtain ⟨tf, rfl⟩ : ∃ g, tf = g + 1 := ⟨tf - 1, by omega⟩
    have t1 : ¬ mI M 41 1 ≤ nI r := by rw [h41, bI_le (by omega) (by omega)]; omega
    have t2 : ¬ tI σ 154 ≤ nI r := by rw [h154, bI_le (by omega) (by omega)]; omega
    have ir : inb (nI r) 24 := inb_nI' (by omega) (by decide)
    have xr : ix (nI r) = r := ix_nI (by omega)
    obtain ⟨x2, de⟩ := d.ex
    obtain ⟨m0, ⟨m7, m1⟩, km, mm⟩ := w.rv de (show r < q by omega)
    have im : inb (nI m0) 70000 := inb_nI' m7 (by decide)
    have xm : ix (nI m0) = m0 := ix_nI (by omega)
    rcases mm with ⟨k1, k2, xa, ya, a1, a2, a3, a4, a5, a6, a7⟩ | ⟨k1, k2, -⟩
    · have key : ∀ j v, (1 ≤ j ∧ j ≤ 8589934592) → v = n64 (t0 + j) → ∃ a' t', (if 0 ≤ lg_cmp v a then KL_X0_nextSample_6 kf a (nI r + 1) M else KL_X0_nextSample_6 kf v (nI r + 1) M) = some (a', M) ∧ L_nextSize_8 tf (mminL t (v - n64 t0)) (nI r + 1) σ = some (t', σ) ∧ NxR t0 st a' t' := fun j v hj hv => by
        subst hv
        have := nx_step nx hj hT hs
        rw [n64_sub (by omega), Nat.add_sub_cancel_left, p1n]
        by_cases z : 0 ≤ lg_cmp (n64 (t0 + j)) a
        · rw [ifT z] at this ⊢
          exact ih (r + 1) kf tf _ _ (by omega) (by omega) (by omega) this
        · rw [ifF z] at this ⊢
          exact ih (r + 1) kf tf _ _ (by omega) (by omega) (by omega) this
      rw [KL_X0_nextSample_6, ifF t1, ifT ir, L_nextSize_8, ifF t2, ifT ir]
      simp only [nm_eq, xr]
      rw [ifT km, ifT k2, ifT km, a1, h85, m1, ifT im, xm, ifT k1, ifT ir, ifT im, ifT ir, ifT im, a3, a4, ht, nI_i64 (n := xa) (by omega), nI_i64 (n := t0) (by omega), nI_i64 (n := ya) (by omega)]
      by_cases z : xa ≤ t0
      · have c1 : nI xa ≤ nI t0 := (bI_le (by omega) (by omega)).mpr z
        have c2 : 0 ≤ lg_cmp (n64 t0) (n64 xa) := by rw [lg_ge, n64_lt (by omega) (by omega)]; omega
        have ny : ¬ n64 ya = 0 := fun y => by
          have := (n64_eq (b := 0) (by omega) (by decide)).mp y
          omega
        have dm := Nat.div_add_mod (t0 - xa) ya
        have ml := Nat.mod_lt (t0 - xa) (show 0 < ya by omega)
        have ev : n64 xa + ((n64 t0 - n64 xa) / n64 ya + 1) * n64 ya = n64 (xa + ((t0 - xa) / ya + 1) * ya) := by
          rw [n64_sub z, n64_div (by omega) (by omega), show (1 : Int64) = n64 1 from rfl, n64_add, n64_mul, n64_add]
        rw [ifT c1, ifT km, ifT km, ifT km, a2, nI_i64 (n := ya) (by omega), ifT ny, ifT km, ifT c2, ifT ny, ev]
        have e2 : ((t0 - xa) / ya + 1) * ya = ya * ((t0 - xa) / ya) + ya := by rw [Nat.add_mul, Nat.one_mul, Nat.mul_comm]
        exact key (xa + ((t0 - xa) / ya + 1) * ya - t0) _ (by omega) (by rw [show t0 + (xa + ((t0 - xa) / ya + 1) * ya - t0) = xa + ((t0 - xa) / ya + 1) * ya by omega])
      · have c1 : ¬ nI xa ≤ nI t0 := fun y => z ((bI_le (by omega) (by omega)).mp y)
        have c2 : ¬ 0 ≤ lg_cmp (n64 t0) (n64 xa) := by rw [lg_ge, Classical.not_not, n64_lt (by omega) (by omega)]; omega
        rw [ifF c1, ifT km, ifF c2]
        exact key (xa - t0) _ (by omega) (by rw [show t0 + (xa - t0) = xa by omega])
    · rw [KL_X0_nextSample_6, ifF t1, ifT ir, nm_eq, xr, ifT km, ifF k2, nm_eq, p1n, L_nextSize_8, ifF t2, ifT ir, xr, m1, ifT im, xm, ifF (show ¬ tA σ 121 m0 = 24 by rw [k1]; decide), nm_eq, p1n]
      exact ih (r + 1) kf tf a t (by omega) (by omega) (by omega) nx
/-- a step's size -/
theorem z_next (hT : t0 < 2147483648) (hs : 1 ≤ st ∧ st ≤ 6553600) (w : RnW C B P mss fss V U S q A Wn K1 K2 N D M σ) (d : VaX V U Wn D M σ) (ht : tI σ 165 = nI t0) (h224 : tI σ 224 = nI st) : ∃ a h, K_X0_nextSample M = some (a, M) ∧ F_nextSize σ = some (nI h, σ) ∧ (1 ≤ h ∧ h ≤ st) ∧ ((0 ≤ lg_cmp (a - (nI t0).toInt64) (nI st).toInt64 ∧ h = st) ∨ (¬ 0 ≤ lg_cmp (a - (nI t0).toInt64) (nI st).toInt64 ∧ (a - (nI t0).toInt64).toInt32 = nI h)) := by
  obtain ⟨⟨-, -, -, -, q24, -⟩, -⟩ := w.st
  have fu : 1000 < FU := by unfold FU; decide
  obtain ⟨a, t, e1, e2, nx⟩ := nx_loop hT hs.2 w d ht q 0 FU FU 9223372036854775807 (n64 st) (by omega) (by omega) (by omega) (Or.inl ⟨rfl, rfl⟩)
  have k1 : K_X0_nextSample M = some (a, M) := by
    unfold K_X0_nextSample
    rw [show KL_X0_nextSample_6 FU 9223372036854775807 0 M = _ from e1, ob_some]
  have k2 : ∀ h, t = n64 h → F_nextSize σ = some (nI h, σ) := fun h e => by
    unfold F_nextSize
    rw [nm_eq, h224, nI_i64 (n := st) (by omega), show L_nextSize_8 FU (n64 st) 0 σ = _ from e2, ob_some, e, n64_i32]
  rw [nI_i64 (n := t0) (by omega), nI_i64 (n := st) (by omega)]
  rcases nx with ⟨rfl, rfl⟩ | ⟨k, ⟨k3, k4⟩, rfl, rfl⟩
  · refine ⟨_, st, k1, k2 st rfl, ⟨by omega, by omega⟩, Or.inl ⟨?_, rfl⟩⟩
    rw [n64_max, n64_sub (by omega), lg_ge, n64_lt (by omega) (by omega)]; omega
  · have es : n64 (t0 + k) - n64 t0 = n64 k := by rw [n64_sub (by omega), Nat.add_sub_cancel_left]
    have cmp : 0 ≤ lg_cmp (n64 (t0 + k) - n64 t0) (n64 st) ↔ ¬ k < st := by rw [es, lg_ge, n64_lt (by omega) (by omega)]
    have e32 : (n64 (t0 + k) - n64 t0).toInt32 = nI k := by rw [es, n64_i32]
    by_cases z : k < st
    · exact ⟨_, k, k1, k2 k (by rw [Nat.min_eq_right (by omega)]), ⟨by omega, by omega⟩, Or.inr ⟨fun y => cmp.mp y z, e32⟩⟩
    · exact ⟨_, st, k1, k2 st (by rw [Nat.min_eq_left (by omega)]), ⟨by omega, by omega⟩, Or.inl ⟨cmp.mpr z, rfl⟩⟩
/-- whether a sample is due -/
theorem z_anyDue (w : RnW C B P mss fss V U S q A Wn K1 K2 N D M σ) (d : VaX V U Wn D M σ) : ∃ v, K_X0_isSampleDue M = some (v, M) ∧ F_anyDue σ = some (v, σ) := by
  obtain ⟨⟨-, -, -, -, q24, -⟩, -, -, ⟨h41, h154⟩, -⟩ := w.st
  have fu : 1000 < FU := by unfold FU; decide
  obtain ⟨x2, de⟩ := d.ex
  have loop : ∀ (m r kf tf : Nat), r + m = q → m < kf → m < tf → ∃ o, KL_X0_isSampleDue_2 kf (nI r) M = some (o, M) ∧ L_anyDue_2 tf (nI r) σ = some (o, σ) := by
    intro m
    induction m with
    | zero =>
      intro r kf tf e hk htf
      obtain ⟨kf, rfl⟩ : ∃ g, kf = g + 1 := ⟨kf - 1, by omega⟩
      obtain ⟨tf, rfl⟩ : ∃ g, tf = g + 1 := ⟨tf - 1, by omega⟩
      have t1 : mI M 41 1 ≤ nI r := by rw [h41, bI_le (by omega) (by omega)]; omega
      have t2 : tI σ 154 ≤ nI r := by rw [h154, bI_le (by omega) (by omega)]; omega
      exact ⟨.inl (), by rw [KL_X0_isSampleDue_2, ifT t1], by rw [L_anyDue_2, ifT t2]⟩
    | succ m ih =>
      intro r kf tf e hk htf
      obtain ⟨kf, rfl⟩ : ∃ g, kf = g + 1 := ⟨kf - 1, by omega⟩
      obtain ⟨tf, rfl⟩ : ∃ g, tf = g + 1 := ⟨tf - 1, by omega⟩
      have t1 : ¬ mI M 41 1 ≤ nI r := by rw [h41, bI_le (by omega) (by omega)]; omega
      have t2 : ¬ tI σ 154 ≤ nI r := by rw [h154, bI_le (by omega) (by omega)]; omega
      have ir : inb (nI r) 24 := inb_nI' (by omega) (by decide)
      have xr : ix (nI r) = r := ix_nI (by omega)
      obtain ⟨m0, ⟨m7, m1⟩, km, mm⟩ := w.rv de (show r < q by omega)
      have im : inb (nI m0) 70000 := inb_nI' m7 (by decide)
      have xm : ix (nI m0) = m0 := ix_nI (by omega)
      have go := ih (r + 1) kf tf (by omega) (by omega) (by omega)
      rw [KL_X0_isSampleDue_2, ifF t1, ifT ir, xr, ifT km, L_anyDue_2, ifF t2, ifT ir, xr, m1, ifT im, xm]
      rcases mm with ⟨k1, k2, xa, ya, a1, a2, a3, a4, a5, a6, a7⟩ | ⟨k1, k2, -⟩
      · obtain ⟨v, v1, v2⟩ := z_due (r := r) km a1 a2 (by omega) m7 m1 a3 a4 ⟨a6, a7⟩ d.2.1.1
        rw [ifT k2, ifT ir, v1, ob_some, ifT k1, v2, ob_some]
        by_cases z : v = 0
        · rw [ifT z, ifT z, nm_eq, nm_eq, p1n]; exact go
        · rw [ifF z, ifF z]; exact ⟨_, rfl, rfl⟩
      · rw [ifF k2, nm_eq, p1n, ifT ir, ifF (show ¬ tA σ 121 m0 = 24 by rw [k1]; decide), nm_eq]; exact go
  obtain ⟨o, e1, e2⟩ := loop q 0 FU FU (by omega) (by omega) (by omega)
  unfold K_X0_isSampleDue F_anyDue
  rw [show KL_X0_isSampleDue_2 FU 0 M = _ from e1, show L_anyDue_2 FU 0 σ = _ from e2]
  cases o with
  | inl o => rw [obS_inl, obS_inl]; exact ⟨_, rfl, rfl⟩
  | inr o => rw [obS_inr, obS_inr]; exact ⟨_, rfl, rfl⟩
end NEXT
