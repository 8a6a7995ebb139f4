/-! Layer B: running: an event begins, both sides -/
set_option maxRecDepth 100000
/-- values of both sides are alike, whatever holds -/
def VaX (V U Wn : Nat) (D : FQ) (M : CM) (σ : TS) : Prop := tI σ 0 = 0 ∧ VaV V U Wn D M σ ∧ (tI σ 171 = nI 0 ∧ mI M 90 1 = tI σ 222)
section EVST
variable {pq : Bool} {C : PC} {B : Nat} {P : Nat → Prop} {mss fss : List Nat} {V U S q A Wn K1 K2 N e r w v u b n i j k a m kf tf : Nat} {D : FQ} {M M' M1 : CM} {σ σ' s : TS} {x x1 x2 x3 y : Int32}
theorem VaE.vx (d : VaE x2 V U Wn D M σ) : VaX V U Wn D M σ := ⟨d.1.1, d.vv, d.2.2.2.2.1⟩
theorem VaX.ve (d : VaX V U Wn D M σ) (h : (x2 = 1 ∧ ¬ mI M 86 1 = 0) ∨ (¬ x2 = 1 ∧ mI M 86 1 = 0)) : VaE x2 V U Wn D M σ := ⟨⟨d.1, d.2.1.1, h⟩, d.2.1.2.1, d.2.1.2.2.1, d.2.1.2.2.2.1, d.2.2, d.2.1.2.2.2.2⟩
theorem VaX.ex (d : VaX V U Wn D M σ) : ∃ x2, VaE x2 V U Wn D M σ := by
  by_cases z : mI M 86 1 = 0
  · exact ⟨0, d.ve (Or.inr ⟨by decide, z⟩)⟩
  · exact ⟨1, d.ve (Or.inl ⟨rfl, z⟩)⟩
theorem VaX.w148 (d : VaX V U Wn D M σ) (r : Nat) (x : Int32) : VaX V U Wn D (mwA M 148 r (nZ x)) (tsA σ 163 r (nZ x)) := by
  obtain ⟨x2, d⟩ := d.ex
  exact (d.w148 r x).vx
/-- sampled relations are set (fn: as they are due; at the event's end: to 0) -/
theorem ev_smp (x1 : Int32) : ∀ (m r kf tf : Nat) (M : CM) (σ : TS), r + m = q → m < kf → m < tf → RnW C B P mss fss V U S q A Wn K1 K2 N D M σ → VaX V U Wn D M σ →
    ∃ M' σ', KL_X0_event_22 kf x1 (nI r) M = some ((), M') ∧ L_event_68 tf x1 (nI r) σ = some ((), σ') ∧ RsK evI evA evT V D M σ M' σ' ∧ RnW C B P mss fss V U S q A Wn K1 K2 N D M' σ' ∧ VaX V U Wn D M' σ' ∧ KF D [] [] [148] [] M M' ∧ Ft [163] σ σ' := by
  intro m
  induction m with
  | zero =>
    intro r kf tf M σ e hk ht w d
    obtain ⟨kf, rfl⟩ : ∃ g, kf = g + 1 := ⟨kf - 1, by omega⟩
    obtain ⟨tf, rfl⟩ : ∃ g, tf = g + 1 := ⟨tf - 1, by omega⟩
    obtain ⟨⟨-, -, -, -, q24, -⟩, -, -, ⟨h41, h154⟩, -⟩ := w.st
    have t1 : mI M 41 1 ≤ nI r := by rw [h41, bI_le (by omega) (by omega)]; omega
    have t2 : tI σ 154 ≤ nI r := by rw [h154, bI_le (by omega) (by omega)]; omega
    exact ⟨M, σ, by rw [KL_X0_event_22, ifT t1], by rw [L_event_68, ifT t2], RsK.rf, w, d, KF.rf, Ft.rf _ _⟩
  | succ m ih =>
    intro r kf tf M σ e hk ht w d
    obtain ⟨kf, rfl⟩ : ∃ g, kf = g + 1 := ⟨kf - 1, by omega⟩
    obtain ⟨tf, rfl⟩ : ∃ g, tf = g + 1 := ⟨tf - 1, by omega⟩
    obtain ⟨⟨-, -, -, -, q24, -⟩, -, -, ⟨h41, h154⟩, -⟩ := w.st
    have t1 : ¬ mI M 41 1 ≤ nI r := by rw [h41, bI_le (by omega) (by omega)]; omega
    have t2 : ¬ tI σ 154 ≤ nI r := by rw [h154, bI_le (by omega) (by omega)]; omega
    have ir : inb (nI r) 24 := inb_nI' (by omega) (by decide)
    have xr : ix (nI r) = r := ix_nI (by omega)
    obtain ⟨x2, de⟩ := d.ex
    obtain ⟨m0, ⟨m7, m1⟩, km, mm⟩ := w.rv de (show r < q by omega)
    have im : inb (nI m0) 70000 := inb_nI' m7 (by decide)
    have xm : ix (nI m0) = m0 := ix_nI (by omega)
    rw [KL_X0_event_22, ifF t1, L_event_68, ifF t2]
    simp only [if_pos ir, xr, m1, if_pos im, xm, if_pos km]
    rcases mm with ⟨k1, k2, xa, ya, a1, a2, a3, a4, a5, a6, a7⟩ | ⟨k1, k2, -⟩
    · obtain ⟨v, v1, v2⟩ := z_due (r := r) km a1 a2 (by omega) m7 m1 a3 a4 ⟨a6, a7⟩ d.2.1.1
      obtain ⟨M', σ', e1, e2, g, w1, d1, k3, f3⟩ := ih (r + 1) kf tf (mwA M 148 r (nZ v)) (tsA σ 163 r (nZ v)) (by omega) (by omega) (by omega) (w.vk (RsK.w148 r _ _) d.1) (d.w148 r v)
      refine ⟨M', σ', ?_, ?_, (RsK.w148 r _ _).tr g rfl, w1, d1, (KF.rf.wA rfl ⟨by decide, by decide⟩).tr k3, ((Ft.rf _ σ).p_tsA rfl).tr f3⟩
      · rw [ifT k2, v1, ob_some, nm_eq, nm_eq, p1n]; exact e1
      · rw [ifT k1, v2, ob_some, nm_eq, nm_eq, p1n]; exact e2
    · have e148 : mA M 148 r = tA σ 163 r ∧ (tA σ 163 r = 0 ∨ tA σ 163 r = 1) := d.2.1.2.2.2.1 r (by omega) (by rw [h154, bI_lt (by omega) (by omega)]; omega)
      have d2 : VaX V U Wn D (mwA M 148 r (nZ (mA M 148 r))) σ := by
        obtain ⟨c0, ⟨c1, c2, c3, c4, c5⟩, c6⟩ := d
        refine ⟨c0, ⟨c1, fun u hu => ?_, c3, fun j hj z => ?_, c5⟩, c6⟩
        · rw [mA_mwA, mA_mwA, ifF (fun z => by omega), ifF (fun z => by omega)]; exact c2 u hu
        · rw [mA_mwA]
          by_cases y : j = r
          · rw [ifT ⟨rfl, y⟩, e148.1, nZ_b e148.2, y]; exact ⟨rfl, e148.2⟩
          · rw [ifF (fun z => y z.2)]; exact c4 j hj z
      have g2 : RsK evI evA evT V D M σ (mwA M 148 r (nZ (mA M 148 r))) σ := ⟨KF.rf.wA rfl ⟨by decide, by decide⟩, Ft.rf _ σ, fun _ _ _ => rfl⟩
      obtain ⟨M', σ', e1, e2, g, w1, d1, k3, f3⟩ := ih (r + 1) kf tf (mwA M 148 r (nZ (mA M 148 r))) σ (by omega) (by omega) (by omega) (w.vk g2 d.1) d2
      refine ⟨M', σ', ?_, ?_, g2.tr g rfl, w1, d1, (KF.rf.wA rfl ⟨by decide, by decide⟩).tr k3, f3⟩
      · rw [ifF k2, nm_eq, nm_eq, p1n]; exact e1
      · rw [ifF (show ¬ tA σ 121 m0 = 24 by rw [k1]; decide), nm_eq, p1n]; exact e2
/-- at the event's end -/
theorem ev_end : ∀ (m r kf tf : Nat) (M : CM) (σ : TS), r + m = q → m < kf → m < tf → RnW C B P mss fss V U S q A Wn K1 K2 N D M σ → VaX V U Wn D M σ →
    ∃ M' σ', KL_X0_event_135 kf (nI r) M = some ((), M') ∧ L_event_415 tf (nI r) σ = some ((), σ') ∧ RsK evI evA evT V D M σ M' σ' ∧ RnW C B P mss fss V U S q A Wn K1 K2 N D M' σ' ∧ VaX V U Wn D M' σ' ∧ KF D [] [] [148] [] M M' ∧ Ft [163] σ σ' := by
  intro m
  induction m with
  | zero =>
    intro r kf tf M σ e hk ht w d
    obtain ⟨kf, rfl⟩ : ∃ g, kf = g + 1 := ⟨kf - 1, by omega⟩
    obtain ⟨tf, rfl⟩ : ∃ g, tf = g + 1 := ⟨tf - 1, by omega⟩
    obtain ⟨⟨-, -, -, -, q24, -⟩, -, -, ⟨h41, h154⟩, -⟩ := w.st
    have t1 : mI M 41 1 ≤ nI r := by rw [h41, bI_le (by omega) (by omega)]; omega
    have t2 : tI σ 154 ≤ nI r := by rw [h154, bI_le (by omega) (by omega)]; omega
    exact ⟨M, σ, by rw [KL_X0_event_135, ifT t1], by rw [L_event_415, ifT t2], RsK.rf, w, d, KF.rf, Ft.rf _ _⟩
  | succ m ih =>
    intro r kf tf M σ e hk ht w d
    obtain ⟨kf, rfl⟩ : ∃ g, kf = g + 1 := ⟨kf - 1, by omega⟩
    obtain ⟨tf, rfl⟩ : ∃ g, tf = g + 1 := ⟨tf - 1, by omega⟩
    obtain ⟨⟨-, -, -, -, q24, -⟩, -, -, ⟨h41, h154⟩, -⟩ := w.st
    have t1 : ¬ mI M 41 1 ≤ nI r := by rw [h41, bI_le (by omega) (by omega)]; omega
    have t2 : ¬ tI σ 154 ≤ nI r := by rw [h154, bI_le (by omega) (by omega)]; omega
    have ir : inb (nI r) 24 := inb_nI' (by omega) (by decide)
    have xr : ix (nI r) = r := ix_nI (by omega)
    obtain ⟨x2, de⟩ := d.ex
    obtain ⟨m0, ⟨m7, m1⟩, km, mm⟩ := w.rv de (show r < q by omega)
    have im : inb (nI m0) 70000 := inb_nI' m7 (by decide)
    have xm : ix (nI m0) = m0 := ix_nI (by omega)
    rw [KL_X0_event_135, ifF t1, L_event_415, ifF t2]
    simp only [if_pos ir, xr, m1, if_pos im, xm, if_pos km]
    rcases mm with ⟨k1, k2, -⟩ | ⟨k1, k2, -⟩
    · have z0 : mA M 148 r &&& 0 = 0 := Int32.and_zero
      obtain ⟨M', σ', e1, e2, g, w1, d1, k3, f3⟩ := ih (r + 1) kf tf (mwA M 148 r (nZ 0)) (tsA σ 163 r (nZ 0)) (by omega) (by omega) (by omega) (w.vk (RsK.w148 r _ _) d.1) (d.w148 r 0)
      refine ⟨M', σ', ?_, ?_, (RsK.w148 r _ _).tr g rfl, w1, d1, (KF.rf.wA rfl ⟨by decide, by decide⟩).tr k3, ((Ft.rf _ σ).p_tsA rfl).tr f3⟩
      · rw [ifT k2, z0, nm_eq, nm_eq, p1n]; exact e1
      · rw [ifT k1, nm_eq, nm_eq, p1n]; exact e2
    · have e148 : mA M 148 r = tA σ 163 r ∧ (tA σ 163 r = 0 ∨ tA σ 163 r = 1) := d.2.1.2.2.2.1 r (by omega) (by rw [h154, bI_lt (by omega) (by omega)]; omega)
      have e1 : nZ (mA M 148 r &&& 1) = tA σ 163 r := by
        rw [e148.1]
        rcases e148.2 with z | z <;> rw [z] <;> decide
      have d2 : VaX V U Wn D (mwA M 148 r (nZ (mA M 148 r &&& 1))) σ := by
        obtain ⟨c0, ⟨c1, c2, c3, c4, c5⟩, c6⟩ := d
        refine ⟨c0, ⟨c1, fun u hu => ?_, c3, fun j hj z => ?_, c5⟩, c6⟩
        · rw [mA_mwA, mA_mwA, ifF (fun z => by omega), ifF (fun z => by omega)]; exact c2 u hu
        · rw [mA_mwA]
          by_cases y : j = r
          · rw [ifT ⟨rfl, y⟩, e1, y]; exact ⟨rfl, e148.2⟩
          · rw [ifF (fun z => y z.2)]; exact c4 j hj z
      have g2 : RsK evI evA evT V D M σ (mwA M 148 r (nZ (mA M 148 r &&& 1))) σ := ⟨KF.rf.wA rfl ⟨by decide, by decide⟩, Ft.rf _ σ, fun _ _ _ => rfl⟩
      obtain ⟨M', σ', e1, e2, g, w1, d1, k3, f3⟩ := ih (r + 1) kf tf (mwA M 148 r (nZ (mA M 148 r &&& 1))) σ (by omega) (by omega) (by omega) (w.vk g2 d.1) d2
      refine ⟨M', σ', ?_, ?_, g2.tr g rfl, w1, d1, (KF.rf.wA rfl ⟨by decide, by decide⟩).tr k3, f3⟩
      · rw [ifF k2, nm_eq, nm_eq, p1n]; exact e1
      · rw [ifF (show ¬ tA σ 121 m0 = 24 by rw [k1]; decide), nm_eq, p1n]; exact e2
end EVST
