/-! Layer B: running: whens are remembered, both sides -/
set_option maxRecDepth 100000
section WHSET
variable {C : PC} {B : Nat} {P : Nat → Prop} {mss fss : List Nat} {V U S q A Wn K1 K2 N e r w v u b n i j k a m kf tf h : Nat} {D : FQ} {M M' M1 : CM} {σ σ' s : TS} {x x1 x2 x3 y z y1 y2 y3 : Int32} {I A0 T : List Nat}
theorem k_wset (W : FW C B P mss fss D M σ) (h39 : mI M 39 1 = nI Wn) (hW : Wn ≤ (pl D 113).length ∧ Wn ≤ 12) (x2 : Int32) : ∃ M', KL_X0_fire_152 FU x2 0 M = some ((), M') ∧ KF D [3804] [] [] [] M M' ∧ ∀ j, j < Wn → mI M' 3804 ((pl D 113).getD j 0) = mI M 3805 ((pl D 113).getD j 0) := by
  have fu : 1000 < FU := by unfold FU; decide
  have inj : ∀ {l a b : Nat}, l ∈ flL → a < (pl D l).length → b < (pl D l).length → a ≠ b → (pl D l).getD a 0 ≠ (pl D l).getD b 0 := fun hl ha hb ne z => ne (W.2.1.inj hl hl ha hb z).2
  obtain ⟨M', l1, ⟨kl1, v1⟩⟩ := loopK (L := fun n i s => KL_X0_fire_152 n x2 i s) (X := Wn) (fun i M' => KF D [3804] [] [] [] M M' ∧ ∀ j, j < i → mI M' 3804 ((pl D 113).getD j 0) = mI M 3805 ((pl D 113).getD j 0)) (fun n M' ⟨k, _⟩ => by
      have t : mI M' 39 1 ≤ nI Wn := by rw [k.i rfl, h39, bI_le (by omega) (by omega)]; omega
      show KL_X0_fire_152 (n + 1) x2 (nI Wn) M' = _
      rw [KL_X0_fire_152, ifT t]) (fun n i M' hi ⟨k, h⟩ => by
      have t : ¬ mI M' 39 1 ≤ nI i := by rw [k.i rfl, h39, bI_le (by omega) (by omega)]; omega
      have get := k.get W.2.1 (l := 113) (by decide) (show i < (pl D 113).length by omega) (by decide) (by decide) (by decide)
      obtain ⟨ko0, tz⟩ := W.w113 (v := i) (by omega)
      have ko : mk M' ((pl D 113).getD i 0) = 20 := (k.k _).trans ko0
      refine ⟨msI M' 3804 ((pl D 113).getD i 0) (mI M' 3805 ((pl D 113).getD i 0)), ?_, k.wI rfl tz, fun v hv => ?_⟩
      · show KL_X0_fire_152 (n + 1) x2 (nI i) M' = _
        rw [KL_X0_fire_152, ifF t, get, ob_some, ifT (Or.inr ko), get, ob_some, ifT (Or.inr ko), ifT ko, ifT ko, nm_eq, nm_eq, p1n]
      · rw [mI_msI, k.i rfl]
        by_cases z2 : v = i
        · rw [z2, ifT ⟨rfl, rfl⟩]
        · have nq := inj (l := 113) (by decide) (show v < (pl D 113).length by omega) (show i < (pl D 113).length by omega) z2
          rw [ifF (fun y => nq y.2)]; exact h v (by omega)) Wn 0 FU M (by omega) (by omega) ⟨KF.rf, fun v hv => by omega⟩
  exact ⟨M', l1, kl1, v1⟩
theorem t_wset (hW : Wn ≤ 12) (y1 y2 y3 : Int32) (h : tI σ 148 = nI Wn) : ∃ σ', L_event_325 FU y1 y2 y3 0 σ = some ((), σ') ∧ Ft [235] σ σ' ∧ ∀ u, u < Wn → tA σ' 235 u = nZ (tA σ 236 u) := by
  have fu : 1000 < FU := by unfold FU; decide
  refine loopT (L := fun n i s => L_event_325 n y1 y2 y3 i s) (X := Wn) (fun i σ' => Ft [235] σ σ' ∧ ∀ u, u < i → tA σ' 235 u = nZ (tA σ 236 u)) (fun n s ⟨f, _⟩ => ?_) (fun n i s hi ⟨f, h1⟩ => ?_) Wn 0 FU σ (by omega) (by omega) ⟨Ft.rf _ σ, fun u hu => by omega⟩
  · have t : tI s 148 ≤ nI Wn := by rw [(f 148 rfl).1, h, bI_le (by omega) (by omega)]; omega
    show L_event_325 (n + 1) y1 y2 y3 (nI Wn) s = _
    rw [L_event_325, ifT t]
  · have t : ¬ tI s 148 ≤ nI i := by rw [(f 148 rfl).1, h, bI_le (by omega) (by omega)]; omega
    have i1 : inb (nI i) 12 := inb_nI' (by omega) (by decide)
    refine ⟨_, by show L_event_325 (n + 1) y1 y2 y3 (nI i) s = _; rw [L_event_325, ifF t, ifT i1, ifT i1, ix_nI (by omega), nm_eq, nm_eq, p1n], f.p_tsA rfl, fun u hu => ?_⟩
    rw [tA_tsA, (f 236 rfl).2.2.1]
    by_cases z : u = i
    · rw [ifT ⟨rfl, z⟩, z]
    · rw [ifF (fun y => z y.2)]; exact h1 u (by omega)
/-- both remember -/
theorem z_wset (x2 y1 y2 y3 : Int32) (w : RnW C B P mss fss V U S q A Wn K1 K2 N D M σ) (d : VaE 1 V U Wn D M σ) (p : PdR Wn D M σ) : ∃ M' σ', KL_X0_fire_152 FU x2 0 M = some ((), M') ∧ L_event_325 FU y1 y2 y3 0 σ = some ((), σ') ∧ RsK evI evA evT V D M σ M' σ' ∧ RnW C B P mss fss V U S q A Wn K1 K2 N D M' σ' ∧ VaE 1 V U Wn D M' σ' ∧ KF D [3804] [] [] [] M M' ∧ Ft [235] σ σ' := by
  obtain ⟨-, -, -, -, ⟨⟨h39, h148⟩, W12, Wl⟩, -⟩ := w.st
  obtain ⟨M', a1, a2, a3⟩ := k_wset w.1 h39 ⟨Wl, W12⟩ x2
  obtain ⟨σ', b1, b2, b3⟩ := t_wset W12 y1 y2 y3 h148
  have g : RsK evI evA evT V D M σ M' σ' := ⟨a2.mono (by decide) (by decide) (by decide) (by decide), b2.mono (by decide), PaK.of a2 rfl⟩
  obtain ⟨c1, c2, c3, c4, c5, c6⟩ := d
  refine ⟨M', σ', a1, b1, g, w.vk g ((b2 0 rfl).1.trans c1.1), ⟨⟨(b2 0 rfl).1.trans c1.1, by rw [a2.i rfl, (b2 165 rfl).1]; exact c1.2.1, by rw [a2.i rfl]; exact c1.2.2⟩, fun u hu => ?_, fun j hj z => ?_, fun j hj z => ?_, ⟨(b2 171 rfl).1.trans c5.1, by rw [a2.i rfl, (b2 222 rfl).1]; exact c5.2⟩, fun j hj => ?_⟩, a2, b2⟩
  · rw [a2.ga rfl, a2.ga rfl, (b2 166 rfl).2.2.1, (b2 167 rfl).2.2.1]; exact c2 u hu
  · rw [(b2 94 rfl).2.2.1] at z
    rw [a2.i rfl, a2.i rfl, (b2 168 rfl).2.2.1, (b2 169 rfl).2.2.1]; exact c3 j hj z
  · rw [(b2 154 rfl).1] at z
    rw [a2.ga rfl, (b2 163 rfl).2.2.1]; exact c4 j hj z
  · obtain ⟨p1, p2⟩ := p j hj
    rw [a3 j hj, b3 j hj, p1, nZ_b p2]; exact ⟨rfl, p2⟩
end WHSET
