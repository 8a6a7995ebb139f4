/-! Layer B: the flat model: outer members meet their inner ones, both sides -/
set_option maxRecDepth 100000
/-- what the component does with an outer member -/
def innK (rec : Int32 → CM → Option ((Unit ⊕ (Unit ⊕ Nat)) × CM)) (x1 : Int32) (mo : Nat) (M : CM) : Option ((Unit ⊕ (Unit ⊕ Nat)) × CM) := if mk M (mR M 3006 mo) = 14 then nm (mR M 2601 (mR M 3006 mo)) fun v12 => ob (KL_X0_findOuters_36 FU x1 mo v12 0 M) fun q35 M36 => KJ_X0_findOuters_89_2 rec x1 mo q35 M36 else none
/-- whose the writes are -/
def T100 (t : Nat) : Prop := tg 100 0 ≤ t ∧ t < tg 101 0
section OUTS
variable {C C' : PC} {D D' D1 D2 : FQ} {M M' M1 M2 : CM} {σ σ' σ0 σ1 σ2 σ4 s : TS} {mss fss xs bs qs os es : List Nat} {B l k n o m u w Q I I' L V V' Bm Bm' b c v r R R' E E' E0 cr i e eo ec fl z mo mc : Nat} {P P' X T : Nat → Prop} {S S' O : List Nat} {x : Int64} {x1 : Int32} {z7 z7' : Nat → Nat}
theorem ElR.ext_ (h : ElR C P M σ eo e) (h57 : tA σ 57 e = 0) : ElX σ e := by
  obtain ⟨-, -, hE⟩ := h
  rcases hE with ⟨-, z, -⟩ | ⟨-, -, -, -, -, -, -, -, y⟩
  · rw [h57] at z; exact absurd z (by decide)
  · exact y
/-- types are alike on both sides -/
theorem ty_eq {e' : Nat} (W : WN M (cm C) L) (h : (mI M 2002 eo = 12 ∧ tB σ 51 e = 0) ∨ ∃ w, mI M 2002 eo = nI w ∧ 38 ≤ w ∧ w < 38 + cm C ∧ tB σ 51 e = wc M w) (h' : (mI M 2002 ec = 12 ∧ tB σ 51 e' = 0) ∨ ∃ w, mI M 2002 ec = nI w ∧ 38 ≤ w ∧ w < 38 + cm C ∧ tB σ 51 e' = wc M w) (h1280 : cm C ≤ 1280) : mI M 2002 ec = mI M 2002 eo ↔ tB σ 51 e' = tB σ 51 e := by
  have n12 : ∀ w, 38 ≤ w → w < 38 + cm C → ¬ nI w = 12 := fun w h1 h2 => by rw [show (12 : Int32) = nI 12 from rfl, bI_eq (by omega) (by decide)]; omega
  rcases h with ⟨a1, a2⟩ | ⟨w, a1, a2, a3, a4⟩ <;> rcases h' with ⟨b1, b2⟩ | ⟨w', b1, b2, b3, b4⟩
  · rw [a1, a2, b1, b2]; simp
  · rw [a1, a2, b1, b4]
    exact ⟨fun z => absurd z (n12 w' b2 b3), fun z => absurd z (wc_ne0 W b2 b3)⟩
  · rw [a1, a4, b1, b2]
    exact ⟨fun z => absurd z.symm (n12 w a2 a3), fun z => absurd z.symm (wc_ne0 W a2 a3)⟩
  · rw [a1, a4, b1, b4, bI_eq (by omega) (by omega), wc_inj W b3 a3]
theorem z_inner (hB1 : B ≤ 1280) (W : FW C B P mss fss D M σ) (N : FInZ z7 C P D mss M σ V I Bm) (hI : I ≤ 200) (hBm : Bm ≤ 20000) (h0 : tI σ 0 = 0) (hb : b < Bm) : (∃ r : Int32, ¬ r = 0 ∧ (∀ rec x1, innK rec x1 ((pl D 100).getD b 0) M = some (.inr (.inr (mn M)), wM M r 0)) ∧ F_innerOf (nI b) σ = some (-1, badT σ r)) ∨ (∃ c e', c < Bm ∧ tA σ 84 c = nI e' ∧ e' < ix (tI σ 58) ∧ ¬ tA σ 52 e' &&& 8 = 0 ∧ (∀ rec x1, innK rec x1 ((pl D 100).getD b 0) M = rec (x1 + 1) (msR M 3007 ((pl D 100).getD b 0) ((pl D 100).getD c 0))) ∧ F_innerOf (nI b) σ = some (nI c, σ)) := by
  have hm := W.rm
  have h167 := W.n167
  obtain ⟨⟨L, WN0⟩, h1280, hQ⟩ := W.wn hB1
  obtain ⟨G, hG, hGl⟩ := FUg
  have l100 := N.1.2.2
  obtain ⟨n, e, eo, w, ⟨a1, a2, a3⟩, ⟨a4, a5, a6⟩, ⟨a7, a8⟩, ⟨a9, a10, a11, a12⟩, -⟩ := N.2.2.1 b hb
  obtain ⟨m1, m2, m3⟩ := W.2.1.2.1 100 (by decide) b (by omega)
  have m1 : mk M ((pl D 100).getD b 0) = 16 := m1
  obtain ⟨mo, hmo⟩ : ∃ q, q = (pl D 100).getD b 0 := ⟨_, rfl⟩
  rw [← hmo] at a2 a7 a9 m1 ⊢
  have e480 := W.e480 a5
  obtain ⟨i1, i2, i3⟩ := W.2.1.2.1 99 (by decide) n (by have := N.1.2.1; omega)
  have i1 : mk M ((pl D 99).getD n 0) = 14 := i1
  have ib : inb (nI b) 96001 := inb_nI' (by omega) (by decide)
  have xb : ix (nI b) = b := ix_nI (by omega)
  have wr := fun r => k_wrong (M := M) (by omega) (by omega) r 0
  -- the way up
  have same : ∀ (f : Nat) (x1 : Int32) (x3 x4 : Nat) (N : CM), KL_X0_findOuters_36 f x1 mo x3 x4 N = KL_X0_findOuters_36 f 0 mo x3 x4 N := by
    intro f
    induction f with
    | zero => intro x1 x3 x4 N; rfl
    | succ f ih =>
      intro x1 x3 x4 N
      rw [KL_X0_findOuters_36, KL_X0_findOuters_36]
      simp only [ih x1]
  have up : (∃ c e', c < Bm ∧ tA σ 84 c = nI e' ∧ e' < ix (tI σ 58) ∧ ¬ tA σ 52 e' &&& 8 = 0 ∧ KL_X0_findOuters_36 FU 0 mo (mR M 2601 ((pl D 99).getD n 0)) 0 M = some ((pl D 100).getD c 0, M) ∧ L_innerOf_19 FU (nI e) (tA σ 75 n) σ = chk σ e e' c) ∨ (KL_X0_findOuters_36 FU 0 mo (mR M 2601 ((pl D 99).getD n 0)) 0 M = some (0, M) ∧ L_innerOf_19 FU (nI e) (tA σ 75 n) σ = some (.inl (), σ)) := by
    obtain ⟨-, g2, -⟩ := N.2.1 n a1
    rcases g2 with ⟨g3, g4, g5⟩ | ⟨g3, p, b', e', ⟨g4, g5, g6⟩, -⟩
    · right
      rw [g4, g5, show FU = G + 1 from hG]
      exact ⟨by rw [KL_X0_findOuters_36, ifT (rfl : (0 : Nat) = 0)], by rw [L_innerOf_19, ifT (by decide)]⟩
    · rw [g5, g6, show FU = G + 1 from hG]
      exact z_climb hB1 W N hI hBm ⟨m1, a9, a11⟩ ⟨a12, e480⟩ h0 p (G + 1) (G + 1) (by omega) (by omega) (by omega)
  have kh : ∀ (rec : Int32 → CM → Option ((Unit ⊕ (Unit ⊕ Nat)) × CM)) (x1 : Int32), innK rec x1 mo M = ob (KL_X0_findOuters_36 FU 0 mo (mR M 2601 ((pl D 99).getD n 0)) 0 M) fun q35 M36 => KJ_X0_findOuters_89_2 rec x1 mo q35 M36 := fun rec x1 => by
    unfold innK
    rw [a2, ifT i1, nm_eq, same]
  have th : F_innerOf (nI b) σ = obS (L_innerOf_19 FU (nI e) (tA σ 75 n) σ) (fun r58 s51 => some (r58, s51)) fun _ s51 => ob (F_bad 25 0 s51) fun _ s53 => some (-1, s53) := by
    unfold F_innerOf
    rw [ifT ib, xb, a4, nm_eq, ifT ib, a3, ifT (inb_nI' (by omega) (by decide)), ix_nI (by omega), nm_eq]
  rcases up with ⟨c, e', c1, c2, c3, c4, c5, c6⟩ | ⟨c5, c6⟩
  · obtain ⟨mm1, mm2, mm3⟩ := W.2.1.2.1 100 (by decide) c (by omega)
    have mm1 : mk M ((pl D 100).getD c 0) = 16 := mm1
    obtain ⟨n2, e2, ec, w2, -, ⟨d4, d5, d6⟩, ⟨d7, d8⟩, -⟩ := N.2.2.1 c c1
    have e2e : e2 = e' := by
      rw [c2] at d4
      exact ((bI_eq (by have := W.e480 c3; omega) (by have := W.e480 d5; omega)).mp d4).symm
    rw [e2e] at d8 d6
    obtain ⟨mc, hmc⟩ : ∃ q, q = (pl D 100).getD c 0 := ⟨_, rfl⟩
    rw [← hmc] at mm1 mm2 d7 c5
    have mc0 : ¬ mc = 0 := by have := mm2.1; omega
    obtain ⟨w3, z3, fl3, hv, ⟨hw3, hx3⟩, -, hty, -⟩ := a8.own a6
    obtain ⟨w4, z4, fl4, hv4, ⟨hw4, hx4⟩, -, hty4, -⟩ := d8.own d6
    have hun := hv.2.2.2.2.2.2
    have hun4 := hv4.2.2.2.2.2.2
    have tyE := ty_eq WN0 hty hty4 h1280
    have unE := un_eq hun hun4
    obtain ⟨x1e, -⟩ := a8.ext_ a6
    obtain ⟨x2e, -⟩ := d8.ext_ d6
    have cond : (tB σ 51 e' = tB σ 51 e ∧ (tB σ 51 e = 0 → tA σ 54 e' = tA σ 54 e)) ↔ (tB σ 51 e' = tB σ 51 e ∧ tA σ 54 e' = tA σ 54 e) := by
      constructor
      · rintro ⟨t1, t2⟩
        refine ⟨t1, ?_⟩
        by_cases q : tB σ 51 e = 0
        · exact t2 q
        · have y1 := x1e.resolve_left q
          have y2 := x2e.resolve_left (by rw [t1]; exact q)
          rw [y1, y2]
      · rintro ⟨t1, t2⟩; exact ⟨t1, fun _ => t2⟩
    have ku := fun (x1 : Int32) (y : Int32) (hy : y = 0 ∨ y = 1) => k_units (x1 := x1) (y0 := 0) (mo := mo) (mc := mc) (eo := eo) (ec := ec) ⟨m1, a7, hv.2.1, hun.1, hun.2.1⟩ ⟨mm1, d7, hv4.2.1, hun4.1, hun4.2.1⟩ 3 0 FU y rfl (by rw [show FU = G + 1 from hG]; omega) hy
    have k89 : ∀ (rec : Int32 → CM → Option ((Unit ⊕ (Unit ⊕ Nat)) × CM)) (x1 : Int32), KJ_X0_findOuters_89_2 rec x1 mo mc M = if tB σ 51 e' = tB σ 51 e ∧ tA σ 54 e' = tA σ 54 e then rec (x1 + 1) (msR M 3007 mo mc) else some (.inr (.inr (mn M)), wM M 22 0) := fun rec x1 => by
      have k124 : ∀ y : Int32, (y = 0 ∨ y = 1) → KJ_X0_findOuters_124_2 rec x1 mo mc y M = if y = 1 ∧ tA σ 54 e' = tA σ 54 e then rec (x1 + 1) (msR M 3007 mo mc) else some (.inr (.inr (mn M)), wM M 22 0) := fun y hy => by
        obtain ⟨r, r1, r2, r3⟩ := ku x1 y hy
        rw [← unE] at r3
        unfold KJ_X0_findOuters_124_2
        rw [show (0 : Int32) = nI 0 from rfl, r1, ob_some]
        rcases r2 with rfl | rfl
        · rw [ifT (show (0 : Int32) = nI 0 from rfl), show nI 0 = (0 : Int32) from rfl, wr 22, ob_some, ifT (wM_k M 22 0), ifF (fun z => absurd (r3.mpr z) (by decide))]
        · rw [ifF (show ¬ (1 : Int32) = nI 0 from by decide), ifT m1, nm_eq, nm_eq, ifT (r3.mp rfl)]
      unfold KJ_X0_findOuters_89_2
      rw [ifF mc0, ifT mm1, d7, ifT hv4.2.1, ifT m1, a7, ifT hv.2.1]
      by_cases q : mI M 2002 ec = mI M 2002 eo
      · rw [ifT q, k124 1 (Or.inr rfl)]
        by_cases q2 : tA σ 54 e' = tA σ 54 e
        · rw [ifT ⟨rfl, q2⟩, ifT ⟨tyE.mp q, q2⟩]
        · rw [ifF (fun z => q2 z.2), ifF (fun z => q2 z.2)]
      · rw [ifF q, k124 0 (Or.inl rfl), ifF (fun z => absurd z.1 (by decide)), ifF (fun z => q (tyE.mpr z.1))]
    unfold chk at c6
    by_cases q : tB σ 51 e' = tB σ 51 e ∧ tA σ 54 e' = tA σ 54 e
    · right
      rw [ifT (cond.mpr q)] at c6
      refine ⟨c, e', c1, c2, c3, c4, fun rec x1 => ?_, by rw [th, c6, obS_inr]⟩
      rw [kh, c5, ob_some, k89, ifT q, hmc]
    · left
      rw [ifF (fun z => q (cond.mp z))] at c6
      refine ⟨22, by decide, fun rec x1 => ?_, by rw [th, c6, obS_inr]⟩
      rw [kh, c5, ob_some, k89, ifF q]
  · left
    refine ⟨25, by decide, fun rec x1 => ?_, by rw [th, c6, obS_inl, t_badT h0, ob_some]⟩
    rw [kh, c5, ob_some]
    unfold KJ_X0_findOuters_89_2
    rw [ifT (rfl : (0 : Nat) = 0), wr 25, ob_some, ifT (wM_k M 25 0)]
/-- the inner member is noted -/
theorem FW.put7 (W : FW C B P mss fss D M σ) (N : FInZ z7 C P D mss M σ V I Bm) (hI : I ≤ 200) (hBm : Bm ≤ 20000) (hV : V ≤ 96) (hb : b < Bm) : FW C B P mss fss D (msR M 3007 ((pl D 100).getD b 0) u) σ ∧ FInZ (fun c => if c = b then u else z7 c) C P D mss (msR M 3007 ((pl D 100).getD b 0) u) σ V I Bm ∧ Wz C C P M (msR M 3007 ((pl D 100).getD b 0) u) σ σ ∧ Fq D (fun t => t = tg 100 b) M (msR M 3007 ((pl D 100).getD b 0) u) ∧ O1 [] M (msR M 3007 ((pl D 100).getD b 0) u) := by
  have h167 := W.n167
  have l100 := N.1.2.2
  obtain ⟨a1, a2, a3⟩ := W.2.1.2.1 100 (by decide) b (by omega)
  have Fz1 : Fz (fun o => o = (pl D 100).getD b 0) M (msR M 3007 ((pl D 100).getD b 0) u) := Fz.rf.msR (fun _ => rfl)
  have W2 : PoW D (msR M 3007 ((pl D 100).getD b 0) u) := W.2.1.wr h167 (by decide) (show b < (pl D 100).length by omega) Fz1 (fun z => absurd z (by decide)) (fun z => absurd z (by decide)) (fun o h1 h2 => absurd h2 (by show ¬ o < mn M; omega))
  have fq : Fq D (fun t => t = tg 100 b) M (msR M 3007 ((pl D 100).getD b 0) u) := Fz1.mono (fun o ho z => by rw [z]; exact W.2.1.tv (by decide) (by omega))
  have rm := rm_same (D := D) (M := M) (M' := msR M 3007 ((pl D 100).getD b 0) u) ⟨rfl, rfl⟩ (fun o => ⟨by rw [mR_msR, ifF (fun z => absurd z.1 (by decide))], by rw [mR_msR, ifF (fun z => absurd z.1 (by decide))], rfl⟩)
  have o1 : O1 [] M (msR M 3007 ((pl D 100).getD b 0) u) := O1.so (Fz1.so (by omega) (by omega))
  obtain ⟨W', v⟩ := W.mv (fq.mono (fun t z => by unfold TFf; rw [z]; unfold tg; omega)) o1 (by decide) W2 (Dx.rf D M) (by rw [rm.1, rm.2]; exact ⟨Nat.le_refl _, Nat.le_refl _⟩) (Ft.rf [] σ) (by decide)
  obtain ⟨n1, n2, n3⟩ := N.kpx3 (z7' := fun c => if c = b then u else z7 c) (i0 := I) W.2.1 fq (fun t z => by
    rw [z]
    refine ⟨fun v hv => ?_, fun n hn => ⟨?_, fun _ => ?_⟩⟩ <;> unfold tg <;> omega) (fun c hc => ⟨fun f _ _ => rfl, fun f hf => by rw [mR_msR, ifF (fun z => hf z.1)], by
      rw [mR_msR]
      by_cases q : c = b
      · rw [ifT ⟨rfl, by rw [q]⟩, ifT q]
      · rw [ifF (fun z => q ((W.2.1.inj (l := 100) (l' := 100) (by decide) (by decide) (by omega) (by omega) z.2).2)), ifF q]
        obtain ⟨n, e, eo, w, -, -, -, -, -, -, a15⟩ := N.2.2.1 c hc
        exact a15⟩) (fun k hk => by
      have s := W.2.1.so3 (k := k) (l := 98) (by decide) (by have := N.1.1; omega) fq (fun z => by unfold tg at z; omega)
      exact ⟨fun f _ _ => s.i f, fun f _ _ => s.r f⟩) (fun z => by
      have z : (if 100000 = b then u else z7 100000) = 0 := z
      rw [ifF (show ¬ 100000 = b by omega)] at z
      refine ⟨z, fun k hk => ?_⟩
      have s := W.2.1.so3 (k := k) (l := 98) (by decide) (by have := N.1.1; omega) fq (fun z => by unfold tg at z; omega)
      exact ⟨fun f => s.i f, fun f => s.r f⟩) v (Dx.rf D M) (fun _ _ _ _ => rfl) (fun _ _ _ => rfl) (fun _ _ _ _ => rfl) (fun _ _ _ _ => rfl)
  exact ⟨W', ⟨n1, fun n hn => (n2 n hn).2 (by omega), n3⟩, v, fq, o1⟩
end OUTS
