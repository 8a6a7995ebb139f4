/-! Layer B: parameters again, in a flat model that stands: copies of what flattening does, with what a fault leaves said in full -/
set_option maxRecDepth 100000
abbrev pqI : List Nat := [33, 3213, 3215, 3216]
/-- the state: u parameters under way, s places of the stack in use, with t; the variables of Q are alike -/
def PrQ (Q : Nat → Prop) (D : FQ) (V : Nat) (M0 : CM) (σ0 : TS) (u : Nat) : IvT := fun s t M σ => (KF D pqI [] [] [] M0 M ∧ Ft prS σ0 σ) ∧ (tI σ 0 = 0 ∧ tI σ 171 = nI s ∧ ∀ j, j < s → tA σ 170 j = t j) ∧ (mI M 33 1 = nI u ∧ tI σ 161 = nI u) ∧ ∀ v, v < V → Q v → Fl1 D M σ v
/-- a fault: a new object, nothing else -/
def PrC (D : FQ) (M0 : CM) (σ0 : TS) : BdT := fun s _ M σ w => (∃ M1 r, r ≠ 0 ∧ KF D pqI [] [] [] M0 M1 ∧ M = wM M1 r 0 ∧ w = mn M1 ∧ tI σ 0 = r ∧ tI σ 1 = 0) ∧ tI σ 171 = nI s ∧ Ft ([0, 1] ++ prS) σ0 σ
section PARQ
variable {Q : Nat → Prop} {c : Nat}
variable {C : PC} {D D' : FQ} {M M' M1 M2 M3 M0 : CM} {σ σ' σ1 σ2 σ0 s1 : TS} {mss fss : List Nat} {B V I Bm k0 t0 h kf tf d s a n x z q K N K2 N2 u v l : Nat} {P T : Nat → Prop} {x2 y r : Int32} {z7 : Nat → Nat} {t : Nat → Int32} {S : List Nat}
theorem PrQ_sk (W : FW C B P mss fss D M0 σ0) (hV : V ≤ (pl D 98).length ∧ V ≤ 96) (hK : (K ≤ (pl D 106).length ∧ N ≤ 70000) ∧ K2 ≤ (pl D 108).length ∧ N2 ≤ 70000) : Sk (PrQ Q D V M0 σ0 u) (PrC D M0 σ0) M0 σ0 (PrN D M0 σ0 V K N K2 N2) := by
  refine ⟨fun s t M σ I => ?_, fun s t M σ x I hs => ?_, fun s t M σ x I => ?_, fun s t M σ w b => ⟨by obtain ⟨⟨M1, r, r1, -, -, -, r2, -⟩, -⟩ := b; rw [r2]; exact r1, b.2.1⟩, fun s t M σ w x b => ?_, fun s t M σ r I hr => ?_⟩
  · obtain ⟨⟨E, f⟩, i1, i2, i3⟩ := I
    have rm := W.rm
    have h167 := W.n167
    refine ⟨i1, ⟨by rw [KF.n E, E.2.2.2.2.2.2.2.2]; omega, by rw [KF.n E]; omega⟩, fun h s' a n r => ?_⟩
    have fs : ∀ f o, f = 3400 ∨ f = 3401 → mI M f o = mI M0 f o := fun f o hf => by rcases hf with rfl | rfl <;> exact KF.i E rfl o
    have nd : ∀ l K N, (l = 106 ∨ l = 108) → K ≤ (pl D l).length → N ≤ 70000 → NdR 1 D M0 σ0 l V h s' K N a n → (mk M a = 18 ∧ n < 70000) := fun l K N hl hK hN r => by
      cases h with
      | zero => exact r.elim
      | succ h =>
        obtain ⟨⟨⟨k, k1, k2, -⟩, n1, n2⟩, -⟩ := r
        refine ⟨?_, by omega⟩
        rw [KF.k E a, k2, (W.2.1.2.1 l (by rcases hl with q | q <;> rw [q] <;> decide) k (by omega)).1]
        rcases hl with q | q <;> rw [q] <;> decide
    refine ⟨?_, ⟨fs _ _ (by omega), fs _ _ (by omega), KF.r E rfl _, KF.r E rfl _, KF.r E rfl _⟩, (f 121 rfl).2.2.1 n, (f 122 rfl).2.2.1 n, (f 123 rfl).2.2.1 n, (f 124 rfl).2.2.1 n⟩
    rcases r with r | r
    · exact nd 106 K N (Or.inl rfl) hK.1.1 hK.1.2 r
    · exact nd 108 K2 N2 (Or.inr rfl) hK.2.1 hK.2.2 r
  · obtain ⟨⟨E, f⟩, ⟨i1, i2, i3⟩, ⟨i4, i5⟩, i6⟩ := I
    refine ⟨⟨E, (f.p_tsA rfl).p_tsI rfl⟩, ⟨i1, rfl, fun j hj => ?_⟩, ⟨i4, i5⟩, i6⟩
    show tA (tsA σ 170 s x) 170 j = if j = s then x else t j
    rw [tA_tsA]
    by_cases q : j = s
    · rw [ifT ⟨rfl, q⟩, ifT q]
    · rw [ifF (fun z => q z.2), ifF q]; exact i3 j (by omega)
  · obtain ⟨⟨E, f⟩, ⟨i1, i2, i3⟩, ⟨i4, i5⟩, i6⟩ := I
    refine ⟨⟨E, f.p_tsI rfl⟩, ⟨i1, rfl, fun j hj => ?_⟩, ⟨i4, i5⟩, i6⟩
    have this : tA σ 170 j = if j = s then x else t j := i3 j (by omega)
    rw [ifF (show ¬ j = s by omega)] at this
    exact this
  · obtain ⟨⟨M1, q, q1, q2, q3, q4, q5, q6⟩, b2, b3⟩ := b
    exact ⟨⟨M1, q, q1, q2, q3, q4, q5, q6⟩, rfl, b3.p_tsI rfl⟩
  · obtain ⟨⟨E, f⟩, ⟨i1, i2, i3⟩, ⟨i4, i5⟩, i6⟩ := I
    exact ⟨⟨M, r, hr, E, rfl, rfl, rfl, rfl⟩, i2, (f.mono (by decide)).tr (badT_f.mono (by decide))⟩
/-- one parameter, both sides -/
theorem zq_par {L1 : Nat} (W : FW C B P mss fss D M0 σ0) (hV : V ≤ (pl D 98).length ∧ V ≤ 96) (hl : K ≤ (pl D 106).length ∧ N ≤ 70000) (hX : ∀ v, v < V → Vx1 D M0 σ0 V K N v) (hu8 : u ≤ 8) (rec : u < 8 → EvN (PrQ Q D V M0 σ0 (u + 1)) (PrC D M0 σ0) (PrN D M0 σ0 V K N K2 N2) fxV k0 t0 L1 0 100) (hv : v < V) (hq : Q v) (hk : 1 ≤ kf ∧ (u < 8 → k0 + 101 ≤ kf)) (ht : 1 ≤ tf ∧ (u < 8 → t0 + 201 ≤ tf)) (hs : u < 8 → s + 100 ≤ L1) (J : PrQ Q D V M0 σ0 u s t M σ) :
    (∃ M' σ' w, fxP kf (nI v) M = some (.inr w, M') ∧ gP tf (nI v) σ = some ((), σ') ∧ PrC D M0 σ0 s t M' σ' w) ∨ ∃ x M' σ', fxP kf (nI v) M = some (.inl x, M') ∧ gP tf (nI v) σ = some ((), σ') ∧ PrQ Q D V M0 σ0 u s t M' σ' ∧ tA σ' 104 v = x ∧ tA σ' 160 v = 2 := by
  obtain ⟨kf, rfl⟩ : ∃ g, kf = g + 1 := ⟨kf - 1, by omega⟩
  obtain ⟨tf, rfl⟩ : ∃ g, tf = g + 1 := ⟨tf - 1, by omega⟩
  have J0 := J
  obtain ⟨⟨E, f⟩, ⟨i1, i2, i3⟩, ⟨i4, i5⟩, i6⟩ := J
  obtain ⟨W', v'⟩ := W.kf E rfl rfl rfl f (by decide)
  have get := ls_get (W'.2.1.1 98 (by decide)).1 (show v < (pl D 98).length by omega)
  obtain ⟨kv, pv, -⟩ := W'.2.1.2.1 98 (by decide) v (by omega)
  have kv : mk M ((pl D 98).getD v 0) = 17 := kv
  obtain ⟨r, hr⟩ : ∃ r, r = (pl D 98).getD v 0 := ⟨_, rfl⟩
  rw [← hr] at get kv pv
  have inn : ∀ a b : Nat, a ≠ b → a < V → b < V → (pl D 98).getD a 0 ≠ (pl D 98).getD b 0 := fun a b ne ha hb z => ne (W.2.1.inj (by decide) (by decide) (by omega) (by omega) z).2
  have iv : inb (nI v) 96 := inb_nI' (by omega) (by decide)
  have xv : ix (nI v) = v := ix_nI (by omega)
  have wr : ∀ r2 : Int32, r2 ≠ 0 → K_X0_wrong r2 0 M = some (mn M, wM M r2 0) ∧ F_bad r2 0 σ = some ((), badT σ r2) ∧ PrC D M0 σ0 s t (wM M r2 0) (badT σ r2) (mn M) := fun r2 hr2 => by
    obtain ⟨b1, b2, -⟩ := W'.badG hr2 i1
    exact ⟨b1, b2, ⟨M, r2, hr2, E, rfl, rfl, rfl, rfl⟩, i2, (f.mono (by decide)).tr (badT_f.mono (by decide))⟩
  have fl := i6 v hv hq
  unfold Fl1 at fl
  rw [← hr] at fl
  obtain ⟨fl0, fl⟩ := fl
  rw [fxP_s, gP_s]
  unfold KB_X0_parameter B_parameter
  rw [get, ob_some, ifT (Or.inr kv), ifT kv, ifT iv, xv]
  rcases fl with ⟨a1, a2⟩ | ⟨a1, a2, a3⟩ | ⟨a1, a2, a3⟩
  · -- known
    right
    refine ⟨_, M, σ, ?_, ?_, J0, fl0.symm, a2⟩
    · rw [a1, ifF (show ¬ (1 : Int32) = 0 by decide), ifT kv]
    · rw [ifT a2]
  · -- asked
    left
    obtain ⟨b1, b2, b3⟩ := wr 31 (by decide)
    refine ⟨_, _, _, ?_, ?_, b3⟩
    · rw [a1, ifT (rfl : (0 : Int32) = 0), ifT kv, a2, ifF (show ¬ (1 : Int32) = 0 by decide), ifT kv, ifF (show ¬ (1 : Int32) = 0 by decide), b1, ob_some, ifT (wM_k M 31 0)]
    · rw [a3, ifF (show ¬ (1 : Int32) = 2 by decide), t_isBad0 i1, ob_some, ifT (rfl : (0 : Int32) = 0), ifT iv, a3, ifT rfl, b2, ob_some]
  · by_cases hu : u = 8
    · left
      obtain ⟨b1, b2, b3⟩ := wr 24 (by decide)
      refine ⟨_, _, _, ?_, ?_, b3⟩
      · rw [a1, ifT (rfl : (0 : Int32) = 0), ifT kv, a2, ifT (rfl : (0 : Int32) = 0), i4, hu, ifT (show nI 8 = 8 from rfl), ifT kv, ifT (rfl : (0 : Int32) = 0), b1, ob_some, ifT (wM_k M 24 0)]
      · rw [a3, ifF (show ¬ (0 : Int32) = 2 by decide), t_isBad0 i1, ob_some, ifT (rfl : (0 : Int32) = 0), ifT iv, a3, ifF (show ¬ (0 : Int32) = 1 by decide), i5, hu, ifT (show nI 8 = 8 from rfl), b2, ob_some]
    · have n8 : ¬ nI u = 8 := fun z => by
        have := (bI_eq (by omega) (by decide)).mp (show nI u = nI 8 from z); omega
      obtain ⟨M24, h24⟩ : ∃ N, N = msI M 3216 r 1 := ⟨_, rfl⟩
      obtain ⟨M25, h25⟩ : ∃ N, N = msI M24 33 1 (nI (u + 1)) := ⟨_, rfl⟩
      obtain ⟨s7, h7⟩ : ∃ q, q = tsI σ 161 (nI (u + 1)) := ⟨_, rfl⟩
      obtain ⟨s9, h9⟩ : ∃ q, q = tsA s7 160 v 1 := ⟨_, rfl⟩
      have E24 : KF D pqI [] [] [] M M24 := by rw [h24, hr]; exact KF.rf.wI rfl (TZ.vr W.2.1 (by omega))
      have E25 : KF D pqI [] [] [] M M25 := by rw [h25]; exact E24.tr (KF.rf.wI rfl TZ.one)
      have f9 : Ft prS σ s9 := by rw [h9, h7]; exact ((Ft.rf _ σ).p_tsI rfl).p_tsA rfl
      have k25 : mk M25 r = 17 := by rw [KF.k E25 r]; exact kv
      have i33 : mI M24 33 1 = nI u := by rw [h24, mI_msI, ifF (fun z => by omega)]; exact i4
      have v25 : mI M25 3213 r = tA s9 104 v ∧ mI M25 3215 r = 0 ∧ mI M25 3216 r = 1 ∧ tA s9 160 v = 1 := by
        rw [h25, h24, h9, h7, mI_msI, mI_msI, mI_msI, mI_msI, mI_msI, mI_msI, ifF (fun z => by omega), ifF (fun z => by omega), ifF (fun z => by omega), ifF (fun z => by omega), ifF (fun z => by omega), ifT ⟨rfl, rfl⟩, tA_tsA, tA_tsA, ifF (fun z => by omega), ifT ⟨rfl, rfl⟩]
        exact ⟨fl0, a1, rfl, rfl⟩
      have oth : ∀ v', v' < V → Q v' → v' ≠ v → Fl1 D M25 s9 v' := fun v' hv' hq' ne => by
        have h1 : Fl1 D M24 σ v' := by rw [h24, hr]; exact Fl1.ow W.2.1 hV.1 (i6 v' hv' hq') hv' hv ne
        have h2 : Fl1 D M25 σ v' := by rw [h25]; exact h1.o33
        refine h2.tw ?_ ?_
        · rw [h9, h7, tA_tsA, ifF (fun z => by omega)]; rfl
        · rw [h9, h7, tA_tsA, ifF (fun z => by omega)]; rfl
      have J25 : PrQ Q D V M0 σ0 (u + 1) s t M25 s9 := by
        refine ⟨⟨E.tr E25, f.tr f9⟩, ⟨by rw [h9, h7]; exact i1, by rw [h9, h7]; exact i2, fun j hj => by rw [h9, h7, tA_tsA, ifF (fun z => by omega)]; exact i3 j hj⟩, ⟨by rw [h25, mI_msI, ifT ⟨rfl, rfl⟩], by rw [h9, h7]; rfl⟩, fun v' hv' hq' => ?_⟩
        by_cases q : v' = v
        · subst q
          unfold Fl1
          rw [← hr]
          exact ⟨v25.1, Or.inr (Or.inl v25.2)⟩
        · exact oth v' hv' hq' q
      have kk : ∀ (X : CM → Option ((Int32 ⊕ Nat) × CM)) (Y Z U V2 : Option ((Int32 ⊕ Nat) × CM)), (if mI M 3215 r = 0 then if mk M r = 17 then if mI M 3216 r = 0 then if mI M 33 1 = 8 then Y else if mk M r = 17 then nm (msI M 3216 r 1) fun M24 => nm (msI M24 33 1 (mI M24 33 1 + 1)) fun M25 => X M25 else Z else U else Z else V2) = X M25 := fun X Y Z U V2 => by
        rw [ifT a1, ifT kv, ifT a2, i4, ifF n8, ifT kv, nm_eq, ← h24, i33, nI_addL, nm_eq, ← h25]
      have tt : ∀ (X : TS → Option (Unit × TS)) (Y Z U : Option (Unit × TS)), (if tA σ 160 v = 2 then Y else ob (F_isBad σ) fun r3 s2 => if r3 = 0 then if inb (nI v) 96 then if tA s2 160 v = 1 then ob (F_bad 31 0 s2) fun _ s33 => some ((), s33) else if tI s2 161 = 8 then ob (F_bad 24 0 s2) fun _ s28 => some ((), s28) else nm (tsI s2 161 (tI s2 161 + 1)) fun s7 => if inb (nI v) 96 then nm (tsA s7 160 v 1) fun s9 => X s9 else Z else U else some ((), s2)) = X s9 := fun X Y Z U => by
        rw [ifF (show ¬ tA σ 160 v = 2 by rw [a3]; decide), t_isBad0 i1, ob_some, ifT (rfl : (0 : Int32) = 0), ifT iv, ifF (show ¬ tA σ 160 v = 1 by rw [a3]; decide), i5, ifF n8, nI_addL, nm_eq, ifT iv, nm_eq, ← h7, ← h9]
      rw [kk _ _ _ _ _]
      have x10 : mR M25 3210 r = mR M0 3210 r := by rw [KF.r E25 rfl, KF.r E rfl]
      have x58 : tA s9 158 v = tA σ0 158 v := by rw [(f9 158 rfl).2.2.1, (f 158 rfl).2.2.1]
      rw [tt _ _ _ _]
      have fin : ∀ (M28 : CM) (s12 : TS) (x : Int32), PrQ Q D V M0 σ0 (u + 1) s t M28 s12 → ∃ M37 s20, (∀ (Y Z : Option ((Int32 ⊕ Nat) × CM)), (nm (msI M28 3213 r x) fun M34 => nm (msI M34 33 1 (mI M34 33 1 - 1)) fun M35 => if mk M35 r = 17 then nm (msI M35 3215 r 1) fun M37 => if mk M37 r = 17 then some (.inl (mI M37 3213 r), M37) else Y else Z) = some (.inl x, M37)) ∧ (∀ Y : Option (Unit × TS), (nm (tsA s12 104 v x) fun s17 => if inb (nI v) 96 then nm (tsA s17 160 v 2) fun s19 => nm (tsI s19 161 (tI s19 161 - 1)) fun s20 => some ((), s20) else Y) = some ((), s20)) ∧ PrQ Q D V M0 σ0 u s t M37 s20 ∧ tA s20 104 v = x ∧ tA s20 160 v = 2 := fun M28 s12 x Jx => by
        obtain ⟨⟨Ex, fx⟩, ⟨j1, j2, j3⟩, ⟨j4, j5⟩, j6⟩ := Jx
        obtain ⟨M34, h34⟩ : ∃ N, N = msI M28 3213 r x := ⟨_, rfl⟩
        obtain ⟨M35, h35⟩ : ∃ N, N = msI M34 33 1 (nI u) := ⟨_, rfl⟩
        obtain ⟨M37, h37⟩ : ∃ N, N = msI M35 3215 r 1 := ⟨_, rfl⟩
        obtain ⟨s17, g17⟩ : ∃ q, q = tsA s12 104 v x := ⟨_, rfl⟩
        obtain ⟨s19, g19⟩ : ∃ q, q = tsA s17 160 v 2 := ⟨_, rfl⟩
        obtain ⟨s20, g20⟩ : ∃ q, q = tsI s19 161 (nI u) := ⟨_, rfl⟩
        have E34 : KF D pqI [] [] [] M28 M34 := by rw [h34, hr]; exact KF.rf.wI rfl (TZ.vr W.2.1 (by omega))
        have E35 : KF D pqI [] [] [] M28 M35 := by rw [h35]; exact E34.tr (KF.rf.wI rfl TZ.one)
        have E37 : KF D pqI [] [] [] M28 M37 := by rw [h37, hr]; exact E35.tr (KF.rf.wI rfl (TZ.vr W.2.1 (by omega)))
        have kx : ∀ M', KF D pqI [] [] [] M28 M' → mk M' r = 17 := fun M' e => by
          have h1 : mk M28 r = mk M0 r := KF.k Ex r
          rw [KF.k e r, h1, ← KF.k E r]; exact kv
        have i34 : mI M34 33 1 - 1 = nI u := by rw [h34, mI_msI, ifF (fun z => by omega), j4, nI_subL _ _ (show 1 ≤ u + 1 by omega)]; rfl
        have i37 : mI M37 3213 r = x := by rw [h37, h35, h34, mI_msI, mI_msI, mI_msI, ifF (fun z => by omega), ifF (fun z => by omega), ifT ⟨rfl, rfl⟩]
        have t19 : tI s19 161 - 1 = nI u := by
          have : tI s19 161 = nI (u + 1) := by rw [g19, g17]; exact j5
          rw [this, nI_subL _ _ (show 1 ≤ u + 1 by omega)]; rfl
        have f20 : Ft prS s12 s20 := by rw [g20, g19, g17]; exact (((Ft.rf _ s12).p_tsA rfl).p_tsA rfl).p_tsI rfl
        have r104 : ∀ j, tA s20 104 j = if j = v then x else tA s12 104 j := fun j => by
          rw [g20, g19, g17]
          show tA (tsA (tsA s12 104 v x) 160 v 2) 104 j = _
          rw [tA_tsA, ifF (fun z => by omega), tA_tsA]
          by_cases q : j = v
          · rw [ifT ⟨rfl, q⟩, ifT q]
          · rw [ifF (fun z => q z.2), ifF q]
        have r160 : ∀ j, tA s20 160 j = if j = v then 2 else tA s12 160 j := fun j => by
          rw [g20, g19, g17]
          show tA (tsA (tsA s12 104 v x) 160 v 2) 160 j = _
          rw [tA_tsA]
          by_cases q : j = v
          · rw [ifT ⟨rfl, q⟩, ifT q]
          · rw [ifF (fun z => q z.2), ifF q, tA_tsA, ifF (fun z => by omega)]
        refine ⟨M37, s20, fun Y Z => ?_, fun Y => ?_, ?_, by rw [r104, ifT rfl], by rw [r160, ifT rfl]⟩
        · rw [nm_eq, ← h34, i34, nm_eq, ← h35, ifT (kx _ E35), nm_eq, ← h37, ifT (kx _ E37), i37]
        · rw [nm_eq, ← g17, ifT iv, nm_eq, ← g19, t19, nm_eq, ← g20]
        · refine ⟨⟨Ex.tr E37, fx.tr f20⟩, ⟨by rw [g20, g19, g17]; exact j1, by rw [g20, g19, g17]; exact j2, fun j hj => ?_⟩, ⟨by rw [h37, h35, mI_msI, mI_msI, ifF (fun z => by omega), ifT ⟨rfl, rfl⟩], by rw [g20]; rfl⟩, fun v' hv' hq' => ?_⟩
          · have : tA s20 170 j = tA s12 170 j := by
              rw [g20, g19, g17]
              show tA (tsA (tsA s12 104 v x) 160 v 2) 170 j = _
              rw [tA_tsA, ifF (fun z => by omega), tA_tsA, ifF (fun z => by omega)]
            rw [this]; exact j3 j hj
          · by_cases q : v' = v
            · subst q
              unfold Fl1
              rw [← hr]
              exact ⟨by rw [i37, r104, ifT rfl], Or.inl ⟨by rw [h37, mI_msI, ifT ⟨rfl, rfl⟩], by rw [r160, ifT rfl]⟩⟩
            · have h1 : Fl1 D M34 s12 v' := by rw [h34, hr]; exact Fl1.ow W.2.1 hV.1 (j6 v' hv' hq') hv' hv q
              have h2 : Fl1 D M35 s12 v' := by rw [h35]; exact h1.o33
              have h3 : Fl1 D M37 s12 v' := by rw [h37, hr]; exact Fl1.ow W.2.1 hV.1 h2 hv' hv q
              exact h3.tw (by rw [r104, ifF q]) (by rw [r160, ifF q])
      rcases hX v hv with ⟨x1, x2⟩ | ⟨n, x1, x2⟩
      · right
        obtain ⟨M37, s20, g1, g2, g3, g4, g5⟩ := fin M25 s9 (mI M25 3213 r) J25
        refine ⟨_, M37, s20, ?_, ?_, g3, g4, g5⟩
        · rw [ifT k25, ifT (x10.trans (by rw [hr]; exact x1)), ifT k25, ifT k25]
          exact g1 _ _
        · rw [ifT iv, ifT (x58.trans x2), ifT iv, ifT iv, ← v25.1]
          exact g2 _
      · have nz : ¬ mR M0 3210 r = 0 := by
          rw [hr]
          obtain ⟨⟨⟨k, k1, k2, -⟩, -⟩, -⟩ := x2
          rw [k2]
          have := (W.2.1.2.1 106 (by decide) k (by omega)).2.1; omega
        have nb := x2.nb
        have nz2 : ¬ nI n = 0 := fun z => by
          have := (bI_eq (by omega) (by decide)).mp (show nI n = nI 0 from z); omega
        have rr : PrN D M0 σ0 V K N K2 N2 100 0 (mR M0 3210 r) n := Or.inl (by rw [hr]; exact x2)
        have e25 : mR M25 3210 r = mR M0 3210 r := x10
        have u8 : u < 8 := by omega
        have hk2 := hk.2 u8
        have ht2 := ht.2 u8
        rcases rec u8 kf tf s t M25 s9 _ n (by omega) (by omega) rr J25 (hs u8) with ⟨M', σ', w, y, d1, d2, d3⟩ | ⟨x, M', σ', d1, d2, d3⟩
        · left
          refine ⟨M', tsI (tsA (tsA σ' 104 v y) 160 v 2) 161 (tI (tsA (tsA σ' 104 v y) 160 v 2) 161 - 1), w, ?_, ?_, ?_⟩
          · rw [ifT k25, ifF (fun z => nz (e25.symm.trans z)), ifT k25, e25, d1, obS_inr]
          · rw [ifT iv, x58, x1, ifF nz2, ifT iv, d2, ob_some, ifT iv, nm_eq, ifT iv, nm_eq, nm_eq]
          · obtain ⟨⟨M1, q, q1, q2, q3, q4, q5, q6⟩, b2, b3⟩ := d3
            have ff : Ft [104, 160, 161] σ' (tsI (tsA (tsA σ' 104 v y) 160 v 2) 161 (tI (tsA (tsA σ' 104 v y) 160 v 2) 161 - 1)) := (((Ft.rf _ σ').p_tsA rfl).p_tsA rfl).p_tsI rfl
            exact ⟨⟨M1, q, q1, q2, q3, q4, (ff 0 rfl).1.trans q5, (ff 1 rfl).1.trans q6⟩, by rw [(ff 171 rfl).1]; exact b2, b3.tr (ff.mono (by decide))⟩
        · right
          obtain ⟨M37, s20, g1, g2, g3, g4, g5⟩ := fin M' σ' x d3
          have k28 : mk M' r = 17 := by
            rw [KF.k d3.1.1 r, ← KF.k E r]; exact kv
          refine ⟨x, M37, s20, ?_, ?_, g3, g4, g5⟩
          · rw [ifT k25, ifF (fun z => nz (e25.symm.trans z)), ifT k25, e25, d1, obS_inl, ifT k28]
            exact g1 _ _
          · rw [ifT iv, x58, x1, ifF nz2, ifT iv, d2, ob_some, ifT iv]
            exact g2 _
/-- a variable in an expression of parameters -/
theorem fq_leaf {L1 k1 t1 : Nat} (W : FW C B P mss fss D M0 σ0) (hV : V ≤ (pl D 98).length ∧ V ≤ 96) (hl : (K ≤ (pl D 106).length ∧ N ≤ 70000) ∧ K2 ≤ (pl D 108).length ∧ N2 ≤ 70000) (hX : ∀ v, v < V → Vx1 D M0 σ0 V K N v) (hQ : ∀ v, v < V → tA σ0 94 v = 1 → Q v) (hu8 : u ≤ 8) (rec : u < 8 → EvN (PrQ Q D V M0 σ0 (u + 1)) (PrC D M0 σ0) (PrN D M0 σ0 V K N K2 N2) fxV k1 t1 L1 0 100) (r0 : PrN D M0 σ0 V K N K2 N2 (h + 1) 0 a n) (lf : LfF V M0 σ0 0 a n) (hk : 2 ≤ kf ∧ (u < 8 → k1 + 102 ≤ kf)) (ht : 3 ≤ tf ∧ (u < 8 → t1 + 203 ≤ tf)) (hs : u < 8 → s + 100 ≤ L1) (J : PrQ Q D V M0 σ0 u s t M σ) : VO (PrQ Q D V M0 σ0 u) (PrC D M0 σ0) s t (fxV kf a M) (gW tf (nI n) x2 σ) := by
  obtain ⟨kf, rfl⟩ : ∃ g, kf = g + 1 := ⟨kf - 1, by omega⟩
  obtain ⟨tf, rfl⟩ : ∃ g, tf = g + 1 + 1 := ⟨tf - 2, by omega⟩
  obtain ⟨-, l1, l2, v, hv, l3, l4, l5⟩ := lf
  obtain ⟨⟨i1, i2, i3⟩, -, i6⟩ := (PrQ_sk (u := u) W hV hl).1 s t M σ J
  obtain ⟨⟨n1, n2⟩, ⟨n3, n4, n5, n6, n7⟩, n8, n9, n10, n11⟩ := i6 _ _ _ _ r0
  have iv : inb (nI v) 96 := inb_nI' (by omega) (by decide)
  have xv : ix (nI v) = v := ix_nI (by omega)
  have f94 : tA σ 94 v = 1 := by rw [(J.1.2 94 rfl).2.2.1]; exact l5
  have par := zq_par (v := v) (kf := kf) (tf := tf) W hV hl.1 hX hu8 rec hv (hQ v hv l5) ⟨by omega, fun z => by have := hk.2 z; omega⟩ ⟨by omega, fun z => by have := ht.2 z; omega⟩ hs J
  rw [fx_var n1 (n3.trans l1), n4, l3, t_wVar i1 n2 (n8.trans l2), n9, l4, gV_s]
  unfold B_valueOf
  rw [ifT iv, xv, ifT f94, ifT iv]
  by_cases q : tA σ 160 v = 2
  · obtain ⟨tf, rfl⟩ : ∃ g, tf = g + 1 := ⟨tf - 1, by omega⟩
    have e : gP (tf + 1) (nI v) σ = some ((), σ) := by
      rw [gP_s]
      unfold B_parameter
      rw [ifT iv, xv, ifT q]
    rw [ifT q, ifT iv]
    rcases par with ⟨M', σ', w, a1, a2, a3⟩ | ⟨x, M', σ', a1, a2, a3, a4, a5⟩
    · rw [e] at a2
      have e2 : σ = σ' := (Prod.mk.inj (Option.some.inj a2)).2
      obtain ⟨⟨M1, q1, q2, -, -, -, q5, -⟩, -⟩ := a3
      exact absurd i1 (by rw [e2, q5]; exact q2)
    · rw [e] at a2
      have e2 : σ = σ' := (Prod.mk.inj (Option.some.inj a2)).2
      exact Or.inr ⟨x, M', σ', a1, by rw [← a4, e2], a3⟩
  · rw [ifF q]
    rcases par with ⟨M', σ', w, a1, a2, a3⟩ | ⟨x, M', σ', a1, a2, a3, a4, a5⟩
    · rw [a1, a2, ob_some, ifT iv]
      exact Or.inl ⟨M', σ', w, _, rfl, rfl, a3⟩
    · rw [a1, a2, ob_some, ifT iv, a4]
      exact Or.inr ⟨x, M', σ', rfl, rfl, a3⟩
theorem fq_all (W : FW C B P mss fss D M0 σ0) (hV : V ≤ (pl D 98).length ∧ V ≤ 96) (hl : (K ≤ (pl D 106).length ∧ N ≤ 70000) ∧ K2 ≤ (pl D 108).length ∧ N2 ≤ 70000) (hX : ∀ v, v < V → Vx1 D M0 σ0 V K N v) (hQ : ∀ v, v < V → tA σ0 94 v = 1 → Q v) : ∀ c u, u + c = 8 → ∀ h, EvN (PrQ Q D V M0 σ0 u) (PrC D M0 σ0) (PrN D M0 σ0 V K N K2 N2) fxV (k0c c) (t0c c) (Lc c) 0 h ∧ EvC (PrQ Q D V M0 σ0 u) (PrC D M0 σ0) (PrN D M0 σ0 V K N K2 N2) fxC (k0c c) (t0c c) (Lc c) 0 h := by
  have step : ∀ c u, u + c = 8 → (u < 8 → EvN (PrQ Q D V M0 σ0 (u + 1)) (PrC D M0 σ0) (PrN D M0 σ0 V K N K2 N2) fxV (k0c (c - 1)) (t0c (c - 1)) (Lc (c - 1)) 0 100) → ∀ h, EvN (PrQ Q D V M0 σ0 u) (PrC D M0 σ0) (PrN D M0 σ0 V K N K2 N2) fxV (k0c c) (t0c c) (Lc c) 0 h ∧ EvC (PrQ Q D V M0 σ0 u) (PrC D M0 σ0) (PrN D M0 σ0 V K N K2 N2) fxC (k0c c) (t0c c) (Lc c) 0 h := by
    intro c u hu rec h
    have sk := PrQ_sk (u := u) W hV hl
    have := ev_all (x2 := 0) (Lf := LfF V M0 σ0) (L := Lc c) (k0 := k0c c) (t0 := t0c c) sk fx_keq (by unfold Lc; omega) (by unfold k0c; omega) (by unfold t0c; omega) (fun s a n z => by rcases z with z | z <;> exact z) (fun h s a n z => by
      rcases z with z | z
      · exact (nd_noc 106 z).mono (fun _ _ _ w => Or.inl w)
      · exact (nd_noc 108 z).mono (fun _ _ _ w => Or.inr w)) ⟨fun h kf tf s t M σ a n hk ht r0 lf J hs => by
        unfold k0c at hk
        unfold t0c at ht
        unfold Lc at hs
        exact fq_leaf W hV hl hX hQ (by omega) rec r0 lf ⟨by omega, fun z => by unfold k0c; omega⟩ ⟨by omega, fun z => by unfold t0c; omega⟩ (fun z => by unfold Lc; omega) J, fun a n lf => by
        rw [lf.2.2.1]; decide, fun h kf tf s t M σ a n hk ht r0 lf J hs => absurd lf.1 (by decide), fun h evn kf tf s t M σ a n x z hk ht r0 h1 h2 h3 h4 h5 h6 J hs => by
        obtain ⟨kf, rfl⟩ : ∃ g, kf = g + 1 := ⟨kf - 1, by omega⟩
        obtain ⟨tf, rfl⟩ : ∃ g, tf = g + 1 := ⟨tf - 1, by omega⟩
        obtain ⟨⟨i1, i2, i3⟩, -, i6⟩ := sk.1 s t M σ J
        obtain ⟨⟨n1, n2⟩, ⟨n3, n4, n5, n6, n7⟩, n8, n9, n10, n11⟩ := i6 _ _ _ _ r0
        have nr : ¬ mI M 3400 a = 26 ∧ ¬ mI M 3400 a = 27 ∧ ¬ mI M 3400 a = 28 := by
          rw [n3]
          have h2 := h2
          simp only [List.mem_cons, List.not_mem_nil, or_false, Prod.mk.injEq] at h2
          rcases h2 with ⟨q, -⟩ | ⟨q, -⟩ | ⟨q, -⟩ | ⟨q, -⟩ | ⟨q, -⟩ | ⟨q, -⟩ <;> rw [q] <;> decide
        rw [fx_rel n1 nr, t_hRel i1 n2 (n8.trans h1) (by decide)]
        exact ev_live sk (by unfold t0c; omega) evn r0 h2 h3 h4 h5 h6 (by omega) (by omega) J hs⟩ h
    exact ⟨this.1, this.2.1⟩
  intro c
  induction c with
  | zero => exact fun u hu => step 0 u hu (fun z => absurd z (by omega))
  | succ c ih => exact fun u hu => step (c + 1) u hu (fun z => (ih (u + 1) (by omega) 100).1)
end PARQ
