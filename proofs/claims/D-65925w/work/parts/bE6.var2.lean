/-! Layer B: the flat model: one variable more, in the whole state -/
set_option maxRecDepth 100000
/-- what the twin has written of variable V -/
def VwT (σ σ' : TS) (V i e fl x env : Nat) (p : Int32 × Int32) (q : Int32) (q2 : Int32) : Prop := Ft [93, 94, 95, 96, 97, 98, 99, 100, 101, 102, 103, 107] σ σ' ∧ (tI σ' 107 = nI (V + 1) ∧ tI σ' 93 = nI env) ∧ (∀ f, f ∈ [94, 95, 96, 97, 98, 99, 100, 101, 102, 103] → ∀ j, j ≠ V → tA σ' f j = tA σ f j) ∧ (tA σ' 94 V = vKind fl ∧ tA σ' 99 V = vFlow fl ∧ tA σ' 95 V = tA σ 54 e ∧ tA σ' 96 V = nI i ∧ tA σ' 97 V = nI e ∧ tA σ' 98 V = nI x) ∧ (tA σ' 100 V = p.1 ∧ tA σ' 101 V = p.2) ∧ tA σ' 102 V = q ∧ (tA σ' 102 V ≠ 0 → tA σ' 103 V = q2)
section VAR2
variable {C C' : PC} {D D' D2 : FQ} {M M' M1 M2 : CM} {σ σ' σ2 : TS} {mss fss xs bs qs os : List Nat} {B l k n o m u w Q I I' L V V' Bm Bm' b v r R E E' cr i k0 fr e eo fl z env kk : Nat} {P P' X T : Nat → Prop} {S S' : List Nat} {a : Nat × Nat × Nat} {W W1 W2 : List (Nat × Nat × Nat)} {x : Int64} {α : Type} {p : Int32 × Int32} {q q2 : Int32}
theorem RwS.fq (W : PoW D M) (h : r < (pl D 101).length) (hx : Dx D D' M) (F : Fq D T M M') (hT : ¬ T (tg 101 r)) : RwS D M D' M' r ∧ hit D' M' r = hit D M r := RwS.so h hx (W.so3 (by decide) h F hT)
theorem FiS.lens (F : FiS C B P mss fss D M σ V I Bm cr R E) : (V ≤ 96 ∧ I ≤ 200 ∧ Bm ≤ 20000 ∧ R ≤ 33300) ∧ V ≤ (pl D 98).length ∧ I ≤ (pl D 99).length ∧ Bm ≤ (pl D 100).length ∧ R ≤ (pl D 101).length := by
  have l100 := (F.1.2.1.1 100 (by decide)).2.2
  have l101 := (F.1.2.1.1 101 (by decide)).2.2
  have e100 : flX 100 = 20000 := rfl
  have e101 : flX 101 = 33300 := rfl
  have h := F.2.1.1
  have r := F.r18.2
  have a := F.2.2.1
  exact ⟨⟨a.1.2.2, a.2.1.2.2, by omega, by omega⟩, h.1, h.2.1, h.2.2, r⟩
theorem ElV.wz (h : ElV P M σ eo e w fl z) (v : Wz C C' P M M' σ σ') (f : Ft S σ σ') (hS : S.all fiS.contains = true) : ElV P M' σ' eo e w fl z := by
  obtain ⟨p, k, ⟨h1, h2⟩, ⟨h3, h4, h5⟩, ⟨h6, h7, h8⟩, pu, u1, u2, vv, u3, u4⟩ := h
  have f2 := f.mono (S' := fiS) hS
  have s := v.2.1.1 eo p
  have su := v.2.1.1 _ pu
  refine ⟨p, by rw [s.k]; exact k, ⟨by rw [s.i]; exact h1, h2⟩, ⟨by rw [s.i]; exact h3, by rw [(f2 53 rfl).2.2.1]; exact h4, h5⟩, ⟨h6, by rw [s.i]; exact h7, by rw [(f2 52 rfl).2.2.1]; exact h8⟩, by rw [s.r]; exact pu, ?_, ?_, vv, fun k hk => ?_, by rw [(f2 54 rfl).2.2.1]; exact u4⟩
  · rw [s.r, su.k]; exact u1
  · rw [s.r, su.l]; exact u2
  · rw [s.r, su.a]; exact u3 k hk
set_option maxHeartbeats 1000000 in
theorem FiS.var1 {y5 y6 y7 y8 : Nat} (F : FiS C B P mss fss D M σ V I Bm cr R E) (hV : V < 96) (hi : i < I) (hb : b < Bm) (hz : mI M 3002 ((pl D 100).getD b 0) = nI z) (hkk : kk < many z) (he : ElV P M σ eo e w fl z) (hw : w < 38 + cm C ∧ tB σ 50 e = wc M w) (he58 : e < ix (tI σ 58)) (a1 : AxR C P D M σ I y5 y6 p.1 p.2) (a2 : AxR C P D M σ I y7 y8 q q2) (hT : VwT σ σ' V i e fl (if z = 0 then 0 else kk + 1) env p q q2) : ∃ D' M', (∀ f, KL_X0_variables_171 (f + 1) ((pl D 99).getD i 0) ((pl D 100).getD b 0) eo y5 y6 y7 y8 (nI kk) M = KL_X0_variables_171 f ((pl D 99).getD i 0) ((pl D 100).getD b 0) eo y5 y6 y7 y8 (nI (kk + 1)) M') ∧ FiS C B P mss fss D' M' σ' (V + 1) I Bm cr R env ∧ Wz C C P M M' σ σ' ∧ Dx D D' M ∧ (∀ r, r < R → RwS D M D' M' r ∧ hit D' M' r = hit D M r) ∧ Fq D (Tv V) M M' ∧ O1 [15] M M' := by
  have hW := F.1
  have h167 := hW.n167
  have hm := hW.rm
  obtain ⟨⟨l1, l2, l3, l4⟩, l98, l99, l100, l101⟩ := F.lens
  obtain ⟨f, ⟨t107, t93⟩, tO, ⟨t94, t99, t95, t96, t97, t98⟩, ⟨t100, t101⟩, t102, t103⟩ := hT
  have F0 := F
  obtain ⟨-, hN, ⟨⟨b1, b2, b3⟩, ⟨b4, b5, b6⟩, b7, b8⟩, ⟨g, g1, g2, g3, g4⟩, ⟨r1, r2⟩, ⟨e1, e2⟩, os, o1, o2, o3, o4⟩ := F
  obtain ⟨D', M1, c1, c2, c3, c4, c5, c6, c7, c8, c9⟩ := k_newVar hW.2.1 h167 b1 l98 hV hW.rN hW.rS
  have n1 := c6.1
  have fq1 : Fq D (fun t => t = 1 ∨ t = 98) M M1 := c6.mono (fun o ho y => by
    rcases y with y | y | y
    · rw [y, tgo_s (by decide)]; exact Or.inl rfl
    · rw [y, tgo_s (by decide)]; exact Or.inr rfl
    · exact Or.inr ((hW.2.1.1 98 (by decide)).2.1.tg (by omega) ho y))
  obtain ⟨W1, v1⟩ := hW.mv (fq1.mono (fun t y => by unfold TFf; omega)) c7 (by decide) c2 c4 c9 (Ft.rf [] σ) (by decide)
  obtain ⟨d1, d2, d3⟩ := c2.2.1 98 (by decide) V c3
  obtain ⟨d4, d5, d6⟩ := c2.2.2.1 V c3
  generalize hvo : (pl D' 98).getD V 0 = vo at *
  generalize huo : mR M1 3204 vo = uo at *
  have he1 := he.wz v1 (Ft.rf [] σ) (by decide)
  obtain ⟨pe, ke, ⟨hw1, hw38⟩, ⟨hz1, hz2, hz9⟩, ⟨hfl, hf1, hf2⟩, pu, u1, u2, vv, u3, u4⟩ := he1
  obtain ⟨io, hio⟩ : ∃ io, io = (pl D 99).getD i 0 := ⟨_, rfl⟩
  obtain ⟨MV, hMV⟩ : ∃ N, N = mkV M1 vo uo io eo (nI w) (nI (if z = 0 then 0 else kk + 1)) (vKind fl) (vFlow fl) y5 y6 y7 y8 := ⟨_, rfl⟩
  have F2 : Fz (fun o => o = vo ∨ o = uo) M1 MV := by rw [hMV]; exact mkV_f
  have vv2 := mkV_v (M := M1) (vo := vo) (uo := uo) (io := io) (eo := eo) (w := nI w) (idx := nI (if z = 0 then 0 else kk + 1)) (kd := vKind fl) (fw := vFlow fl) (y5 := y5) (y6 := y6) (y7 := y7) (y8 := y8)
  rw [← hMV] at vv2
  obtain ⟨⟨m1, m2, m3, m4, m5⟩, ⟨m6, m7, m8, m9⟩, m10, m11, m12, m13⟩ := vv2
  have hV98 : V < 40000 := by omega
  have tgv : tg 98 V = 98000000 + V ∧ tg 200 V = 200000000 + V := by unfold tg; omega
  have P2 : PoW D' MV := c2.gen (by omega) F2 (fun o ho y => by
    rcases y with y | y
    · rw [y, d3]; exact Or.inr ⟨d2.1, by omega, fun k => by unfold tg; omega⟩
    · rw [y, d6]; exact Or.inr ⟨d5.1, by omega, fun k => by unfold tg; omega⟩) (fun k _ => (m11 _).1) (fun k _ => (m11 _).2.1) (fun o h1 h2 => by omega)
  have fq2 : Fq D' (Tv V) M1 MV := F2.mono (fun o ho y => by
    rcases y with y | y
    · rw [y, tgo_d d2.1, d3]; exact Or.inr (Or.inr (Or.inl rfl))
    · rw [y, tgo_d d5.1, d6]; exact Or.inr (Or.inr (Or.inr rfl)))
  have fq : Fq D (Tv V) M MV := (fq1.mono (fun t y => by unfold Tv; omega)).tr fq2 c4
  have s1 : So M1 MV 1 := F2.so (by omega) (by omega)
  have oo : O1 [15] M MV := c7.tr (O1.so s1)
  have rm := rm_same (D := D') (M := M1) (M' := MV) ⟨m12, m13⟩ (fun o => ⟨(m11 o).2.1, (m11 o).2.2.1, (m11 o).2.2.2.1⟩)
  have tTF : ∀ t, Tv V t → TFf t := fun t y => by unfold Tv at y; unfold TFf; omega
  obtain ⟨W2, v2⟩ := hW.mv (fq.mono tTF) oo (by decide) P2 c4 (by rw [rm.1, rm.2]; exact c9) f (by decide)
  have tk : Tk σ σ' V I Bm := ⟨fun g hg n _ => (f g (by simp only [List.mem_cons, List.not_mem_nil, or_false] at hg; rcases hg with rfl | rfl | rfl | rfl | rfl <;> rfl)).2.2.1 n, fun g hg n _ => (f g (by simp only [List.mem_cons, List.not_mem_nil, or_false] at hg; rcases hg with rfl | rfl | rfl <;> rfl)).2.2.1 n, fun g hg n hn => tO g hg n (by omega)⟩
  have N := hN.kp hW.2.1 fq (fun t y => by
    unfold Tv at y
    refine ⟨fun v hv => ?_, fun n hn => ?_, fun b hb => ?_⟩ <;> unfold tg at * <;> omega) v2 c4 tk
  have e99 : (pl D' 99).getD i 0 = io := by rw [hio]; exact (c4.1 99 i (by omega)).2
  have hm9 : (if z = 0 then 0 else kk + 1) ≤ 9 := by
    unfold many at hkk
    by_cases y : z = 0
    · rw [ifT y]; omega
    · rw [ifF y] at hkk ⊢; omega
  have nw : VrR 0 C P D' MV σ' I V := by
    unfold VrR VzR
    rw [hvo]
    refine ⟨⟨i, e, w, ⟨hi, by rw [m1, e99], t96⟩, ⟨t97, by rw [(f 58 rfl).1]; exact he58⟩, m2, hw38, hw.1, by rw [(f 50 rfl).2.2.2, hw.2]; exact (v2.2.2.1.2 w hw.1).symm⟩, ⟨_, hm9, m3, t98⟩, ?_, ⟨vv, fun k hk => ?_, ?_⟩, ?_, ?_, ?_, fun _ => by rw [hMV]; exact mkV_z⟩
    · rw [m4, t94]
      unfold vKind
      by_cases y1 : nI fl &&& 1 = 0
      · rw [ifT y1]
        by_cases y2 : nI fl &&& 4 = 0
        · rw [ifT y2]; exact ⟨0, by decide, rfl, rfl⟩
        · rw [ifF y2]; exact ⟨2, by decide, rfl, rfl⟩
      · rw [ifF y1]; exact ⟨1, by decide, rfl, rfl⟩
    · rw [(m11 vo).1, huo, m10 k hk]; exact u3 k hk
    · rw [t95]; exact u4
    · rw [m5, t99]
      unfold vFlow
      by_cases y : nI fl &&& 2 = 0
      · rw [ifT y]; exact Or.inl ⟨rfl, rfl⟩
      · rw [ifF y]; exact Or.inr ⟨rfl, rfl⟩
    · rw [m6, m7, t100, t101]
      exact a1.mv v2 (fun _ z => z) c4 l99 (Nat.le_refl _)
    · rw [m8, m9]
      by_cases y : tA σ' 102 V = 0
      · rw [y]
        rcases a2 with ⟨a2, _⟩ | ⟨_, n, d, h1, h2, h3, _⟩
        · exact Or.inl ⟨a2, rfl⟩
        · rw [t102, h1] at y
          have := (bI_eq (b := 0) (by omega) (by decide)).mp y
          omega
      · rw [t103 y, t102]
        exact a2.mv v2 (fun _ z => z) c4 l99 (Nat.le_refl _)
  have N2 : FIn C P D' mss MV σ' (V + 1) I Bm := ⟨⟨by omega, N.1.2.1, N.1.2.2⟩, N.2.1, N.2.2.1, fun k hk => by
    by_cases y : k = V
    · rw [y]; exact nw
    · exact N.2.2.2 k (by omega)⟩
  have L102 : pl D' 102 = pl D 102 := c5 102 (by decide)
  have mp : (os.map fun b => (pl D' 100).getD b 0) = os.map fun b => (pl D 100).getD b 0 := List.map_congr_left (fun b hb => by rw [c5 100 (by decide)])
  have kmo := (hW.2.1.2.1 100 (by decide) b (by omega)).1
  refine ⟨D', MV, fun g => ?_, ⟨W2, N2, ⟨⟨by rw [s1.i]; exact c8, t107, by omega⟩, ⟨by rw [oo.1 16 rfl]; exact b4, by rw [(f 82 rfl).1]; exact b5, b6⟩, by rw [oo.1 17 rfl]; exact b7, by rw [(f 89 rfl).1]; exact b8⟩, ⟨g, by rw [oo.1 31 rfl]; exact g1, by rw [(f 132 rfl).1]; exact g2, g3, g4⟩, ⟨by rw [oo.1 18 rfl]; exact r1, by rw [c5 101 (by decide)]; exact r2⟩, ⟨t93, by rw [(f 0 rfl).1]; exact e2⟩, os, ?_, ?_, o3, fun b hb => ⟨(o4 b hb).1, (o4 b hb).2.mv ((f 84 rfl).2.2.1 b) (f 52 rfl).2.2.1⟩⟩, v2, c4, fun r hr => RwS.fq hW.2.1 (by omega) c4 fq (fun y => by unfold Tv tg at y; omega), fq, oo⟩
  · rw [← hio, hMV]
    exact k_var1 ⟨kmo, hz⟩ hkk c1 d1 ⟨huo, d4.1, d4.2⟩ ⟨pe, ke, ⟨hw1, hw38⟩, ⟨hz1, hz2, hz9⟩, ⟨hfl, hf1, hf2⟩, pu, u1, u2, vv, u3, u4⟩
  · rw [mp, ← o2, ← L102]
    exact (W2.2.1.1 102 (by decide)).1
  · rw [mp, L102]; exact o2
end VAR2
