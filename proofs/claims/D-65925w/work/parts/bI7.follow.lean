/-! Layer B: the flat model: a reference is followed, both sides -/
set_option maxRecDepth 100000
/-- nothing but object 1's two results -/
def F2o (M M' : CM) : Prop := Fz (fun o => o = 1) M M' ∧ (mn M' = mn M ∧ ms M' = ms M) ∧ (∀ f o, mI M' f o = mI M f o) ∧ (∀ f o, ¬ (o = 1 ∧ (f = 20 ∨ f = 21)) → mR M' f o = mR M f o) ∧ (∀ o, mk M' o = mk M o ∧ ml M' o = ml M o) ∧ ∀ o k, mA M' o k = mA M o k
section FOLLOW
variable {C : PC} {D D' D2 : FQ} {M M' M1 M2 M3 : CM} {σ σ' σ1 σ2 s : TS} {mss fss ps : List Nat} {B V I Bm b c e f z w q Lp L n j p lr x : Nat} {P T : Nat → Prop} {v v' x2 x3 x4 : Int32} {z7 : Nat → Nat} {S : List Nat}
theorem F2o.rf : F2o M M := ⟨Fz.rf, ⟨rfl, rfl⟩, fun _ _ => rfl, fun _ _ _ => rfl, fun _ => ⟨rfl, rfl⟩, fun _ _ => rfl⟩
theorem F2o.tr (h : F2o M M1) (g : F2o M1 M2) : F2o M M2 := ⟨h.1.tr2 g.1 (fun _ _ z => z), ⟨g.2.1.1.trans h.2.1.1, g.2.1.2.trans h.2.1.2⟩, fun f o => (g.2.2.1 f o).trans (h.2.2.1 f o), fun f o z => (g.2.2.2.1 f o z).trans (h.2.2.2.1 f o z), fun o => ⟨(g.2.2.2.2.1 o).1.trans (h.2.2.2.2.1 o).1, (g.2.2.2.2.1 o).2.trans (h.2.2.2.2.1 o).2⟩, fun o k => (g.2.2.2.2.2 o k).trans (h.2.2.2.2.2 o k)⟩
theorem F2o.wr_ {g : Nat} (hg : g = 20 ∨ g = 21) : F2o M (msR M g 1 x) := ⟨Fz.rf.msR (fun _ => rfl), ⟨rfl, rfl⟩, fun _ _ => rfl, fun f o z => by rw [mR_msR, ifF (fun y => z ⟨y.2, by rw [y.1]; exact hg⟩)], fun _ => ⟨rfl, rfl⟩, fun _ _ => rfl⟩
theorem F2o.fw (h : F2o M M') (W : FW C B P mss fss D M σ) (f : Ft S σ σ') (hK : itK.all (fun k => !S.contains k) = true) : FW C B P mss fss D M' σ' ∧ Wz C C P M M' σ σ' := by
  obtain ⟨h1, h2, h3, h4, h5, h6⟩ := h
  obtain ⟨a, b, -⟩ := W.w2 h1 (fun o _ z => Or.inl (Or.inl (by omega))) h2 (fun o => ⟨h4 _ _ (fun z => by omega), h4 _ _ (fun z => by omega), (h5 o).2⟩) (fun o => h4 _ _ (fun z => by omega)) (h3 _ _) (fun q hq => h4 _ _ (fun z => by
    have := fixO q hq
    omega)) (fun q hq => h3 _ _) f hK
  exact ⟨a, b⟩
theorem F2o.fx (h : F2o M M') (W : FW C B P mss fss D M σ) (FX : FlX z7 C P D mss M σ V I Bm) (f : Ft S σ σ') (hK : (flN ++ itK).all (fun k => !S.contains k) = true) : FlX z7 C P D mss M' σ' V I Bm := by
  have hK2 : itK.all (fun k => !S.contains k) = true := by
    rw [List.all_eq_true] at hK ⊢
    exact fun k hk => hK k (List.mem_append_right _ hk)
  obtain ⟨h1, h2, h3, h4, h5, h6⟩ := id h
  have fq : Fq D (fun t => t = 1) M M' := h1.mono (fun o ho z => by rw [z, tgo_s (by decide)])
  exact FX.kp W fq (fun t z => by rw [z]; unfold TV tg; omega) (fun k hk => ⟨fun f _ => h3 f _, fun f _ => h4 f _ (fun z => by
    have := (W.2.1.2.1 98 (by decide) k (by have := FX.1.1.1; omega)).2.1.1
    omega)⟩) (h.fw W f hK2).2 (Dx.rf D M) f hK ⟨h3 _ _, h3 _ _⟩
theorem F2o.sg (h : F2o M M') (W : FW C B P mss fss D M σ) (f : Ft S σ σ') (hS : S.all fgS.contains = true) : SgX M M' σ σ' := SgX.mk1 (fun o h1 h2 => h.1.so (by have := W.n167; omega) (by omega)) (fun f _ => h.2.2.1 f 1) (f.mono hS)
theorem LpR.mv (h : LpR C M σ Lp) (v : Wz C C P M M' σ σ') (h24 : mI M' 24 1 = mI M 24 1) (h3 : ∀ k, mA M' 103 k = mA M 103 k ∧ mA M' 104 k = mA M 104 k) (f : Ft S σ σ') (hS : [115, 116, 117].all (fun k => !S.contains k) = true) : LpR C M' σ' Lp := by
  have hf : ∀ k, k ∈ [115, 116, 117] → S.contains k = false := fun k hk => by
    have := List.all_eq_true.mp hS k hk
    simpa using this
  obtain ⟨⟨h1, h2, h3'⟩, h4⟩ := h
  refine ⟨⟨by rw [h24]; exact h1, by rw [(f 117 (hf 117 (by decide))).1]; exact h2, h3'⟩, fun j hj => ?_⟩
  obtain ⟨⟨w, a1, a2, a3, a4⟩, a5⟩ := h4 j hj
  rw [(h3 j).1, (h3 j).2, (f 115 (hf 115 (by decide))).2.2.2, (f 116 (hf 116 (by decide))).2.2.1]
  exact ⟨⟨w, a1, a2, a3, by rw [v.2.2.1.2 w a3]; exact a4⟩, a5⟩
/-- one part at a member that isn't outer -/
theorem z_part (hB1 : B ≤ 1280) (W : FW C B P mss fss D M σ) (FX : FlX z7 C P D mss M σ V I Bm) (LP : LpR C M σ Lp) (h0 : tI σ 0 = 0) (hc : c < Bm) (h84 : tA σ 84 c = nI e ∧ e < 480) (ho : tA σ 52 e &&& 16 = 0) (hq : q < 7000) (hp : PtR P (cm C) M σ p q) :
    ∃ f z, (mI M 3005 ((pl D 100).getD c 0) = nI f ∧ tA σ 85 c = nI f) ∧ (tA σ 53 e = nI z ∧ z ≤ 9) ∧ mI M 3004 ((pl D 100).getD c 0) = (if tB σ 51 e = 0 then 1 else 0) ∧ ((tB σ 51 e = 0 ∧ f + many z ≤ V) ∨ (tB σ 51 e ≠ 0 ∧ f + many z ≤ I ∧ ∀ j, j < many z → ∃ n, (f ≤ n ∧ n < I ∧ (j = 0 → n = f)) ∧ Mtc σ c n ∧ tA σ 77 n = nI (if z = 0 then 0 else j + 1))) ∧
    (((∀ rec lr j, KJ_X0_follow_84_15 rec lr (nI j) p ((pl D 100).getD c 0) M = some (.inr (.inr (mn M)), wM M 27 0)) ∧ (∀ rec, J_resolve_93_20 rec (nI q) (nI c) σ = some (.inr (), badT σ 27))) ∨
     (∃ j0, j0 < many z ∧ (∀ rec lr j, KJ_X0_follow_84_15 rec lr (nI j) p ((pl D 100).getD c 0) M = KJ_X0_follow_187_15 rec lr (nI j) ((pl D 100).getD c 0) (nI j0) M) ∧ (∀ rec, J_resolve_93_20 rec (nI q) (nI c) σ = J_resolve_198_20 rec (nI q) (nI c) (nI e) (nI z) (nI (if z = 0 then 0 else j0 + 1)) σ))) := by
  have hm := W.rm
  have h167 := W.n167
  obtain ⟨N, ⟨l1, l2, l3, l4⟩, -, -, mb⟩ := FX
  obtain ⟨⟨ee, ⟨m1, m2⟩, m3⟩, -⟩ := mb c hc
  have e480 := W.e480 m2
  have eq1 : ee = e := by
    rw [h84.1] at m1
    exact ((bI_eq (by omega) (by omega)).mp m1).symm
  subst eq1
  have km : mk M ((pl D 100).getD c 0) = 16 := (W.2.1.2.1 100 (by decide) c (by have := N.1.2.2; omega)).1
  obtain ⟨nb, e2, eo, w, ⟨a1, a2, a3⟩, ⟨a4, a5, a6⟩, -, -, a13, a14, -⟩ := N.2.2.1 c hc
  have eq2 : e2 = ee := by
    rw [h84.1] at a4
    have := W.e480 a5
    exact ((bI_eq (by omega) (by omega)).mp a4).symm
  subst eq2
  obtain ⟨⟨q1, q2⟩, ⟨w1, b1, b2, b3, b4⟩, hix⟩ := hp
  rcases m3 with ⟨y, -⟩ | ⟨-, f, z, y1, y2, y3⟩
  · exact absurd ho y
  refine ⟨f, z, y1, y2, a14, ?_, ?_⟩
  · rcases y3 with ⟨u1, u2, u3, u4⟩ | ⟨u1, u2, u3, k, -⟩
    · exact Or.inl ⟨u1, u4⟩
    · refine Or.inr ⟨u1, u2, fun j hj => ?_⟩
      obtain ⟨n, v1, v2, v3, v4⟩ := u3 j hj
      exact ⟨n, v1, ⟨v2, by rw [v3, h84.1]⟩, v4⟩
  · have iq : inb (nI q) 7000 := inb_nI' hq (by decide)
    have xq : ix (nI q) = q := ix_nI (by omega)
    have ic : inb (nI c) 96001 := inb_nI' (by omega) (by decide)
    have xc : ix (nI c) = c := ix_nI (by omega)
    have ie : inb (nI e2) 481 := inb_nI' (by omega) (by decide)
    have xe : ix (nI e2) = e2 := ix_nI (by omega)
    have e3002 : mI M 3002 ((pl D 100).getD c 0) = nI z := by rw [a13]; exact y2.1
    have hm9 : many z = if z = 0 then 1 else z := rfl
    -- the value of the index
    have val : ∃ v, (∀ rec lr j, KJ_X0_follow_84_15 rec lr (nI j) p ((pl D 100).getD c 0) M = KJ_X0_follow_117_15 rec lr (nI j) p ((pl D 100).getD c 0) v M) ∧ (¬ tA σ 31 q = 0 → F_indexOf (nI q) σ = some (v, σ)) := by
      rcases hix with ⟨i1, i2, i3⟩ | ⟨i1, i2, i3, i4, -⟩ | ⟨i1, i2, ⟨w2, i3, i4, i5, i6⟩, i7, -⟩
      · refine ⟨mI M 1603 p, fun rec lr j => ?_, fun h => absurd i1 h⟩
        unfold KJ_X0_follow_84_15
        rw [ifT q2, i3, ifT (by decide), ifT q2]
      · refine ⟨mI M 1603 p, fun rec lr j => ?_, fun h => ?_⟩
        · unfold KJ_X0_follow_84_15
          rw [ifT q2, i3, ifT (by decide), ifT q2]
        · unfold F_indexOf
          rw [ifT iq, xq, ifT i1, ifT iq, i4]
      · obtain ⟨v1, k1, k2⟩ := k_loopV (w := w2) W LP
        obtain ⟨v2, k3, k4⟩ := t_indexOf hB1 W LP hq (by rw [i1]; decide) i6 i5
        have ev := k2.uq k4
        refine ⟨v1 + mI M 1603 p, fun rec lr j => ?_, fun h => by rw [k3, ev, i7]⟩
        have := (W.wn hB1).2.1
        unfold KJ_X0_follow_84_15
        rw [ifT q2, i3, ifF (show ¬ nI w2 < 0 from by rw [nI_ltL (by omega) (by decide)]; exact Nat.not_lt_zero _), ifT q2, k1, ob_some, ifT q2]
    obtain ⟨v, kv, tv⟩ := val
    have i1601 : (tA σ 31 q = 0 ∧ mI M 1601 p = 0) ∨ (¬ tA σ 31 q = 0 ∧ mI M 1601 p = 1) := by
      rcases hix with ⟨i1, i2, i3⟩ | ⟨i1, i2, i3, i4, -⟩ | ⟨i1, i2, -⟩
      · exact Or.inl ⟨i1, i2⟩
      · exact Or.inr ⟨by rw [i1]; decide, i2⟩
      · exact Or.inr ⟨by rw [i1]; decide, i2⟩
    have th : ∀ rec, J_resolve_93_20 rec (nI q) (nI c) σ = if tA σ 31 q = 0 then J_resolve_134_20 rec (nI q) (nI c) (nI e2) (nI z) 0 σ else J_resolve_134_20 rec (nI q) (nI c) (nI e2) (nI z) 1 σ := fun rec => by
      unfold J_resolve_93_20
      rw [t_isBad0 h0, ob_some, ifT (rfl : (0 : Int32) = 0), ifT ic, xc, h84.1, nm_eq, ifT ie, xe, y2.1, nm_eq, ifT iq, xq]
    have wr : ∀ (rec : Nat → Nat → Int32 → CM → Option ((Unit ⊕ (Unit ⊕ Nat)) × CM)), (ob (K_X0_wrong 27 0 M) fun r M26 => if mk M26 r = 7 then some ((.inr (.inr r) : Unit ⊕ (Unit ⊕ Nat)), M26) else none) = some (.inr (.inr (mn M)), wM M 27 0) := fun _ => by
      rw [k_wrong (by omega) (by omega), ob_some, ifT (wM_k M 27 0)]
    have tb : (ob (F_bad 27 0 σ) fun _ s => some ((.inr () : Unit ⊕ Unit), s)) = some (.inr (), badT σ 27) := by rw [t_badT h0, ob_some]
    by_cases zz : z = 0
    · -- not an array
      have c0 : nI z ≤ 0 := by rw [zz]; decide
      rcases i1601 with ⟨o1, o2⟩ | ⟨o1, o2⟩
      · right
        refine ⟨0, by rw [hm9, ifT zz]; decide, fun rec lr j => ?_, fun rec => ?_⟩
        · rw [kv]
          unfold KJ_X0_follow_117_15 KJ_X0_follow_137_15 KJ_X0_follow_171_15
          rw [ifT q2, ifT km, e3002, ifT c0, o2, ifT rfl, ifT km, ifT c0, ifT km, ifT c0]; rfl
        · rw [th, ifT o1]
          unfold J_resolve_134_20 J_resolve_144_20 J_resolve_170_20
          rw [ifT c0, ifT rfl, ifT c0, ifT c0, ifT zz]; rfl
      · left
        refine ⟨fun rec lr j => ?_, fun rec => ?_⟩
        · rw [kv]
          unfold KJ_X0_follow_117_15 KJ_X0_follow_137_15
          rw [ifT q2, ifT km, e3002, ifT c0, o2, ifF (show ¬ (1 : Int32) = 0 by decide)]
          exact wr rec
        · rw [th, ifF o1]
          unfold J_resolve_134_20 J_resolve_144_20
          rw [ifT c0, ifF (show ¬ (1 : Int32) = 0 by decide)]
          exact tb
    · have c0 : ¬ nI z ≤ 0 := by rw [show (0 : Int32) = nI 0 from rfl, bI_le (by omega) (by decide)]; omega
      rcases i1601 with ⟨o1, o2⟩ | ⟨o1, o2⟩
      · left
        refine ⟨fun rec lr j => ?_, fun rec => ?_⟩
        · rw [kv]
          unfold KJ_X0_follow_117_15 KJ_X0_follow_137_15
          rw [ifT q2, ifT km, e3002, ifF c0, o2, ifF (show ¬ (0 : Int32) = 1 by decide)]
          exact wr rec
        · rw [th, ifT o1]
          unfold J_resolve_134_20 J_resolve_144_20
          rw [ifF c0, ifF (show ¬ (0 : Int32) = 1 by decide)]
          exact tb
      · have kk : ∀ (rec : Nat → Nat → Int32 → CM → Option ((Unit ⊕ (Unit ⊕ Nat)) × CM)) lr j, KJ_X0_follow_84_15 rec lr (nI j) p ((pl D 100).getD c 0) M = if v < 1 then some (.inr (.inr (mn M)), wM M 27 0) else if v ≤ nI z then KJ_X0_follow_187_15 rec lr (nI j) ((pl D 100).getD c 0) (v - 1) M else some (.inr (.inr (mn M)), wM M 27 0) := fun rec lr j => by
          rw [kv]
          unfold KJ_X0_follow_117_15 KJ_X0_follow_137_15 KJ_X0_follow_171_15
          rw [ifT q2, ifT km, e3002, ifF c0, o2, ifT rfl, ifT km, ifF c0]
          by_cases g1 : v < 1
          · rw [ifT g1, ifT g1]; exact wr rec
          · rw [ifF g1, ifF g1, ifT km]
            by_cases g2 : v ≤ nI z
            · rw [ifT g2, ifT g2, ifT km, ifF c0]
            · rw [ifF g2, ifF g2]; exact wr rec
        have tt : ∀ rec, J_resolve_93_20 rec (nI q) (nI c) σ = if v < 1 then some (.inr (), badT σ 27) else if v ≤ nI z then J_resolve_198_20 rec (nI q) (nI c) (nI e2) (nI z) v σ else some (.inr (), badT σ 27) := fun rec => by
          rw [th, ifF o1]
          unfold J_resolve_134_20 J_resolve_144_20 J_resolve_170_20
          rw [ifF c0, ifT rfl, ifF c0, tv o1, ob_some, ifF c0]
          by_cases g1 : v < 1
          · rw [ifT g1, ifT g1]; exact tb
          · rw [ifF g1, ifF g1]
            by_cases g2 : v ≤ nI z
            · rw [ifT g2, ifT g2]
            · rw [ifF g2, ifF g2]; exact tb
        by_cases g1 : v < 1
        · left
          exact ⟨fun rec lr j => by rw [kk, ifT g1], fun rec => by rw [tt, ifT g1]⟩
        · by_cases g2 : v ≤ nI z
          · right
            have hv : ∃ k, v = nI (k + 1) ∧ k < z := by
              have small : ∀ zz, zz ≤ 9 → ∀ v : Int32, ¬ v < 1 → v ≤ nI zz → ∃ k, v = nI (k + 1) ∧ k < zz := by
                intro zz hz v g1 g2
                have a1 : (1 : Int32) ≤ v := Int32.not_lt.mp g1
                have b1 := Int32.le_iff_toInt_le.mp a1
                have b2 := Int32.le_iff_toInt_le.mp g2
                have b3 : (nI zz).toInt = zz := by
                  have : ∀ zz, zz ≤ 9 → (nI zz).toInt = zz := by decide
                  exact this zz hz
                have b4 : (1 : Int32).toInt = 1 := by decide
                rw [b3] at b2
                rw [b4] at b1
                refine ⟨v.toInt.toNat - 1, ?_, by omega⟩
                have e1 : v.toInt.toNat - 1 + 1 = v.toInt.toNat := by omega
                rw [e1]
                apply Int32.toInt_inj.mp
                have : ∀ k, k ≤ 9 → (nI k).toInt = k := by decide
                rw [this _ (by omega)]
                omega
              exact small z y2.2 v g1 g2
            obtain ⟨k, k1, k2⟩ := hv
            refine ⟨k, by rw [hm9, ifF zz]; exact k2, fun rec lr j => ?_, fun rec => ?_⟩
            · rw [kk, ifF g1, ifT g2, k1, nI_subL _ _ (by show 1 ≤ k + 1; omega)]; rfl
            · rw [tt, ifF g1, ifT g2, k1, ifF zz]
          · left
            exact ⟨fun rec lr j => by rw [kk, ifF g1, ifF g2], fun rec => by rw [tt, ifF g1, ifF g2]⟩
end FOLLOW
