/-! Layer B: the flat model: a call begins, a call ends -/
set_option maxRecDepth 100000
def pshT (σ : TS) (dc p : Nat) (tw : Int32) : TS := tsA (tsA (tsI σ 137 (nI (dc + 1))) 135 (dc + 1) (nI p)) 136 (dc + 1) tw
section CALLS
variable {C : PC} {D D' D1 D2 : FQ} {M M' M1 M2 M3 : CM} {σ σ' σ1 σ2 : TS} {mss fss ps : List Nat} {B V I Bm b c e f z w q Lp dc n j p x o o1 o2 o3 md x0 l X N0 K K' K1 N N' N1 ar nf d h s s1 s2 a i u1 u2 u3 v : Nat} {P T : Nat → Prop} {x3 x4 tw op op' vl y y2 y3 y4 tok kop u : Int32} {z7 : Nat → Nat} {S : List Nat} {kr : Option ((Nat ⊕ Nat) × CM)} {tr : Option (Int32 × TS)} {cfK : Nat → Nat → Int32 → Int32 → Int32 → CM → Option ((Nat ⊕ Nat) × CM)} {cfT : Int32 → Int32 → Int32 → Int32 → TS → Option (Int32 × TS)} {kk : Nat → CM → Option ((Nat ⊕ Nat) × CM)} {tt : Int32 → TS → Option (Int32 × TS)}
variable {as : List Nat}
theorem NdS.kp (h : NdS md x0 l X N0 D M σ K N) (h27 : mR M' 27 1 = mR M 27 1) (hi : ∀ f, mI M' f x0 = mI M f x0) (hp : pl D' l = pl D l) (f : Ft S σ σ') (hS : [121, 122, 123, 124, 126, 127, 129, 130, 131].all (fun k => !S.contains k) = true) : NdS md x0 l X N0 D' M' σ' K N := by
  have hf : ∀ k, k ∈ [126, 127, 129, 130, 131] → tI σ' k = tI σ k := fun k hk => (f k (by simpa using List.all_eq_true.mp hS k (by simp only [List.mem_cons, List.not_mem_nil, or_false] at hk ⊢; omega))).1
  have hf4 : [121, 122, 123, 124].all (fun k => !S.contains k) = true := List.all_eq_true.mpr (fun k hk => List.all_eq_true.mp hS k (by simp only [List.mem_cons, List.not_mem_nil, or_false] at hk ⊢; omega))
  obtain ⟨⟨n1, n2⟩, ⟨n3, n4, n5, n6⟩, ⟨n7, n8⟩, n9, n10, n11, n12, n13⟩ := h
  refine ⟨⟨h27.trans n1, n2⟩, ⟨(hi _).trans n3, by rw [hp]; exact n4, n5, (hi _).trans n6⟩, ⟨(hf 126 (by decide)).trans n7, n8⟩, ?_, n10, n11, n12, n13.ft f hf4⟩
  rcases n9 with ⟨q1, q2, q3⟩ | ⟨q1, q2, q3, q4⟩ | ⟨q1, q2, q3⟩
  · exact Or.inl ⟨q1, (hf 129 (by decide)).trans q2, (hf 127 (by decide)).trans q3⟩
  · exact Or.inr (Or.inl ⟨q1, (hf 129 (by decide)).trans q2, by rw [hf 130 (by decide)]; exact q3, (hf 131 (by decide)).trans q4⟩)
  · exact Or.inr (Or.inr ⟨q1, (hf 129 (by decide)).trans q2, (hf 130 (by decide)).trans q3⟩)
/-- what nobody but the rows of calls sees -/
def Q9 (t : Nat) : Prop := t = 109 ∨ t = 110
theorem Fq.q9s (F : Fq D Q9 M M') (hn : 167 ≤ mn M) (h : o < 167) (h9 : o ≠ 109 ∧ o ≠ 110) : So M M' o := Fz.so F (by omega) (fun z => by rw [tgo_s h] at z; rcases z with z | z <;> omega)
theorem Fq.q9o (W : FW C B P mss fss D M σ) (F : Fq D Q9 M M') {l' k : Nat} (hl : l' ∈ flL) (hk : k < (pl D l').length) : So M M' ((pl D l').getD k 0) := by
  obtain ⟨-, a2, a3⟩ := W.2.1.2.1 l' hl k hk
  have := flA_rng l' (flL_A l' hl)
  exact Fz.so F a2.2 (fun z => by rw [tgo_d a2.1, a3] at z; unfold tg at z; rcases z with z | z <;> omega)
/-- the part of a step that calls leave -/
theorem FSt.q9 (Fs : FSt md x0 l X N0 z7 C B P mss fss D M σ V I Bm K N Lp dc x3) (F : Fq D Q9 M M') (hp : ∀ i, i ≠ 109 → pl D' i = pl D i) (W' : FW C B P mss fss D' M' σ') (FX' : FlX z7 C P D' mss M' σ' V I Bm) (v : Wz C C P M M' σ σ') (f : Ft [135, 136, 137] σ σ') : NdS md x0 l X N0 D' M' σ' K N ∧ LpR C M' σ' Lp ∧ NdK D M σ D' M' σ' l K N ∧ SgX M M' σ σ' ∧ ((∀ f, mI M' f 1 = mI M f 1) ∧ (∀ f, f ≠ 20 → f ≠ 21 → mR M' f 1 = mR M f 1) ∧ Fq D (TB x0 l) M M') := by
  have h167 := Fs.1.n167
  have nl := Fs.nl
  obtain ⟨W, FX, NS, LP, CA, -⟩ := Fs
  have s1 := F.q9s h167 (o := 1) (by decide) (by decide)
  have ax : x0 < 167 ∧ x0 ≠ 109 ∧ x0 ≠ 110 ∧ l ∈ flL := by
    rcases NS.1.2 with ⟨rfl, rfl, rfl, -⟩ | ⟨rfl, rfl, rfl, -⟩ | ⟨rfl, rfl, rfl, -⟩ | ⟨rfl, rfl, rfl, -⟩ <;> decide
  have sx := F.q9s h167 (o := x0) ax.1 ⟨ax.2.1, ax.2.2.1⟩
  have s3 := F.q9s h167 (o := 103) (by decide) (by decide)
  have s4 := F.q9s h167 (o := 104) (by decide) (by decide)
  have hl : pl D' l = pl D l := hp l (fun z => nl.2.2.2.1 z)
  refine ⟨NS.kp (s1.r 27) (fun f => sx.i f) hl f (by decide), LP.mv v (s1.i 24) (fun k => ⟨s3.a k, s4.a k⟩) f (by decide), ⟨fun k hk => ?_, fun g hg n _ => ?_, fun v => (f 94 rfl).2.2.1 v⟩, SgX.mk1 (fun o h1 h2 => F.q9s h167 (by omega) ⟨by omega, by omega⟩) (fun f _ => s1.i f) (f.mono (by decide)), fun f => s1.i f, fun f _ _ => s1.r f, Fq.mono F (fun t z => by unfold TB; rcases z with z | z; exact Or.inr (Or.inl z); exact Or.inr (Or.inr (Or.inl z)))⟩
  · have so := Fq.q9o W F ax.2.2.2 (show k < (pl D l).length by have := NS.2.1.2.1; omega)
    rw [hl]
    exact ⟨rfl, fun f _ => so.i f, fun f _ => so.r f⟩
  · simp only [List.mem_cons, List.not_mem_nil, or_false] at hg
    rcases hg with rfl | rfl | rfl | rfl | rfl | rfl <;> exact (f _ rfl).2.2.1 n
theorem tv9 : ∀ t, Q9 t → TV t := fun t z => by unfold TV tg; rcases z with z | z <;> rw [z] <;> omega
/-- a call begins -/
theorem FSt.psh (Fs : FSt md x0 l X N0 z7 C B P mss fss D M σ V I Bm K N Lp dc x3) (hdc : dc < 100) (Po : P o ∧ mk M o = 8) (hls : LsP P M (mR M 1406 o) as) (hp : p < 9000) (hnf : nf ≤ cnf C) (ag : AgR (AR P (tN σ) (tQ σ) (cm C) ar nf (cfn C) M σ d 0) (cfn C 1000) (tN σ) σ as p) (cx : CaX P D M x4 tw dc ar) : ∃ D1 M1, K_J2_add 109 o M = some (1, M1) ∧ K_J2_size 109 M1 = some (nI (dc + 1), M1) ∧ FSt md x0 l X N0 z7 C B P mss fss D1 (mwA M1 110 dc x4) (pshT σ dc p tw) V I Bm K N Lp (dc + 1) x3 ∧ Wz C C P M (mwA M1 110 dc x4) σ (pshT σ dc p tw) ∧ Dx D D1 M ∧ NdK D M σ D1 (mwA M1 110 dc x4) (pshT σ dc p tw) l K N ∧ SgX M (mwA M1 110 dc x4) σ (pshT σ dc p tw) ∧ Ft [135, 136, 137] σ (pshT σ dc p tw) ∧ (∀ k, k ≤ dc → tA (pshT σ dc p tw) 135 k = tA σ 135 k ∧ tA (pshT σ dc p tw) 136 k = tA σ 136 k) ∧ ((∀ f, mI (mwA M1 110 dc x4) f 1 = mI M f 1) ∧ (∀ f, f ≠ 20 → f ≠ 21 → mR (mwA M1 110 dc x4) f 1 = mR M f 1) ∧ Fq D (TB x0 l) M (mwA M1 110 dc x4)) ∧ (∀ k, k < dc → mA (mwA M1 110 dc x4) 110 k = mA M 110 k) ∧ (∀ i, i ≠ 109 → pl D1 i = pl D i) ∧ pl D1 109 = pl D 109 ++ [o] := by
  have W := Fs.1
  have FX := Fs.2.1
  have h167 := W.n167
  have rm := W.rm
  have Fs0 := Fs
  obtain ⟨-, -, -, -, CA, ⟨hd1, hd2, hd3⟩, hx3, h0⟩ := Fs
  have po := W.1.2.2.2.2.2.1.1 o Po.1
  obtain ⟨D1, M1, a1, a2, a3, a4, a5, a6, a7, a8⟩ := row_add (l := 109) (x := o) W.2.1 h167 (Or.inr rfl) (by rw [hd1]; show dc < 101; omega) (Or.inl ⟨po.2.1.2, by rw [Po.2]; decide, by rw [Po.2]; decide⟩) W.rN W.rS
  have fq1 : Fq D (fun t => t = 109) M M1 := a6.mono (fun o ho z => by
    rcases z with z | z
    · rw [z, tgo_s (by omega)]
    · exact (W.2.1.1 109 (by decide)).2.1.tg (by omega) ho z)
  have s1 : So M M1 1 := Fz.so fq1 (by omega) (fun z => by rw [tgo_s (by decide)] at z; omega)
  obtain ⟨W1, v1⟩ := W.mv2 (fq1.mono (fun t z => by rw [z]; unfold TG; omega)) (s1.i 9) a2 a5 ⟨a7, a8⟩ (fun q hq => by
    have := fixO q hq
    have r : ∀ q, q ∈ bfR → q.2.1 ≠ 109 := by decide +kernel
    have r := r q hq
    exact (Fz.so fq1 (by omega) (fun z => by rw [tgo_s (by omega)] at z; omega) : So M M1 q.2.1).r _) (fun q hq => by
    have := fixI q hq
    have r : ∀ q, q ∈ bfI → q.2.1 ≠ 109 := by decide +kernel
    have r := r q hq
    exact (Fz.so fq1 (by omega) (fun z => by rw [tgo_s (by omega)] at z; omega) : So M M1 q.2.1).i _) (Ft.rf [] σ) (by decide)
  have n1 := v1.1.1
  obtain ⟨M2, hM2⟩ : ∃ N, N = mwA M1 110 dc x4 := ⟨_, rfl⟩
  have F2 : Fz (fun o => o = 110) M1 M2 := by rw [hM2]; exact Fz.rf.mwA (fun _ => rfl)
  obtain ⟨σ2, hσ2⟩ : ∃ s, s = pshT σ dc p tw := ⟨_, rfl⟩
  have f : Ft [135, 136, 137] σ σ2 := by rw [hσ2]; exact (((Ft.rf _ σ).p_tsI rfl).p_tsA rfl).p_tsA rfl
  have e2i : ∀ g o, mI M2 g o = mI M1 g o := fun g o => by rw [hM2]; rfl
  have e2r : ∀ g o, mR M2 g o = mR M1 g o := fun g o => by rw [hM2]; rfl
  obtain ⟨W2, v2, -⟩ := W1.w2 F2 (fun o _ z => Or.inl (Or.inr (by rw [z]; decide))) (by rw [hM2]; exact ⟨rfl, rfl⟩) (fun o => by rw [hM2]; exact ⟨rfl, rfl, rfl⟩) (fun o => e2r _ _) (e2i _ _) (fun q hq => e2r _ _) (fun q hq => e2i _ _) f (by decide)
  have v := v1.tr v2 (fun _ z => z)
  have fq : Fq D Q9 M M2 := by
    refine Fz.tr2 (fq1.mono (fun o z => Or.inl z)) F2 (fun o ho z => Or.inr ?_)
    show tgof D o = 110
    rw [z, tgo_s (by decide)]
  have s12 := fq.q9s h167 (o := 1) (by decide) (by decide)
  have FX2 : FlX z7 C P D1 mss M2 σ2 V I Bm := FX.kp W fq tv9 (fun k hk => by
    have so := Fq.q9o W fq (l' := 98) (by decide) (show k < (pl D 98).length by have := FX.1.1.1; omega)
    exact ⟨fun f _ => so.i f, fun f _ => so.r f⟩) v a5 f (by decide) ⟨s12.i 15, s12.i 16⟩
  obtain ⟨NS2, LP2, nk, sg, oo⟩ := Fs0.q9 fq a4 W2 FX2 v f
  have hp9 : ∀ k, k < dc → (pl D1 109).getD k 0 = (pl D 109).getD k 0 := fun k hk => by rw [a3, getD_app_l (by omega)]
  have hp9' : (pl D1 109).getD dc 0 = o := by rw [a3, show dc = (pl D 109).length + 0 by omega, getD_app_r]; rfl
  have h110 : ∀ k, k < dc → mA M2 110 k = mA M 110 k := fun k hk => by
    have so : So M M1 110 := Fz.so fq1 (by omega) (fun z => by rw [tgo_s (by decide)] at z; omega)
    rw [hM2, mA_mwA, ifF (fun z => by omega)]
    exact so.a k
  have h110' : mA M2 110 dc = x4 := by rw [hM2, mA_mwA, ifT ⟨rfl, rfl⟩]
  have t5 : ∀ k, tA σ2 135 k = if k = dc + 1 then nI p else tA σ 135 k := fun k => by rw [hσ2]; unfold pshT; rw [tA_tsA, ifF (fun z => by omega), tA_tsA]; by_cases z : k = dc + 1; rw [ifT ⟨rfl, z⟩, ifT z]; rw [ifF (fun y => z y.2), ifF z]; rfl
  have t6 : ∀ k, tA σ2 136 k = if k = dc + 1 then tw else tA σ 136 k := fun k => by rw [hσ2]; unfold pshT; rw [tA_tsA]; by_cases z : k = dc + 1; rw [ifT ⟨rfl, z⟩, ifT z]; rw [ifF (fun y => z y.2), ifF z, tA_tsA, ifF (fun z => by omega)]; rfl
  have ht : ∀ k, k ≤ dc → tA σ2 135 k = tA σ 135 k ∧ tA σ2 136 k = tA σ 136 k := fun k hk => ⟨by rw [t5, ifF (by omega)], by rw [t6, ifF (by omega)]⟩
  have sz : K_J2_size 109 M1 = some (nI (dc + 1), M1) := by
    have := ls_size (a2.1 109 (by decide)).1
    rw [a3, List.length_append, hd1] at this
    exact this
  have CA2 := CA.mv v hp9 h110 ht
  have so := v.2.1.1 _ Po.1
  rw [← hσ2]
  refine ⟨D1, M1, a1, sz, ?_⟩
  rw [← hM2]
  refine ⟨⟨W2, FX2, NS2, LP2, fun k hk => ?_, ⟨by rw [a3, List.length_append, hd1]; rfl, by omega, by rw [hσ2]; rfl⟩, by rw [(f 138 rfl).1]; exact hx3, by rw [(f 0 rfl).1]; exact h0⟩, v, a5, nk, sg, f, ht, oo, h110, a4, a3⟩
  by_cases z : k = dc
  · subst z
    refine ⟨as, p, ar, nf, d, ⟨⟨by rw [hp9']; exact Po.1, by rw [hp9', so.k]; exact Po.2⟩, by rw [hp9', so.r]; exact hls.wz v (fun _ z => z)⟩, ⟨by rw [t5, ifT rfl], hp⟩, hnf, ?_, ?_⟩
    · have v4 := v.2.2.2.1.1
      exact AgR.mv (fun k hk n _ hn => v4.2.1 k hk n hn) (fun o e z => AR.wz v (fun _ z => z) ⟨Nat.le_refl _, by have := v.2.2.2.2.1.1; omega, hnf⟩ d d 0 o e (Nat.le_refl _) z) v4.1.1 (Nat.zero_le _) v.2.2.2.2.1.2.2 as p ag
    · rw [h110', t6, ifT rfl]
      exact cx.mv v hp9
  · exact CA2 k (by omega)
/-- a call ends -/
theorem FSt.pop (Fs : FSt md x0 l X N0 z7 C B P mss fss D M σ V I Bm K N Lp (dc + 1) x3) {xs : List Nat} (h9 : pl D 109 = xs ++ [o]) : ∃ M', K_J2_remove 109 (nI dc) M = some (o, M') ∧ FSt md x0 l X N0 z7 C B P mss fss (d9 109 xs D) M' (tsI σ 137 (nI dc)) V I Bm K N Lp dc x3 ∧ Wz C C P M M' σ (tsI σ 137 (nI dc)) ∧ NdK D M σ (d9 109 xs D) M' (tsI σ 137 (nI dc)) l K N ∧ SgX M M' σ (tsI σ 137 (nI dc)) ∧ ((∀ f, mI M' f 1 = mI M f 1) ∧ (∀ f, f ≠ 20 → f ≠ 21 → mR M' f 1 = mR M f 1) ∧ Fq D (TB x0 l) M M') ∧ (∀ k, mA M' 110 k = mA M 110 k) := by
  have W := Fs.1
  have FX := Fs.2.1
  have h167 := W.n167
  have rm := W.rm
  have Fs0 := Fs
  obtain ⟨-, -, -, -, CA, ⟨hd1, hd2, hd3⟩, hx3, h0⟩ := Fs
  have hL := (W.2.1.1 109 (by decide)).1
  rw [h9] at hL hd1
  have xl : xs.length = dc := by rw [List.length_append] at hd1; exact Nat.succ.inj hd1
  obtain ⟨M', -, a2, a3, a4, a5, a6, a7⟩ := ls_pop hL (by omega) (fun z => by
    rcases hL.2.2.2.2 with ⟨q, _⟩ | ⟨_, q, _⟩
    · omega
    · rw [z, hL.1] at q; exact absurd q (by decide))
  have f : Ft [135, 136, 137] σ (tsI σ 137 (nI dc)) := (Ft.rf _ σ).p_tsI rfl
  obtain ⟨W', v, fq0⟩ := W.cut (Or.inr rfl) a3 (by rw [h9, List.length_append]; omega) a4 a5 a6 a7 f (by decide)
  have fq : Fq D Q9 M M' := fq0.mono (fun o z => Or.inl z)
  have s1 := fq.q9s h167 (o := 1) (by decide) (by decide)
  have FX' : FlX z7 C P (d9 109 xs D) mss M' (tsI σ 137 (nI dc)) V I Bm := flx_d9 (FX.kp W fq tv9 (fun k hk => by
    have so := Fq.q9o W fq (l' := 98) (by decide) (show k < (pl D 98).length by have := FX.1.1.1; omega)
    exact ⟨fun f _ => so.i f, fun f _ => so.r f⟩) v (Dx.rf D M) f (by decide) ⟨s1.i 15, s1.i 16⟩)
  obtain ⟨NS2, LP2, nk, sg, oo⟩ := Fs0.q9 fq (D' := d9 109 xs D) (fun i hi => d9_o hi) W' FX' v f
  have h110 : ∀ k, mA M' 110 k = mA M 110 k := fun k => (Fz.so fq0 (by omega) (fun z => by rw [tgo_s (by decide)] at z; omega) : So M M' 110).a k
  refine ⟨M', by rw [← xl]; exact a2, ⟨W', FX', NS2, LP2, ?_, ⟨by rw [d9_l]; exact xl, by omega, rfl⟩, by rw [(f 138 rfl).1]; exact hx3, by rw [(f 0 rfl).1]; exact h0⟩, v, nk, sg, oo, h110⟩
  exact CaR.mv (fun k hk => CA k (by omega)) v (fun k hk => by rw [d9_l, h9, getD_app_l (by omega)]) (fun k _ => h110 k) (fun k _ => ⟨rfl, rfl⟩)
end CALLS
