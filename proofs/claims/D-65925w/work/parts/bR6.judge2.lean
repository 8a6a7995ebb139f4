/-! Layer B: judging: the tests of equations, actions, relations, values and starts -/
set_option maxRecDepth 100000
section JUDGE2
variable {C : PC} {P : Nat → Prop} {mss fss : List Nat} {D D' : FQ} {M M0 M' : CM} {σ σ0 σ' s : TS} {z7 : Nat → Nat} {B V I Bm K N E A Wn q qs v n a T m k w : Nat} {S : List Nat} {x y : Int32} {F : Nat → Nat} {b : Bool}
theorem jE (W : FW C B P mss fss D M σ) (h : FP C P mss D M σ z7 V I Bm K N E A Wn q qs) (h45 : mI M 45 1 = 0 ∨ mI M 45 1 = 1) : (∀ tf s, JWf σ s → L_judge_22 (tf + 1) (nI E) s = some ((), s)) ∧ (∀ kf M', Ku M M' → KL_X0_judged_2 (kf + 1) (nI E) M' = some (.inl (), M')) ∧ ∀ j, 0 ≤ j → j < E → ∃ b, JsT σ L_judge_22 nI j b ∧ JsK M KL_X0_judged_2 nI j b := by
  obtain ⟨FX, NF, -, ⟨⟨e1, e2, e3, e4⟩, e5⟩, -⟩ := h
  have le : nI E ≤ nI E := (bI_le (by omega) (by omega)).mpr (Nat.le_refl _)
  refine ⟨fun tf s J => by rw [L_judge_22, (J.1 144 rfl).1, e2, ifT le], fun kf M' Km => by rw [KL_X0_judged_2, Km.2.2.1 35 1 (by omega), e1, ifT le], fun j _ hj => ?_⟩
  have lt : ¬ nI E ≤ nI j := fun z => by have := (bI_le (by omega) (by omega)).mp z; omega
  obtain ⟨⟨n, n1, n2⟩, m, m1, m2⟩ := e5 j hj
  obtain ⟨u, u1, u2, u3⟩ := nodeU W FX h45 NF (Nat.le_refl _) n2
  obtain ⟨w, w1, w2, w3⟩ := nodeU W FX h45 NF (Nat.le_refl _) m2
  have g0 := W.k8 h45
  refine ⟨(uAl u w).isNone, fun tf s J => ?_, fun kf M' Km => ?_⟩
  · obtain ⟨r1, r2, s1, s2, a1, a2, a3, a4, a5, a6⟩ := t_fit u3 w3 u1 w1 s J
    refine ⟨s2, a5, a6, ?_⟩
    have ij : inb (nI j) 120 := inb_nI' (by omega) (by decide)
    rw [L_judge_22, (J.1 144 rfl).1, e2, ifF lt, ifT ij, ix_nI (by omega), (J.1 174 rfl).2.2.1, n1, a1, ob_some, ifT ij, (a4 175 rfl).2.2.1, (J.1 175 rfl).2.2.1, m1, a2, ob_some, a3, ob_some]
    simp only [nm_eq, nI_addL]
    cases (uAl u w).isNone <;> rfl
  · obtain ⟨M2, b1, b2⟩ := k_fit g0 u2 w2 u1 w1 M' Km
    refine ⟨M2, b2, ?_⟩
    have get : K_J2_get 111 (nI j) M' = some ((pl D 111).getD j 0, M') := ls_get (W.ku (by decide) Km) (by omega)
    have k19 : mk M' ((pl D 111).getD j 0) = 19 := (Km.2.2.2.2.2.1 _).1.trans (W.2.1.2.1 111 (by decide) j (by omega)).1
    rw [KL_X0_judged_2, Km.2.2.1 35 1 (by omega), e1, ifF lt, get, ob_some, ifT (Or.inr k19), ifT k19, get, ob_some, ifT (Or.inr k19), ifT k19, Km.2.2.2.1, Km.2.2.2.1, b1, ob_some]
    simp only [nm_eq, nI_addL]
    cases (uAl u w).isNone <;> rfl
/-- actions of one when -/
theorem jA (W : FW C B P mss fss D M σ) (h : FP C P mss D M σ z7 V I Bm K N E A Wn q qs) (h45 : mI M 45 1 = 0 ∨ mI M 45 1 = 1) (hw : w < Wn) (f1 : tA σ 146 w = nI (F w)) (f2 : F w ≤ F (w + 1)) (f3 : tA σ 147 w = nI (F (w + 1) - F w)) (hF : F (w + 1) ≤ A) : (∀ tf s, JWf σ s → L_judge_87 (tf + 1) (nI (F (w + 1))) (nI w) (nI (F (w + 1))) s = some (nI (F (w + 1)), s)) ∧ ∀ j, F w ≤ j → j < F (w + 1) → ∃ b, JsT σ (fun tf x s => L_judge_87 tf x (nI w) x s) (fun j => 1000 + nI j) j b ∧ JsK M KL_X0_judged_57 (fun j => 1000 + nI j) j b := by
  obtain ⟨FX, NF, -, -, ⟨⟨c1, c3, c4⟩, c5⟩, ⟨⟨d1, d2, d3, d4⟩, -⟩, -⟩ := h
  have iw : inb (nI w) 12 := inb_nI' (by omega) (by decide)
  have es : nI (F w) + nI (F (w + 1) - F w) = nI (F (w + 1)) := by rw [bI_add]; congr 1; omega
  refine ⟨fun tf s J => ?_, fun j hj0 hj => ?_⟩
  · rw [L_judge_87, ifT iw, ifT iw, ix_nI (by omega), (J.1 146 rfl).2.2.1, (J.1 147 rfl).2.2.1, f1, f3, es, ifT ((bI_le (by omega) (by omega)).mpr (Nat.le_refl _))]
  · have lt : ¬ nI (F (w + 1)) ≤ nI j := fun z => by have := (bI_le (by omega) (by omega)).mp z; omega
    have ltK : ¬ nI A ≤ nI j := fun z => by have := (bI_le (by omega) (by omega)).mp z; omega
    obtain ⟨⟨v, v1, v2, v3, -⟩, -, n, n1, n2⟩ := c5 j (by omega)
    obtain ⟨u, u1, u2, u3⟩ := nodeU W FX h45 NF (Nat.le_refl _) n2
    obtain ⟨b, hk, ht⟩ := k_fitV (W.k8 h45) (un_all W FX v1) u3 u2 u1
    refine ⟨b, fun tf s J => ?_, fun kf M' Km => ?_⟩
    · obtain ⟨r1, r2, s2, a1, a2, a3, a5, a6⟩ := ht s J
      refine ⟨s2, a5, a6, ?_⟩
      have ij : inb (nI j) 200 := inb_nI' (by omega) (by decide)
      show L_judge_87 (tf + 1) (nI j) (nI w) (nI j) s = _
      rw [L_judge_87, ifT iw, ifT iw, ix_nI (show w < 2147483648 by omega), (J.1 146 rfl).2.2.1, (J.1 147 rfl).2.2.1, f1, f3, es, ifF lt, ifT ij, ix_nI (by omega), (J.1 150 rfl).2.2.1, v3, a1, ob_some, ifT ij, (J.1 151 rfl).2.2.1, n1, a2, ob_some, a3, ob_some]
      simp only [nm_eq, nI_addL]
      cases b <;> rfl
    · obtain ⟨M2, b1, b2⟩ := hk M' Km
      refine ⟨M2, b2, ?_⟩
      have get : K_J2_get 112 (nI j) M' = some ((pl D 112).getD j 0, M') := ls_get (W.ku (by decide) Km) (by omega)
      have k21 : mk M' ((pl D 112).getD j 0) = 21 := (Km.2.2.2.2.2.1 _).1.trans (W.2.1.2.1 112 (by decide) j (by omega)).1
      have el : (1001 : Int32) + nI j = 1 + (1000 + nI j) := by rw [nI_Ladd, nI_Ladd, nI_Ladd]; congr 1; omega
      rw [KL_X0_judged_57, Km.2.2.1 37 1 (by omega), c1, ifF ltK, get, ob_some, ifT (Or.inr k21), ifT k21, get, ob_some, ifT (Or.inr k21), ifT k21, Km.2.2.2.1, Km.2.2.1 4001 _ (by omega), v2, b1, ob_some, el]
      simp only [nm_eq, nI_addL]
      cases b <;> rfl
/-- relations -/
theorem jR (W : FW C B P mss fss D M σ) (h : FP C P mss D M σ z7 V I Bm K N E A Wn q qs) (h45 : mI M 45 1 = 0 ∨ mI M 45 1 = 1) : (∀ tf s, JWf σ s → L_judge_157 (tf + 1) (nI q) s = some ((), s)) ∧ (∀ kf M', Ku M M' → KL_X0_judged_114 (kf + 1) (nI q) M' = some (.inl (), M')) ∧ ∀ j, 0 ≤ j → j < q → ∃ b, JsT σ L_judge_157 (fun j => 2000 + nI j) j b ∧ JsK M KL_X0_judged_114 (fun j => 2000 + nI j) j b := by
  obtain ⟨FX, NF, -, -, -, -, ⟨⟨e1, e2, e3⟩, e4, -, e5⟩, -⟩ := h
  have le : nI q ≤ nI q := (bI_le (by omega) (by omega)).mpr (Nat.le_refl _)
  refine ⟨fun tf s J => by rw [L_judge_157, (J.1 154 rfl).1, e2, ifT le], fun kf M' Km => by rw [KL_X0_judged_114, Km.2.2.1 41 1 (by omega), e1, ifT le], fun j _ hj => ?_⟩
  have lt : ¬ nI q ≤ nI j := fun z => by have := (bI_le (by omega) (by omega)).mp z; omega
  obtain ⟨k, k1, k2, k3⟩ := e4 j hj
  obtain ⟨k', k1', k3', -, ⟨ko, nd⟩, -⟩ := e5 j hj
  have NK := NF.1.2
  have nl := NF.2.1.1
  have ek : k = k' := by
    have := (bI_eq (by omega) (by omega)).mp (k3.symm.trans k3')
    omega
  subst ek
  obtain ⟨a, ha⟩ : ∃ a, a = (pl D 106).getD k 0 := ⟨_, rfl⟩
  rw [← ha] at k2 ko nd
  have ka : mk M a = 18 := by rw [ha]; exact (W.2.1.2.1 106 (by decide) k (by omega)).1
  have ij : inb (nI j) 24 := inb_nI' (by omega) (by decide)
  have xj : ix (nI j) = j := ix_nI (by omega)
  have in7 : inb (nI (k + 1)) 70000 := inb_nI' (by omega) (by decide)
  have xn : ix (nI (k + 1)) = k + 1 := ix_nI (by omega)
  have mx : ∀ M', Ku M M' → mX M' 114 j = a := fun M' Km => by
    rw [(Fz.so Km.1 (by have := W.n167; omega) (by omega) : So M M' 114).x]; exact k2
  have g0 := W.k8 h45
  have el : (2001 : Int32) + nI j = 1 + (2000 + nI j) := by rw [nI_Ladd, nI_Ladd, nI_Ladd]; congr 1; omega
  obtain ⟨-, -, nd⟩ := nd
  rcases nd with ⟨c, -⟩ | ⟨c, -⟩ | ⟨c, -⟩ | ⟨c, -⟩ | ⟨c, -⟩ | ⟨c, -⟩ | ⟨-, c0, c1, ⟨x1, c2, c3⟩, ⟨y1, c4, c5⟩, -⟩ | ⟨-, c1, -⟩ | ⟨-, c1, -⟩ | ⟨-, c1, c0, -⟩
  · exact absurd c (by decide)
  · exact absurd c (by decide)
  · exact absurd c (by decide)
  · exact absurd c (by decide)
  · exact absurd c (by decide)
  · exact absurd c (by decide)
  · obtain ⟨u, u1, u2, u3⟩ := nodeU W FX h45 NF (by decide : 99 ≤ 100) c3
    obtain ⟨w, w1, w2, w3⟩ := nodeU W FX h45 NF (by decide : 99 ≤ 100) c5
    have n29 : ¬ mI M 3400 a = 29 := by
      simp only [List.mem_cons, List.not_mem_nil, or_false, Prod.mk.injEq] at c1
      rcases c1 with ⟨q1, -⟩ | ⟨q1, -⟩ | ⟨q1, -⟩ | ⟨q1, -⟩ | ⟨q1, -⟩ | ⟨q1, -⟩ <;> rw [q1] <;> decide
    refine ⟨(uAl u w).isNone, fun tf s J => ?_, fun kf M' Km => ?_⟩
    · obtain ⟨r1, r2, s1, s2, a1, a2, a3, a4, a5, a6⟩ := t_fit u3 w3 u1 w1 s J
      refine ⟨s2, a5, a6, ?_⟩
      have e153 : tA s 153 j = nI (k + 1) := ((J.1 153 rfl).2.2.1 j).trans k3
      have e153' : tA s1 153 j = nI (k + 1) := ((a4 153 rfl).2.2.1 j).trans e153
      rw [L_judge_157, (J.1 154 rfl).1, e2, ifF lt, ifT ij, xj, e153, ifT in7, xn, (J.1 121 rfl).2.2.1, ifT c0, ifT ij, ifT in7, (J.1 123 rfl).2.2.1, c2, a1, ob_some, ifT ij, e153', ifT in7, xn, (a4 124 rfl).2.2.1, (J.1 124 rfl).2.2.1, c4, a2, ob_some, a3, ob_some]
      simp only [nm_eq, nI_addL]
      cases (uAl u w).isNone <;> rfl
    · obtain ⟨M2, b1, b2⟩ := k_fit g0 u2 w2 u1 w1 M' Km
      refine ⟨M2, b2, ?_⟩
      have ka' : mk M' a = 18 := (Km.2.2.2.2.2.1 a).1.trans ka
      rw [KL_X0_judged_114, Km.2.2.1 41 1 (by omega), e1, ifF lt, ifT ij, xj, mx M' Km, ifT ka', Km.2.2.1 3400 a (by omega), ifF n29, ifT ij, ifT ka', ifT ij, ifT ka', Km.2.2.2.1, Km.2.2.2.1, b1, ob_some, el]
      simp only [nm_eq, nI_addL]
      cases (uAl u w).isNone <;> rfl
  · exfalso
    simp only [List.mem_cons, List.not_mem_nil, or_false, Prod.mk.injEq] at c1
    unfold RlO at ko
    rcases c1 with ⟨q1, -⟩ | ⟨q1, -⟩ <;> rw [q1] at ko <;> exact absurd ko (by decide)
  · exfalso
    unfold RlO at ko
    rw [c1] at ko
    exact absurd ko (by decide)
  · refine ⟨false, fun tf s J => ⟨s, Ft.rf _ s, J.2, ?_⟩, fun kf M' Km => ⟨M', Km, ?_⟩⟩
    · have e153 : tA s 153 j = nI (k + 1) := ((J.1 153 rfl).2.2.1 j).trans k3
      rw [L_judge_157, (J.1 154 rfl).1, e2, ifF lt, ifT ij, xj, e153, ifT in7, xn, (J.1 121 rfl).2.2.1, c0, ifF (by decide)]
      simp only [nm_eq, nI_addL]
      rfl
    · have ka' : mk M' a = 18 := (Km.2.2.2.2.2.1 a).1.trans ka
      rw [KL_X0_judged_114, Km.2.2.1 41 1 (by omega), e1, ifF lt, ifT ij, xj, mx M' Km, ifT ka', Km.2.2.1 3400 a (by omega), c1, ifT rfl]
      simp only [nm_eq, nI_addL]
      rfl
/-- values of parameters -/
theorem jP (W : FW C B P mss fss D M σ) (h : FP C P mss D M σ z7 V I Bm K N E A Wn q qs) (h45 : mI M 45 1 = 0 ∨ mI M 45 1 = 1) : (∀ tf s, JWf σ s → L_judge_235 (tf + 1) (nI V) s = some ((), s)) ∧ (∀ kf M', Ku M M' → KL_X0_judged_175 (kf + 1) (nI V) M' = some (.inl (), M')) ∧ ∀ j, 0 ≤ j → j < V → ∃ b, JsT σ L_judge_235 (fun j => 3000 + nI j) j b ∧ JsK M KL_X0_judged_175 (fun j => 3000 + nI j) j b := by
  obtain ⟨FX, NF, vs, -⟩ := h
  have V96 := FX.2.1.1
  have l98 := FX.1.1.1
  have e1 := FX.2.2.2.1.1
  have e2 := FX.2.2.1.1
  have le : nI V ≤ nI V := (bI_le (by omega) (by omega)).mpr (Nat.le_refl _)
  refine ⟨fun tf s J => by rw [L_judge_235, (J.1 107 rfl).1, e2, ifT le], fun kf M' Km => by rw [KL_X0_judged_175, Km.2.2.1 15 1 (by omega), e1, ifT le], fun j _ hj => ?_⟩
  have lt : ¬ nI V ≤ nI j := fun z => by have := (bI_le (by omega) (by omega)).mp z; omega
  obtain ⟨x1, x2, -⟩ := vs j hj
  obtain ⟨vo, hvo⟩ : ∃ vo, vo = (pl D 98).getD j 0 := ⟨_, rfl⟩
  unfold Vx1 at x1
  unfold Vs1 at x2
  rw [← hvo] at x1 x2
  have get : ∀ M', Ku M M' → K_J2_get 98 (nI j) M' = some (vo, M') := fun M' Km => by rw [hvo]; exact ls_get (W.ku (by decide) Km) (by omega)
  have k17 : ∀ M', Ku M M' → mk M' vo = 17 := fun M' Km => by rw [hvo]; exact (Km.2.2.2.2.2.1 _).1.trans (W.2.1.2.1 98 (by decide) j (by omega)).1
  have ij : inb (nI j) 96 := inb_nI' (by omega) (by decide)
  have xj : ix (nI j) = j := ix_nI (by omega)
  have el : (3001 : Int32) + nI j = 1 + (3000 + nI j) := by rw [nI_Ladd, nI_Ladd, nI_Ladd]; congr 1; omega
  obtain ⟨xx, y1, y2, y3⟩ := (FX.1.2.2.2 j hj).2.2.1
  rw [← hvo] at y2
  by_cases kd : nI xx = 1
  case neg =>
    refine ⟨false, fun tf s J => ⟨s, Ft.rf _ s, J.2, ?_⟩, fun kf M' Km => ⟨M', Km, ?_⟩⟩
    · rw [L_judge_235, (J.1 107 rfl).1, e2, ifF lt, ifT ij, xj, (J.1 94 rfl).2.2.1, y3, ifF kd]
      simp only [nm_eq, nI_addL]
      rfl
    · rw [KL_X0_judged_175, Km.2.2.1 15 1 (by omega), e1, ifF lt, get M' Km, ob_some, ifT (Or.inr (k17 M' Km)), ifT (k17 M' Km), Km.2.2.1 3203 vo (by omega), y2, ifF kd]
      simp only [nm_eq, nI_addL]
      rfl
  have kv : mI M 3203 vo = 1 := y2.trans kd
  have tk : tA σ 94 j = 1 := y3.trans kd
  rcases x1 with ⟨z1, z2⟩ | ⟨n, n1, n2⟩
  · refine ⟨false, fun tf s J => ⟨s, Ft.rf _ s, J.2, ?_⟩, fun kf M' Km => ⟨M', Km, ?_⟩⟩
    · rw [L_judge_235, (J.1 107 rfl).1, e2, ifF lt, ifT ij, xj, (J.1 94 rfl).2.2.1, tk, ifT rfl, ifT ij, (J.1 158 rfl).2.2.1, z2, ifT rfl]
      simp only [nm_eq, nI_addL]
      rfl
    · rw [KL_X0_judged_175, Km.2.2.1 15 1 (by omega), e1, ifF lt, get M' Km, ob_some, ifT (Or.inr (k17 M' Km)), ifT (k17 M' Km), Km.2.2.1 3203 vo (by omega), kv, ifT rfl, get M' Km, ob_some, ifT (Or.inr (k17 M' Km)), ifT (k17 M' Km), Km.2.2.2.1, z1, ifT rfl]
      simp only [nm_eq, nI_addL]
      rfl
  · obtain ⟨nb1, nb2⟩ := n2.nb
    have n7 : N ≤ 70000 := by have := NF.1.2.2; have := NF.2.1.1; omega
    have n0 : ¬ nI n = 0 := fun z => by have := (bI_eq (b := 0) (by omega) (by decide)).mp z; omega
    have a0 : ¬ mR M 3210 vo = 0 := fun z => by
      obtain ⟨⟨⟨k, k1, k2, -⟩, -⟩, -⟩ := n2
      have := (W.2.1.2.1 106 (by decide) k (by have := NF.1.2.1; omega)).2.1.1
      omega
    obtain ⟨u, u1, u2, u3⟩ := nodeU W FX h45 NF (Nat.le_refl _) n2
    obtain ⟨b, hk, ht⟩ := k_fitV (W.k8 h45) (un_all W FX hj) u3 u2 u1
    refine ⟨b, fun tf s J => ?_, fun kf M' Km => ?_⟩
    · obtain ⟨r1, r2, s2, a1, a2, a3, a5, a6⟩ := ht s J
      refine ⟨s2, a5, a6, ?_⟩
      rw [L_judge_235, (J.1 107 rfl).1, e2, ifF lt, ifT ij, xj, (J.1 94 rfl).2.2.1, tk, ifT rfl, ifT ij, (J.1 158 rfl).2.2.1, n1, ifF n0, a1, ob_some, ifT ij, (J.1 158 rfl).2.2.1, n1, a2, ob_some, a3, ob_some]
      simp only [nm_eq, nI_addL]
      cases b <;> rfl
    · obtain ⟨M2, b1, b2⟩ := hk M' Km
      refine ⟨M2, b2, ?_⟩
      rw [KL_X0_judged_175, Km.2.2.1 15 1 (by omega), e1, ifF lt, get M' Km, ob_some, ifT (Or.inr (k17 M' Km)), ifT (k17 M' Km), Km.2.2.1 3203 vo (by omega), kv, ifT rfl, get M' Km, ob_some, ifT (Or.inr (k17 M' Km)), ifT (k17 M' Km), Km.2.2.2.1, ifF a0, get M' Km, ob_some, ifT (Or.inr (k17 M' Km)), ifT (k17 M' Km), Km.2.2.2.1, b1, ob_some, el]
      simp only [nm_eq, nI_addL]
      cases b <;> rfl
/-- starts -/
theorem jS (W : FW C B P mss fss D M σ) (h : FP C P mss D M σ z7 V I Bm K N E A Wn q qs) (h45 : mI M 45 1 = 0 ∨ mI M 45 1 = 1) : (∀ tf s, JWf σ s → L_judge_301 (tf + 1) (nI V) s = some ((), s)) ∧ (∀ kf M', Ku M M' → KL_X0_judged_254 (kf + 1) (nI V) M' = some (.inl (), M')) ∧ ∀ j, 0 ≤ j → j < V → ∃ b, JsT σ L_judge_301 (fun j => 4000 + nI j) j b ∧ JsK M KL_X0_judged_254 (fun j => 4000 + nI j) j b := by
  obtain ⟨FX, NF, vs, -⟩ := h
  have V96 := FX.2.1.1
  have l98 := FX.1.1.1
  have e1 := FX.2.2.2.1.1
  have e2 := FX.2.2.1.1
  have le : nI V ≤ nI V := (bI_le (by omega) (by omega)).mpr (Nat.le_refl _)
  refine ⟨fun tf s J => by rw [L_judge_301, (J.1 107 rfl).1, e2, ifT le], fun kf M' Km => by rw [KL_X0_judged_254, Km.2.2.1 15 1 (by omega), e1, ifT le], fun j _ hj => ?_⟩
  have lt : ¬ nI V ≤ nI j := fun z => by have := (bI_le (by omega) (by omega)).mp z; omega
  obtain ⟨x1, x2, -⟩ := vs j hj
  obtain ⟨vo, hvo⟩ : ∃ vo, vo = (pl D 98).getD j 0 := ⟨_, rfl⟩
  unfold Vx1 at x1
  unfold Vs1 at x2
  rw [← hvo] at x1 x2
  have get : ∀ M', Ku M M' → K_J2_get 98 (nI j) M' = some (vo, M') := fun M' Km => by rw [hvo]; exact ls_get (W.ku (by decide) Km) (by omega)
  have k17 : ∀ M', Ku M M' → mk M' vo = 17 := fun M' Km => by rw [hvo]; exact (Km.2.2.2.2.2.1 _).1.trans (W.2.1.2.1 98 (by decide) j (by omega)).1
  have ij : inb (nI j) 96 := inb_nI' (by omega) (by decide)
  have xj : ix (nI j) = j := ix_nI (by omega)
  have el : (4001 : Int32) + nI j = 1 + (4000 + nI j) := by rw [nI_Ladd, nI_Ladd, nI_Ladd]; congr 1; omega
  
  rcases x2 with ⟨z1, z2⟩ | ⟨n, n1, n2⟩
  · refine ⟨false, fun tf s J => ⟨s, Ft.rf _ s, J.2, ?_⟩, fun kf M' Km => ⟨M', Km, ?_⟩⟩
    · rw [L_judge_301, (J.1 107 rfl).1, e2, ifF lt, ifT ij, xj, (J.1 159 rfl).2.2.1, z2, ifT rfl]
      simp only [nm_eq, nI_addL]
      rfl
    · rw [KL_X0_judged_254, Km.2.2.1 15 1 (by omega), e1, ifF lt, get M' Km, ob_some, ifT (Or.inr (k17 M' Km)), ifT (k17 M' Km),  Km.2.2.2.1, z1, ifT rfl]
      simp only [nm_eq, nI_addL]
      rfl
  · obtain ⟨nb1, nb2⟩ := n2.nb
    have n7 : N ≤ 70000 := by have := NF.1.2.2; have := NF.2.1.1; omega
    have n0 : ¬ nI n = 0 := fun z => by have := (bI_eq (b := 0) (by omega) (by decide)).mp z; omega
    have a0 : ¬ mR M 3211 vo = 0 := fun z => by
      obtain ⟨⟨⟨k, k1, k2, -⟩, -⟩, -⟩ := n2
      have := (W.2.1.2.1 106 (by decide) k (by have := NF.1.2.1; omega)).2.1.1
      omega
    obtain ⟨u, u1, u2, u3⟩ := nodeU W FX h45 NF (Nat.le_refl _) n2
    obtain ⟨b, hk, ht⟩ := k_fitV (W.k8 h45) (un_all W FX hj) u3 u2 u1
    refine ⟨b, fun tf s J => ?_, fun kf M' Km => ?_⟩
    · obtain ⟨r1, r2, s2, a1, a2, a3, a5, a6⟩ := ht s J
      refine ⟨s2, a5, a6, ?_⟩
      rw [L_judge_301, (J.1 107 rfl).1, e2, ifF lt, ifT ij, xj, (J.1 159 rfl).2.2.1, n1, ifF n0, a1, ob_some, ifT ij, (J.1 159 rfl).2.2.1, n1, a2, ob_some, a3, ob_some]
      simp only [nm_eq, nI_addL]
      cases b <;> rfl
    · obtain ⟨M2, b1, b2⟩ := hk M' Km
      refine ⟨M2, b2, ?_⟩
      rw [KL_X0_judged_254, Km.2.2.1 15 1 (by omega), e1, ifF lt, get M' Km, ob_some, ifT (Or.inr (k17 M' Km)), ifT (k17 M' Km),  Km.2.2.2.1, ifF a0, get M' Km, ob_some, ifT (Or.inr (k17 M' Km)), ifT (k17 M' Km), Km.2.2.2.1, b1, ob_some, el]
      simp only [nm_eq, nI_addL]
      cases b <;> rfl
end JUDGE2
