/-! Layer B: whether a head is in any equation, both sides -/
set_option maxRecDepth 100000
/-- what aliases leave, seen from where the model is flat: M0, σ -/
def AlS (D : FQ) (V E : Nat) (M0 : CM) (σ : TS) (M : CM) (s : TS) (hd : Nat → Nat) (sg : Nat → Int32) (c : Nat) : Prop := PA D M0 σ M s ∧ AlL V σ hd sg ∧ AlM D V M s hd sg ∧ GoR M s E c ∧ ∀ k, k < E → tA s 141 k = tA σ 174 k ∧ tA s 142 k = tA σ 175 k
section ANY
variable {C : PC} {P : Nat → Prop} {mss fss : List Nat} {D : FQ} {M0 M M' M1 M2 : CM} {σ σ' s s' : TS} {I' R' A' X' S : List Nat} {B V I Bm K N E A Wn q qs k c w : Nat} {z7 : Nat → Nat} {hd : Nat → Nat} {sg : Nat → Int32} {x3 : Int32}
theorem AlS.mv (h : AlS D V E M0 σ M s hd sg c) (k : KF D I' [] A' [] M M') (f : Ft S s s') (h1 : I'.all svI.contains = true ∧ A'.all svA.contains = true ∧ S.all sv1.contains = true) (h2 : I'.contains 3217 = false ∧ I'.contains 3218 = false ∧ I'.contains 66 = false ∧ A'.contains 128 = false) (h3 : [141, 142, 177, 178, 180, 181].all (fun k => !S.contains k) = true) : AlS D V E M0 σ M' s' hd sg c := by
  obtain ⟨⟨p1, p2⟩, a1, a2, ⟨g1, g2, g3, g4⟩, e⟩ := h
  have hf : ∀ k, k ∈ [141, 142, 177, 178, 180, 181] → S.contains k = false := fun k hk => by simpa using List.all_eq_true.mp h3 k hk
  refine ⟨⟨p1.tr (k.mono h1.1 rfl h1.2.1 rfl), p2.tr (f.mono h1.2.2)⟩, a1, a2.mv k ⟨h2.1, h2.2.1⟩ f ⟨hf 177 (by decide), hf 178 (by decide)⟩, ⟨fun j hj => ?_, (k.i h2.2.2.1 1).trans g2, (f 181 (hf 181 (by decide))).1.trans g3, by
    rw [cnB_eq (p := fun j => decide (tA s 180 j = 0)) (fun j _ => by
      show decide (tA s' 180 j = 0) = decide (tA s 180 j = 0)
      rw [(f 180 (hf 180 (by decide))).2.2.1])]
    exact g4⟩, fun k hk => ?_⟩
  · rw [k.ga h2.2.2.2, (f 180 (hf 180 (by decide))).2.2.1]; exact g1 j hj
  · rw [(f 141 (hf 141 (by decide))).2.2.1, (f 142 (hf 142 (by decide))).2.2.1]; exact e k hk
theorem z_inAny (W : FW C B P mss fss D M0 σ) (h : FP C P mss D M0 σ z7 V I Bm K N E A Wn q qs) (al : AlS D V E M0 σ M s hd sg c) (hw : w < V) : ∃ r : Int32, (r = 0 ∨ r = 1) ∧ K_X0_isInAny (nI w) x3 M = some (r, M) ∧ F_isSomewhere (nI w) x3 s = some (r, s) ∧ (r = 0 → ∀ k, k < E → tA s 180 k = 0 → ∀ v, v < V → DrL σ 100 (ix (tA σ 174 k)) v ∨ DrL σ 100 (ix (tA σ 175 k)) v → hd v ≠ w) := by
  obtain ⟨X, ⟨⟨n1, n2, n3⟩, ⟨n4, -⟩, -⟩, -, ⟨⟨e1, e2, e3, e4⟩, eq⟩, -⟩ := h
  obtain ⟨p, al, am, ⟨g, -⟩, eq2⟩ := al
  have V96 := X.2.1.1
  have hN : N ≤ 70000 := by omega
  have main : ∀ (d k kf tf : Nat), k + d = E → d < kf → d < tf → (∃ r : Int32, r = 1 ∧ KL_X0_isInAny_2 kf (nI w) x3 (nI k) M = some (.inr r, M) ∧ L_isSomewhere_2 tf (nI w) x3 (nI k) s = some (.inr r, s)) ∨ (KL_X0_isInAny_2 kf (nI w) x3 (nI k) M = some (.inl (), M) ∧ L_isSomewhere_2 tf (nI w) x3 (nI k) s = some (.inl (), s) ∧ ∀ j, k ≤ j → j < E → tA s 180 j = 0 → ∀ v, v < V → DrL σ 100 (ix (tA σ 174 j)) v ∨ DrL σ 100 (ix (tA σ 175 j)) v → hd v ≠ w) := by
    intro d
    induction d with
    | zero =>
      intro k kf tf hj hk ht
      obtain ⟨kf, rfl⟩ : ∃ g, kf = g + 1 := ⟨kf - 1, by omega⟩
      obtain ⟨tf, rfl⟩ : ∃ g, tf = g + 1 := ⟨tf - 1, by omega⟩
      obtain rfl : k = E := by omega
      have c1 : mI M 35 1 = nI k := (p.1.i rfl 1).trans e1
      have c2 : tI s 144 = nI k := (p.2 144 rfl).1.trans e2
      have le : nI k ≤ nI k := (bI_le (by omega) (by omega)).mpr (Nat.le_refl _)
      exact Or.inr ⟨by unfold KL_X0_isInAny_2; rw [c1, ifT le], by unfold L_isSomewhere_2; rw [c2, ifT le], fun j h1 h2 => by omega⟩
    | succ d ih =>
      intro k kf tf hj hk ht
      obtain ⟨kf, rfl⟩ : ∃ g, kf = g + 1 := ⟨kf - 1, by omega⟩
      obtain ⟨tf, rfl⟩ : ∃ g, tf = g + 1 := ⟨tf - 1, by omega⟩
      have c1 : mI M 35 1 = nI E := (p.1.i rfl 1).trans e1
      have c2 : tI s 144 = nI E := (p.2 144 rfl).1.trans e2
      have le : ¬ nI E ≤ nI k := fun z => by have := (bI_le (by omega) (by omega)).mp z; omega
      have i1 : inb (nI k) 180 := inb_nI' (by omega) (by decide)
      have i4 : inb (nI k) 400 := inb_nI' (by omega) (by decide)
      have xk : ix (nI k) = k := ix_nI (by omega)
      have nx : nI k + 1 = nI (k + 1) := nI_addL k 1
      obtain ⟨g1, g2⟩ := g k (by omega)
      have go := ih (k + 1) kf tf (by omega) (by omega) (by omega)
      by_cases e : tA s 180 k = 0
      · obtain ⟨⟨n, m1, m2⟩, n', m3, m4⟩ := eq k (by omega)
        obtain ⟨q1, q2⟩ := eq2 k (by omega)
        have get : K_J2_get 111 (nI k) M = some ((pl D 111).getD k 0, M) := p.1.get W.2.1 (by decide) (by omega) rfl rfl rfl
        have k19 : mk M ((pl D 111).getD k 0) = 19 := by rw [p.1.k]; exact (W.2.1.2.1 111 (by decide) k (by omega)).1
        have r0 : mR M 3600 ((pl D 111).getD k 0) = mR M0 3600 ((pl D 111).getD k 0) := p.1.r rfl _
        have r1 : mR M 3601 ((pl D 111).getD k 0) = mR M0 3601 ((pl D 111).getD k 0) := p.1.r rfl _
        obtain ⟨r, a1, a2, a3, a4⟩ := z_there (x3 := x3) W X hN n2 p al am hw 100 300 _ _ n (by decide) m2
        obtain ⟨r', b1, b2, b3, b4⟩ := z_there (x3 := x3) W X hN n2 p al am hw 100 300 _ _ n' (by decide) m4
        have hK : ∀ (y : Option ((Unit ⊕ Int32) × CM)), KL_X0_isInAny_2 kf (nI w) x3 (nI (k + 1)) M = y → KL_X0_isInAny_2 (kf + 1) (nI w) x3 (nI k) M = if r = 0 then if r' = 0 then y else some (.inr 1, M) else some (.inr 1, M) := fun y hy => by
          unfold KL_X0_isInAny_2 K_X0_isThere
          rw [c1, ifF le, ifT i1, xk, g1, ifT e, get, ob_some, ifT (Or.inr k19), ifT k19, r0, a2, ob_some, get, ob_some, ifT (Or.inr k19), ifT k19, r1, b2, ob_some, nm_eq, nx, hy]
        have hT : ∀ (y : Option ((Unit ⊕ Int32) × TS)), L_isSomewhere_2 tf (nI w) x3 (nI (k + 1)) s = y → L_isSomewhere_2 (tf + 1) (nI w) x3 (nI k) s = if r = 0 then if r' = 0 then y else some (.inr 1, s) else some (.inr 1, s) := fun y hy => by
          unfold L_isSomewhere_2 F_hasHead
          rw [c2, ifF le, ifT i4, xk, ifT e, ifT i4, q1, m1, a3, ob_some, ifT i4, q2, m3, b3, ob_some, nm_eq, nx, hy]
        rcases a1 with rfl | rfl
        · rcases b1 with rfl | rfl
          · rcases go with ⟨r, rfl, d1, d2⟩ | ⟨d1, d2, d3⟩
            · exact Or.inl ⟨1, rfl, (hK _ d1).trans rfl, (hT _ d2).trans rfl⟩
            · refine Or.inr ⟨(hK _ d1).trans rfl, (hT _ d2).trans rfl, fun j h1 h2 h3 v hv hd' => ?_⟩
              by_cases z : j = k
              · rw [z, m1, m3, ix_nI (by have := m2.nb; omega), ix_nI (by have := m4.nb; omega)] at hd'
                rcases hd' with y | y
                · exact a4 rfl v hv y
                · exact b4 rfl v hv y
              · exact d3 j (by omega) h2 h3 v hv hd'
          · exact Or.inl ⟨1, rfl, (hK _ rfl).trans rfl, (hT _ rfl).trans rfl⟩
        · exact Or.inl ⟨1, rfl, (hK _ rfl).trans rfl, (hT _ rfl).trans rfl⟩
      · have hK : KL_X0_isInAny_2 (kf + 1) (nI w) x3 (nI k) M = KL_X0_isInAny_2 kf (nI w) x3 (nI (k + 1)) M := by
          conv => lhs; unfold KL_X0_isInAny_2
          rw [c1, ifF le, ifT i1, xk, g1, ifF e, nm_eq, nx]
        have hT : L_isSomewhere_2 (tf + 1) (nI w) x3 (nI k) s = L_isSomewhere_2 tf (nI w) x3 (nI (k + 1)) s := by
          conv => lhs; unfold L_isSomewhere_2
          rw [c2, ifF le, ifT i4, xk, ifF e, nm_eq, nx]
        rw [hK, hT]
        rcases go with z | ⟨d1, d2, d3⟩
        · exact Or.inl z
        · refine Or.inr ⟨d1, d2, fun j h1 h2 h3 => ?_⟩
          by_cases z : j = k
          · exact absurd (by rw [← z]; exact h3) e
          · exact d3 j (by omega) h2 h3
  have fu := fu2
  rcases main E 0 FU FU (by omega) (by omega) (by omega) with ⟨r, rfl, d1, d2⟩ | ⟨d1, d2, d3⟩
  · refine ⟨1, Or.inr rfl, ?_, ?_, fun z => absurd z (by decide)⟩
    · unfold K_X0_isInAny
      rw [show KL_X0_isInAny_2 FU (nI w) x3 0 M = some (.inr 1, M) from d1, obS_inr]
    · unfold F_isSomewhere
      rw [show L_isSomewhere_2 FU (nI w) x3 0 s = some (.inr 1, s) from d2, obS_inr]
  · refine ⟨0, Or.inl rfl, ?_, ?_, fun _ k hk => d3 k (Nat.zero_le _) hk⟩
    · unfold K_X0_isInAny
      rw [show KL_X0_isInAny_2 FU (nI w) x3 0 M = some (.inl (), M) from d1, obS_inl]
    · unfold F_isSomewhere
      rw [show L_isSomewhere_2 FU (nI w) x3 0 s = some (.inl (), s) from d2, obS_inl]
end ANY
