/-! Layer B: the flat model: the twin makes a variable, or has a fault -/
set_option maxRecDepth 100000
/-- its kind, by the flags -/
def vKind (fl : Nat) : Int32 := if nI fl &&& 1 = 0 then if nI fl &&& 4 = 0 then 0 else 2 else 1
def vFlow (fl : Nat) : Int32 := if nI fl &&& 2 = 0 then 0 else 1
section TVAR
variable {σ σ' σ0 σ2 : TS} {B l k n o m u w E E' I i k0 fr e cb v V env fl z kk : Nat} {S S' : List Nat} {a : Nat × Nat × Nat} {W W1 W2 : List (Nat × Nat × Nat)} {x : Int64}
set_option maxHeartbeats 1000000 in
theorem t_makeVar (h0 : tI σ 0 = 0) (hE : tI σ 93 = nI E) (hE4 : E ≤ 40000) (hW : env + W.length = E) (hs : EsR σ env W) (hB : ∀ a, a ∈ W → EnB σ a ∧ tA σ 62 a.1 = 0 ∧ EnC σ a) (hM : MlR σ k0 n) (h55 : tA σ 55 e = ptr k0 n 0) (h60 : ∀ t, t < n → tA σ 62 (k0 + t) = 0 → tA σ 60 (k0 + t) ≠ 0) (he : e < 481) (hV : tI σ 107 = nI V) (hV96 : V ≤ 96) (hfl : tA σ 52 e = nI fl) (hz : tA σ 53 e = nI z ∧ z ≤ 9) :
    ((∃ a, a ∈ W ++ msE k0 n i ∧ vbad σ a) ∧ F_makeVariable (nI i) (nI e) (nI kk) (nI env) σ = some ((), badT σ 21)) ∨
    ((∀ a, a ∈ W ++ msE k0 n i → ¬ vbad σ a) ∧ V = 96 ∧ F_makeVariable (nI i) (nI e) (nI kk) (nI env) σ = some ((), badT σ 24)) ∨
    ((∀ a, a ∈ W ++ msE k0 n i → ¬ vbad σ a) ∧ V < 96 ∧ ∃ σ', F_makeVariable (nI i) (nI e) (nI kk) (nI env) σ = some ((), σ') ∧ Ft [93, 94, 95, 96, 97, 98, 99, 100, 101, 102, 103, 107] σ σ' ∧ (tI σ' 107 = nI (V + 1) ∧ tI σ' 93 = nI env) ∧ (∀ f, f ∈ [94, 95, 96, 97, 98, 99, 100, 101, 102, 103] → ∀ j, j ≠ V → tA σ' f j = tA σ f j) ∧ (tA σ' 94 V = vKind fl ∧ tA σ' 99 V = vFlow fl ∧ tA σ' 95 V = tA σ 54 e ∧ tA σ' 96 V = nI i ∧ tA σ' 97 V = nI e ∧ tA σ' 98 V = nI (if z = 0 then 0 else kk + 1)) ∧ (tA σ' 100 V = (pick (vE σ W) (tA σ 56 e, nI i)).1 ∧ tA σ' 101 V = (pick (vE σ W) (tA σ 56 e, nI i)).2) ∧ tA σ' 102 V = (pick (sE σ W) (sE σ (msE k0 n i))).1 ∧ (tA σ' 102 V ≠ 0 → tA σ' 103 V = (pick (sE σ W) (sE σ (msE k0 n i))).2)) := by
  have fu := FUb
  have hk := hM.1
  have ein : inb (nI e) 481 := inb_nI' he (by decide)
  have eix : ix (nI e) = e := ix_nI (by omega)
  have hF : F_makeVariable (nI i) (nI e) (nI kk) (nI env) σ = ob (L_makeVariable_4 FU (nI i) (nI e) (nI kk) (nI env) (nI env) σ) fun _ s28 => J_makeVariable_77 (nI i) (nI e) (nI kk) (nI env) s28 := rfl
  have mem : ∀ a, a ∈ W ++ msE k0 n i ↔ a ∈ W ∨ a ∈ msE k0 n i := fun a => List.mem_append
  have jbad : ∀ r : Int32, r ≠ 0 → J_makeVariable_145 (nI i) (nI e) (nI kk) (nI env) (badT σ r) = some ((), badT σ r) := fun r hr => by
    unfold J_makeVariable_145 J_makeVariable_168
    rw [t_isBad1 (badT_ne hr), ob_some, ifF (by decide), t_isBad1 (badT_ne hr), ob_some, ifF (by decide)]
  rw [hF]
  rcases t_mv4 (x1 := nI i) (x2 := nI e) (x3 := nI kk) (x4 := nI env) h0 hE hE4 W env FU hW (by omega) hs hB with ⟨⟨a, a1, a2⟩, g⟩ | ⟨nb1, g⟩
  · -- an entry that can't be
    left
    refine ⟨⟨a, (mem a).mpr (Or.inl a1), a2⟩, ?_⟩
    rw [g, ob_some]
    unfold J_makeVariable_77
    have e55 : tA (badT σ 21) 55 e = ptr k0 n 0 := h55
    have st : L_makeVariable_85 FU (nI i) (nI e) (nI kk) (nI env) (ptr k0 n 0) (badT σ 21) = some ((), badT σ 21) := by
      rw [FUs, L_makeVariable_85]
      by_cases y : ptr k0 n 0 = 0
      · rw [ifT y]
      · rw [ifF y, t_isBad1 (badT_ne (by decide)), ob_some, ifF (by decide)]
    rw [ifT ein, eix, e55, nm_eq, st, ob_some, jbad 21 (by decide)]
  rw [g, ob_some]
  have h77 : ∀ s, s = σ → J_makeVariable_77 (nI i) (nI e) (nI kk) (nI env) s = ob (L_makeVariable_85 FU (nI i) (nI e) (nI kk) (nI env) (ptr k0 n 0) σ) fun _ s59 => J_makeVariable_145 (nI i) (nI e) (nI kk) (nI env) s59 := fun s q => by
    subst q
    unfold J_makeVariable_77
    rw [ifT ein, eix, h55, nm_eq]
  rw [h77 σ rfl]
  rcases t_mv85 (i := i) (x1 := nI i) (x2 := nI e) (x3 := nI kk) (x4 := nI env) h0 hM n 0 FU (by omega) (by omega) with ⟨⟨a, a1, a2⟩, g⟩ | ⟨nb2, g⟩
  · left
    rw [Nat.add_zero] at a1
    exact ⟨⟨a, (mem a).mpr (Or.inr a1), a2⟩, by rw [g, ob_some, jbad 21 (by decide)]⟩
  rw [Nat.add_zero] at nb2
  have nb : ∀ a, a ∈ W ++ msE k0 n i → ¬ vbad σ a := fun a ha => by
    rcases (mem a).mp ha with q | q
    · exact nb1 a q
    · exact nb2 a q
  rw [g, ob_some]
  right
  by_cases v96 : V = 96
  · left
    refine ⟨nb, v96, ?_⟩
    unfold J_makeVariable_145
    rw [t_isBad0 h0, ob_some, ifT (rfl : (0 : Int32) = 0), hV, ifT (show nI V = 96 from by rw [v96]; rfl), t_badT h0, ob_some]
    unfold J_makeVariable_168
    rw [t_isBad1 (badT_ne (by decide)), ob_some, ifF (by decide)]
  right
  have hv : V < 96 := by omega
  refine ⟨nb, hv, ?_⟩
  have vin : inb (nI V) 96 := inb_nI' hv (by decide)
  have vix : ix (nI V) = V := ix_nI (by omega)
  obtain ⟨s1, hs1⟩ : ∃ s, s = tsA (tsI σ 107 (nI (V + 1))) 94 V (vKind fl) := ⟨_, rfl⟩
  obtain ⟨s2, hs2⟩ : ∃ s, s = tsA (tsA (tsA (tsA s1 99 V (vFlow fl)) 95 V (tA σ 54 e)) 96 V (nI i)) 97 V (nI e) := ⟨_, rfl⟩
  obtain ⟨s3, hs3⟩ : ∃ s, s = tsA (tsA (tsA (tsA (tsA s2 98 V (nI (if z = 0 then 0 else kk + 1))) 100 V (tA σ 56 e)) 101 V (nI i)) 102 V 0) 103 V (nI i) := ⟨_, rfl⟩
  have f1 : Ft [93, 94, 95, 96, 97, 98, 99, 100, 101, 102, 103, 107] σ s1 := by rw [hs1]; exact ((Ft.rf _ σ).p_tsI rfl).p_tsA rfl
  have f2 : Ft [93, 94, 95, 96, 97, 98, 99, 100, 101, 102, 103, 107] σ s2 := by rw [hs2]; exact (((f1.p_tsA rfl).p_tsA rfl).p_tsA rfl).p_tsA rfl
  have f3 : Ft [93, 94, 95, 96, 97, 98, 99, 100, 101, 102, 103, 107] σ s3 := by rw [hs3]; exact ((((f2.p_tsA rfl).p_tsA rfl).p_tsA rfl).p_tsA rfl).p_tsA rfl
  have m1 : J_makeVariable_145 (nI i) (nI e) (nI kk) (nI env) σ = ob (L_makeVariable_345 FU (nI i) (nI e) (nI env) (nI V) 0 (nI env) s3) fun _ s110 => J_makeVariable_414 (nI i) (nI e) (nI env) (nI V) s110 := by
    have c52 : tA (tsI σ 107 (nI (V + 1))) 52 e = nI fl := hfl
    have j300 : ∀ y : Int32, y = nI (if z = 0 then 0 else kk + 1) → J_makeVariable_300 (nI i) (nI e) (nI env) (nI V) (nI V) y s2 = ob (L_makeVariable_345 FU (nI i) (nI e) (nI env) (nI V) 0 (nI env) s3) fun _ s110 => J_makeVariable_414 (nI i) (nI e) (nI env) (nI V) s110 := fun y hy => by
      have c56 : tA (tsA s2 98 V (nI (if z = 0 then 0 else kk + 1))) 56 e = tA σ 56 e := by
        show tA s2 56 e = _
        rw [(f2 56 rfl).2.2.1]
      unfold J_makeVariable_300
      rw [hy, ifT vin, vix, nm_eq, ifT ein, ifT vin, eix, c56, nm_eq, ifT vin, nm_eq, ifT vin, nm_eq, ifT vin, nm_eq, ← hs3]
    have j248 : J_makeVariable_248 (nI i) (nI e) (nI kk) (nI env) (nI V) (nI V) (vFlow fl) s1 = ob (L_makeVariable_345 FU (nI i) (nI e) (nI env) (nI V) 0 (nI env) s3) fun _ s110 => J_makeVariable_414 (nI i) (nI e) (nI env) (nI V) s110 := by
      have c54 : tA (tsA s1 99 V (vFlow fl)) 54 e = tA σ 54 e := by
        show tA s1 54 e = _
        rw [(f1 54 rfl).2.2.1]
      have c53 : tA s2 53 e = nI z := by rw [(f2 53 rfl).2.2.1]; exact hz.1
      unfold J_makeVariable_248
      rw [ifT vin, vix, nm_eq, ifT ein, ifT vin, eix, c54, nm_eq, ifT vin, nm_eq, ifT vin, nm_eq, ifT ein, ← hs2, c53]
      by_cases y : z = 0
      · rw [ifT (show nI z = 0 from by rw [y]; rfl)]
        exact j300 0 (by rw [ifT y]; rfl)
      · rw [ifF (show ¬ nI z = 0 from fun q => y ((bI_eq (b := 0) (by omega) (by decide)).mp q)), nI_addL]
        exact j300 _ (by rw [ifF y])
    have j229 : J_makeVariable_229 (nI i) (nI e) (nI kk) (nI env) (nI V) (nI fl) (nI V) (vKind fl) (tsI σ 107 (nI (V + 1))) = ob (L_makeVariable_345 FU (nI i) (nI e) (nI env) (nI V) 0 (nI env) s3) fun _ s110 => J_makeVariable_414 (nI i) (nI e) (nI env) (nI V) s110 := by
      unfold J_makeVariable_229
      rw [ifT vin, vix, nm_eq, ← hs1]
      by_cases y : nI fl &&& 2 = 0
      · have ef : vFlow fl = 0 := ifT y
        rw [ifT y]; rw [ef] at j248; exact j248
      · have ef : vFlow fl = 1 := ifF y
        rw [ifF y]; rw [ef] at j248; exact j248
    unfold J_makeVariable_145
    rw [t_isBad0 h0, ob_some, ifT (rfl : (0 : Int32) = 0), hV, ifF (show ¬ nI V = 96 from fun q => v96 ((bI_eq (b := 96) (by omega) (by decide)).mp q))]
    unfold J_makeVariable_168
    rw [t_isBad0 h0, ob_some, ifT (rfl : (0 : Int32) = 0), hV, nm_eq, nI_addL, nm_eq, ifT ein, eix, c52, nm_eq]
    by_cases y1 : nI fl &&& 1 = 0
    · rw [ifT y1]
      by_cases y4 : nI fl &&& 4 = 0
      · rw [ifT y4]
        have ek : vKind fl = 0 := by unfold vKind; rw [ifT y1, ifT y4]
        rw [ek] at j229; exact j229
      · rw [ifF y4]
        have ek : vKind fl = 2 := by unfold vKind; rw [ifT y1, ifF y4]
        rw [ek] at j229; exact j229
    · rw [ifF y1]
      have ek : vKind fl = 1 := by unfold vKind; rw [ifF y1]
      rw [ek] at j229; exact j229
  -- its value
  have fi : ([93, 94, 95, 96, 97, 98, 99, 100, 101, 102, 103, 107] : List Nat).all fiS.contains = true := by decide
  have s3_93 : tI s3 93 = nI E := by rw [hs3, hs2, hs1]; exact hE
  have s3_0 : tI s3 0 = 0 := by rw [(f3 0 rfl).1]; exact h0
  have es3 : EsR s3 env W := hs.mv (f3.fi fi) (fun j _ _ => ⟨(f3 90 rfl).2.2.1 j, (f3 91 rfl).2.2.1 j, (f3 92 rfl).2.2.1 j⟩)
  have ev3 : ∀ a, a ∈ W → EnV s3 a := fun a ha => EnV.ft ⟨(hB a ha).1, (hB a ha).2.1, (hB a ha).2.2, nb1 a ha⟩ f3 fi
  have g4 := t_mv345 (x1 := nI i) (x2 := nI e) (x4 := nI env) hv s3_93 hE4 W env FU hW (by omega) es3 ev3
  rw [vE_ft f3 fi] at g4
  obtain ⟨s4, hs4⟩ : ∃ s, s = if (vE σ W).1 = 0 then s3 else tsA (tsA s3 100 V (vE σ W).1) 101 V (vE σ W).2 := ⟨_, rfl⟩
  rw [← hs4] at g4
  have p4 : Ft [93, 94, 95, 96, 97, 98, 99, 100, 101, 102, 103, 107] σ s4 ∧ tI s4 93 = nI E ∧ tI s4 107 = nI (V + 1) ∧ (∀ f, f ∈ [94, 95, 96, 97, 98, 99, 100, 101, 102, 103] → ∀ j, j ≠ V → tA s4 f j = tA σ f j) ∧ (tA s4 94 V = vKind fl ∧ tA s4 99 V = vFlow fl ∧ tA s4 95 V = tA σ 54 e ∧ tA s4 96 V = nI i ∧ tA s4 97 V = nI e ∧ tA s4 98 V = nI (if z = 0 then 0 else kk + 1)) ∧ (tA s4 100 V = (pick (vE σ W) (tA σ 56 e, nI i)).1 ∧ tA s4 101 V = (pick (vE σ W) (tA σ 56 e, nI i)).2) ∧ tA s4 102 V = 0 := by
    have o3 : ∀ f, f ∈ [94, 95, 96, 97, 98, 99, 100, 101, 102, 103] → ∀ j, j ≠ V → tA s3 f j = tA σ f j := fun f _ j hj => by
      rw [hs3, hs2, hs1]
      simp only [tA_tsA, tA_tsI, hj, and_false, if_false]
    have v3 : (tA s3 94 V = vKind fl ∧ tA s3 99 V = vFlow fl ∧ tA s3 95 V = tA σ 54 e ∧ tA s3 96 V = nI i ∧ tA s3 97 V = nI e ∧ tA s3 98 V = nI (if z = 0 then 0 else kk + 1)) ∧ (tA s3 100 V = tA σ 56 e ∧ tA s3 101 V = nI i) ∧ tA s3 102 V = 0 := by
      rw [hs3, hs2, hs1]
      refine ⟨⟨?_, ?_, ?_, ?_, ?_, ?_⟩, ⟨?_, ?_⟩, ?_⟩ <;> simp [tA_tsA, tA_tsI]
    unfold pick
    by_cases y : (vE σ W).1 = 0
    · rw [hs4, ifT y, ifT y]
      exact ⟨f3, s3_93, by rw [hs3, hs2, hs1]; rfl, o3, v3.1, v3.2.1, v3.2.2⟩
    · rw [hs4, ifF y, ifF y]
      refine ⟨(f3.p_tsA rfl).p_tsA rfl, s3_93, by rw [hs3, hs2, hs1]; rfl, fun f hf j hj => ?_, ?_, ⟨?_, ?_⟩, ?_⟩
      · rw [tA_tsA, ifF (fun z => hj z.2), tA_tsA, ifF (fun z => hj z.2)]; exact o3 f hf j hj
      · simp only [tA_tsA]; exact v3.1
      · rw [tA_tsA, ifF (by omega), tA_tsA, ifT ⟨rfl, rfl⟩]
      · rw [tA_tsA, ifT ⟨rfl, rfl⟩]
      · rw [tA_tsA, ifF (by omega), tA_tsA, ifF (by omega)]; exact v3.2.2
  obtain ⟨f4, s4_93, s4_107, o4, v4, w4, u4⟩ := p4
  have es4 : EsR s4 env W := hs.mv (f4.fi fi) (fun j _ _ => ⟨(f4 90 rfl).2.2.1 j, (f4 91 rfl).2.2.1 j, (f4 92 rfl).2.2.1 j⟩)
  have ev4 : ∀ a, a ∈ W → EnV s4 a := fun a ha => EnV.ft ⟨(hB a ha).1, (hB a ha).2.1, (hB a ha).2.2, nb1 a ha⟩ f4 fi
  have g5 := t_mv418 (x1 := nI i) (x2 := nI e) (x4 := nI env) hv s4_93 hE4 u4 W env FU hW (by omega) es4 ev4
  rw [sE_ft f4 fi] at g5
  obtain ⟨s5, hs5⟩ : ∃ s, s = if (sE σ W).1 = 0 then s4 else tsA (tsA s4 102 V (sE σ W).1) 103 V (sE σ W).2 := ⟨_, rfl⟩
  rw [← hs5] at g5
  have f5 : Ft [93, 94, 95, 96, 97, 98, 99, 100, 101, 102, 103, 107] σ s5 := by
    rw [hs5]
    by_cases y : (sE σ W).1 = 0
    · rw [ifT y]; exact f4
    · rw [ifF y]; exact (f4.p_tsA rfl).p_tsA rfl
  have x5 : (∀ f, f ∈ [94, 95, 96, 97, 98, 99, 100, 101] → ∀ j, tA s5 f j = tA s4 f j) ∧ (∀ f, f ∈ [102, 103] → ∀ j, j ≠ V → tA s5 f j = tA σ f j) ∧ tA s5 102 V = (sE σ W).1 ∧ ((sE σ W).1 ≠ 0 → tA s5 103 V = (sE σ W).2) ∧ tI s5 107 = nI (V + 1) := by
    rw [hs5]
    by_cases y : (sE σ W).1 = 0
    · rw [ifT y]
      exact ⟨fun _ _ _ => rfl, fun f hf j hj => o4 f (by simp only [List.mem_cons, List.not_mem_nil, or_false] at hf ⊢; omega) j hj, by rw [u4, y], fun q => absurd y q, s4_107⟩
    · rw [ifF y]
      refine ⟨fun f hf j => ?_, fun f hf j hj => ?_, ?_, fun _ => ?_, s4_107⟩
      · simp only [List.mem_cons, List.not_mem_nil, or_false] at hf
        rw [tA_tsA, ifF (by omega), tA_tsA, ifF (by omega)]
      · rw [tA_tsA, ifF (fun z => hj z.2), tA_tsA, ifF (fun z => hj z.2)]
        exact o4 f (by simp only [List.mem_cons, List.not_mem_nil, or_false] at hf ⊢; omega) j hj
      · rw [tA_tsA, ifF (by omega), tA_tsA, ifT ⟨rfl, rfl⟩]
      · rw [tA_tsA, ifT ⟨rfl, rfl⟩]
  obtain ⟨s6, hs6⟩ : ∃ s, s = tsI s5 93 (nI env) := ⟨_, rfl⟩
  have f6 : Ft [93, 94, 95, 96, 97, 98, 99, 100, 101, 102, 103, 107] σ s6 := by rw [hs6]; exact f5.p_tsI rfl
  have a6 : ∀ f j, tA s6 f j = tA s5 f j := fun f j => by rw [hs6]; rfl
  have g6 := t_mv548 (i := i) (v := V) hv (by rw [(f6 0 rfl).1]; exact h0) (hM.ft f6 fi) (fun t ht q => by
    rw [(f6 62 rfl).2.2.1] at q
    rw [(f6 60 rfl).2.2.1]; exact h60 t ht q) (fun a ha q => nb2 a ha ((vbad_ft f6 fi).mp q))
  rw [sE_ft f6 fi, a6] at g6
  have c55 : tA s6 55 e = ptr k0 n 0 := by rw [(f6 55 rfl).2.2.1]; exact h55
  have e14 : J_makeVariable_414 (nI i) (nI e) (nI env) (nI V) s4 = ob (L_makeVariable_548 FU (nI i) (nI V) (ptr k0 n 0) s6) fun _ s183 => some ((), s183) := by
    unfold J_makeVariable_414
    rw [g5, obS_inl, nm_eq, ← hs6, ifT ein, eix, c55, nm_eq]
  rw [m1, g4, ob_some, e14, g6, ob_some]
  obtain ⟨x51, x52, x53, x54, x55⟩ := x5
  have s6_93 : tI s6 93 = nI env ∧ tI s6 107 = nI (V + 1) := by rw [hs6]; exact ⟨rfl, x55⟩
  have vv : ∀ f, f ∈ [94, 95, 96, 97, 98, 99, 100, 101] → ∀ j, tA s6 f j = tA s4 f j := fun f hf j => (a6 f j).trans (x51 f hf j)
  rw [x53]
  by_cases y : (sE σ W).1 ≠ 0 ∨ (sE σ (msE k0 n i)).1 = 0
  · rw [ifT y]
    refine ⟨s6, rfl, f6, ⟨s6_93.2, s6_93.1⟩, fun f hf j hj => ?_, ⟨(vv 94 (by decide) V).trans v4.1, (vv 99 (by decide) V).trans v4.2.1, (vv 95 (by decide) V).trans v4.2.2.1, (vv 96 (by decide) V).trans v4.2.2.2.1, (vv 97 (by decide) V).trans v4.2.2.2.2.1, (vv 98 (by decide) V).trans v4.2.2.2.2.2⟩, ⟨(vv 100 (by decide) V).trans w4.1, (vv 101 (by decide) V).trans w4.2⟩, ?_, fun q => ?_⟩
    · by_cases hf2 : f ∈ [102, 103]
      · rw [a6]; exact x52 f hf2 j hj
      · rw [vv f (by simp only [List.mem_cons, List.not_mem_nil, or_false] at hf hf2 ⊢; omega) j]; exact o4 f hf j hj
    · rw [a6, x53]
      unfold pick
      by_cases q : (sE σ W).1 = 0
      · rw [ifT q, q]
        rcases y with y | y
        · exact absurd q y
        · exact y.symm
      · rw [ifF q]
    · rw [a6, x53] at q
      rw [a6]
      unfold pick
      rw [ifF q]
      exact x54 q
  · have y1 : (sE σ W).1 = 0 := by
      by_cases q : (sE σ W).1 = 0
      · exact q
      · exact absurd (Or.inl q) y
    have y2 : (sE σ (msE k0 n i)).1 ≠ 0 := fun q => y (Or.inr q)
    rw [ifF y]
    have o7 : ∀ f, f ≠ 102 → f ≠ 103 → ∀ j, tA (tsA (tsA s6 102 V (sE σ (msE k0 n i)).1) 103 V (sE σ (msE k0 n i)).2) f j = tA s6 f j := fun f h1 h2 j => by rw [tA_tsA, ifF (fun z => h2 z.1), tA_tsA, ifF (fun z => h1 z.1)]
    refine ⟨_, rfl, (f6.p_tsA rfl).p_tsA rfl, ⟨s6_93.2, s6_93.1⟩, fun f hf j hj => ?_, ⟨?_, ?_, ?_, ?_, ?_, ?_⟩, ⟨?_, ?_⟩, ?_, fun q => ?_⟩
    · rw [tA_tsA, ifF (fun z => hj z.2), tA_tsA, ifF (fun z => hj z.2)]
      by_cases hf2 : f ∈ [102, 103]
      · rw [a6]; exact x52 f hf2 j hj
      · rw [vv f (by simp only [List.mem_cons, List.not_mem_nil, or_false] at hf hf2 ⊢; omega) j]; exact o4 f hf j hj
    · rw [o7 94 (by decide) (by decide)]; exact (vv 94 (by decide) V).trans v4.1
    · rw [o7 99 (by decide) (by decide)]; exact (vv 99 (by decide) V).trans v4.2.1
    · rw [o7 95 (by decide) (by decide)]; exact (vv 95 (by decide) V).trans v4.2.2.1
    · rw [o7 96 (by decide) (by decide)]; exact (vv 96 (by decide) V).trans v4.2.2.2.1
    · rw [o7 97 (by decide) (by decide)]; exact (vv 97 (by decide) V).trans v4.2.2.2.2.1
    · rw [o7 98 (by decide) (by decide)]; exact (vv 98 (by decide) V).trans v4.2.2.2.2.2
    · rw [o7 100 (by decide) (by decide)]; exact (vv 100 (by decide) V).trans w4.1
    · rw [o7 101 (by decide) (by decide)]; exact (vv 101 (by decide) V).trans w4.2
    · rw [tA_tsA, ifF (by omega), tA_tsA, ifT ⟨rfl, rfl⟩]
      unfold pick
      rw [ifT y1]
    · rw [tA_tsA, ifT ⟨rfl, rfl⟩]
      unfold pick
      rw [ifT y1]
end TVAR
