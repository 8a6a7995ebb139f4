/-! Layer B: the flat model: the variables of an element, both sides -/
set_option maxRecDepth 100000
/-- whose the writes of variables from V on are -/
def TvF (V t : Nat) : Prop := t = 1 ∨ t = 98 ∨ (tg 98 V ≤ t ∧ t < tg 99 0) ∨ (tg 200 V ≤ t ∧ t < tg 201 0)
abbrev vaS : List Nat := [90, 91, 92, 93, 94, 95, 96, 97, 98, 99, 100, 101, 102, 103, 107]
section VARS2
variable {C C' : PC} {D D' D2 : FQ} {M M' M1 M2 : CM} {σ σ' σ0 σ2 : TS} {mss fss xs bs qs os : List Nat} {B l k n o m u w Q I I' L V V' Bm Bm' b v r R E E' cr i k0 fr e eo fl z env kk tf cb : Nat} {P P' X T : Nat → Prop} {S S' : List Nat} {a : Nat × Nat × Nat} {A W W1 W2 : List (Nat × Nat × Nat)} {ks : List (Nat × Nat)} {x : Int64} {x3 x4 x5 x6 x7 x8 : Int32} {cf : Int32 → Int32 → Int32 → TS → Option (Unit × TS)}
theorem FW.wzT (W : FW C B P mss fss D M σ) (f : Ft S σ σ') (hK : itK.all (fun k => !S.contains k) = true) : FW C B P mss fss D M σ' ∧ Wz C C P M M σ σ' := W.mv Fq.rf (O1.rf [] M) (by decide) W.2.1 (Dx.rf D M) ⟨Nat.le_refl _, Nat.le_refl _⟩ f hK
/-- one variable (no entry is bad) -/
theorem t_vstep {f : Nat} (h : CvT σ E i tf cb W ks) (hx : tB σ 50 e = x) (h0 : tI σ 0 = 0) (h93 : tI σ 93 = nI E) (hA : A = adv σ x (W ++ wcE i ks)) (hB : ∀ a, a ∈ A → EnB σ a ∧ tA σ 62 a.1 = 0 ∧ EnC σ a) (hM : MxT σ e k0 n) (he : e < 481) (hV : tI σ 107 = nI V) (hV96 : V ≤ 96) (hfl : tA σ 52 e = nI fl) (hz : tA σ 53 e = nI z ∧ z ≤ 9) (hkk : kk < m) (hm : m ≤ 9) :
    ∃ σ2, PutS σ E A σ2 ∧ (((∃ a, a ∈ A ++ msE k0 n i ∧ vbad σ a) ∧ L_makeMember_240 cf (f + 2) (nI i) (nI e) x3 x4 1 (nI m) x7 (nI kk) σ = some (.inl (), badT σ2 21)) ∨ ((∀ a, a ∈ A ++ msE k0 n i → ¬ vbad σ a) ∧ V = 96 ∧ L_makeMember_240 cf (f + 2) (nI i) (nI e) x3 x4 1 (nI m) x7 (nI kk) σ = some (.inl (), badT σ2 24)) ∨ ((∀ a, a ∈ A ++ msE k0 n i → ¬ vbad σ a) ∧ V < 96 ∧ ∃ σ', L_makeMember_240 cf (f + 2) (nI i) (nI e) x3 x4 1 (nI m) x7 (nI kk) σ = L_makeMember_240 cf (f + 1) (nI i) (nI e) x3 x4 1 (nI m) x7 (nI (kk + 1)) σ' ∧ VwT σ2 σ' V i e fl (if z = 0 then 0 else kk + 1) E (pick (vE σ A) (tA σ 56 e, nI i)) (pick (sE σ A) (sE σ (msE k0 n i))).1 (pick (sE σ A) (sE σ (msE k0 n i))).2)) := by
  obtain ⟨σ2, g1, g2⟩ := t_envs (cf := cf) (x3 := x3) (x4 := x4) (x5 := 1) (x6 := nI m) (x7 := x7) (x8 := nI kk) h he hx h93
  rw [← hA] at g2
  refine ⟨σ2, g2, ?_⟩
  obtain ⟨p1, p2, p3, p4⟩ := g2
  have sS : ([90, 91, 92, 93] : List Nat).all fiS.contains = true := by decide
  have al : A.length ≤ W.length + (wcE i ks).length := by rw [hA]; have := adv_len (σ := σ) (x := x) (W := W ++ wcE i ks); rw [List.length_append] at this; exact this
  obtain ⟨⟨a1, a2, a3, a4⟩, -, -, -, h5⟩ := h
  have inI : inb (nI i) 200 := inb_nI' a1 (by decide)
  have inE : inb (nI e) 481 := inb_nI' he (by decide)
  have step : L_makeMember_240 cf (f + 2) (nI i) (nI e) x3 x4 1 (nI m) x7 (nI kk) σ = ob (F_makeVariable (nI i) (nI e) (nI kk) (nI E) σ2) fun _ s148 => L_makeMember_240 cf (f + 1) (nI i) (nI e) x3 x4 1 (nI m) x7 (nI (kk + 1)) s148 := by
    rw [L_makeMember_240, ifF (fun q => by have := (bI_le (by omega) (by omega)).mp q; omega), t_isBad0 h0, ob_some, ifT (rfl : (0 : Int32) = 0), nm_eq, h93, ifT inI, ifT inI, ifT inE]
    rw [g1 _ (fun s78 => if (1 : Int32) = 0 then if inb (nI e) 481 then nm (tA s78 55 (ix (nI e))) fun v81 => ob (L_makeMember_406 cf FU (nI i) (nI e) x3 x4 1 (nI m) x7 (nI kk) (nI E) v81 s78) fun q99 s100 => if x3 < 12 then J_makeMember_464_240 cf (L_makeMember_240 cf (f + 1)) (nI i) (nI e) x3 x4 1 (nI m) x7 (nI kk) (nI E) s100 else ob (F_bad 23 0 s100) fun r143 s142 => J_makeMember_464_240 cf (L_makeMember_240 cf (f + 1)) (nI i) (nI e) x3 x4 1 (nI m) x7 (nI kk) (nI E) s142 else none else ob (F_makeVariable (nI i) (nI e) (nI kk) (nI E) s78) fun r149 s148 => nm ((nI kk) + 1) fun v152 => L_makeMember_240 cf (f + 1) (nI i) (nI e) x3 x4 1 (nI m) x7 v152 s148)]
    rw [ifF (show ¬ (1 : Int32) = 0 by decide), nI_addL]
    rfl
  have bad : ∀ s : TS, tI s 0 ≠ 0 → L_makeMember_240 cf (f + 1) (nI i) (nI e) x3 x4 1 (nI m) x7 (nI (kk + 1)) s = some (.inl (), s) := fun s hs => by
    rw [L_makeMember_240]
    by_cases q : nI m ≤ nI (kk + 1)
    · rw [ifT q]
    · rw [ifF q, t_isBad1 hs, ob_some, ifF (show ¬ (1 : Int32) = 0 by decide)]
  have h02 : tI σ2 0 = 0 := by rw [(p1 0 rfl).1]; exact h0
  have eV : ∀ L : List (Nat × Nat × Nat), vE σ2 L = vE σ L := vE_ft p1 sS
  have eS : ∀ L : List (Nat × Nat × Nat), sE σ2 L = sE σ L := sE_ft p1 sS
  have hM2 := hM.ft p1 sS
  have mv := t_makeVar (σ := σ2) (kk := kk) (V := V) (fl := fl) (z := z) (i := i) h02 p2 (by omega) rfl p3 (fun a ha => ⟨(hB a ha).1.ft p1 sS, by rw [(p1 62 rfl).2.2.1]; exact (hB a ha).2.1, (hB a ha).2.2.ft p1 sS⟩) hM2.1 hM2.2.1 hM2.2.2 he (by rw [(p1 107 rfl).1]; exact hV) hV96 (by rw [(p1 52 rfl).2.2.1]; exact hfl) ⟨by rw [(p1 53 rfl).2.2.1]; exact hz.1, hz.2⟩
  rw [eV, eS, eS, (p1 56 rfl).2.2.1, (p1 54 rfl).2.2.1] at mv
  rcases mv with ⟨⟨a, q1, q2⟩, q3⟩ | ⟨q1, q2, q3⟩ | ⟨q1, q2, σ', q3, q4, q5, q6, q7, q8, q9, q10⟩
  · refine Or.inl ⟨⟨a, q1, (vbad_ft p1 sS).mp q2⟩, ?_⟩
    rw [step, q3, ob_some]
    exact bad _ (badT_ne (by decide))
  · refine Or.inr (Or.inl ⟨fun a ha z => q1 a ha ((vbad_ft p1 sS).mpr z), q2, ?_⟩)
    rw [step, q3, ob_some]
    exact bad _ (badT_ne (by decide))
  · refine Or.inr (Or.inr ⟨fun a ha z => q1 a ha ((vbad_ft p1 sS).mpr z), q2, σ', ?_, q4, q5, q6, ?_, q8, q9, q10⟩)
    · rw [step, q3, ob_some]
    · rw [(p1 54 rfl).2.2.1]; exact q7
end VARS2
