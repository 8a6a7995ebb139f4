/-! Layer B: the flat model: the class of an element, both sides -/
set_option maxRecDepth 100000
section CLS
variable {C C' : PC} {D D' D2 : FQ} {M M' M1 M2 : CM} {σ σ' σ0 σ2 : TS} {mss fss xs bs qs os : List Nat} {B l k n o m u w Q I I' L V V' Bm Bm' b v r R R' E E' cr i i' k0 fr e eo fl z env kk tf cb d : Nat} {P P' X T : Nat → Prop} {S S' : List Nat} {a : Nat × Nat × Nat} {A W W1 W2 : List (Nat × Nat × Nat)} {ks : List (Nat × Nat)} {x : Int64}
theorem FiS.cn (F : FiS C B P mss fss D M σ V I Bm cr R E) : CnR (cm C) M σ mss := by
  obtain ⟨-, -, -, -, ⟨⟨m24, t49⟩, -⟩, hT, -⟩ := F.1.1
  exact hT.cn t49 m24
theorem FiS.cc (F : FiS C B P mss fss D M σ V I Bm cr R E) (hk : k < mss.length) : CcR C P M σ k (mss.getD k 0) := F.1.1.2.2.2.2.2.1.2.1 k hk
/-- a class of a name, both sides -/
theorem FW.lookup (hB1 : B ≤ 1280) (W : FW C B P mss fss D M σ) (hw : 38 ≤ w ∧ w < 38 + cm C) : (∃ k, k < mss.length ∧ mI M 1800 (mss.getD k 0) = nI w ∧ K_X0_model (nI w) M = some (mss.getD k 0, M) ∧ F_classOf (wc M w) σ = some (nI k, σ)) ∨ (K_X0_model (nI w) M = some (0, M) ∧ F_classOf (wc M w) σ = some (-1, σ)) := by
  obtain ⟨⟨K0, ⟨L, WN0⟩, -⟩, ⟨-, -, -, c4⟩, -⟩ := id W.1
  have h1280 : cm C ≤ 1280 := by omega
  have H : CnR (cm C) M σ mss := by
    obtain ⟨-, -, -, -, ⟨⟨m24, t49⟩, -⟩, hT, -⟩ := id W.1
    exact hT.cn t49 m24
  have km := k_model (W.1.2.2.2.1.1) (fun k hk => (H.2.2 k hk).1) (nI w)
  rcases t_classOf WN0 h1280 H hw.2 with ⟨k, c1, c2, c3, c4⟩ | ⟨c3, c4⟩
  · rcases km with ⟨k', d1, d2, d3, d4⟩ | ⟨d3, d4⟩
    · have : k' = k := by
        rcases Nat.lt_trichotomy k k' with q | q | q
        · exact absurd c2 (d3 k q)
        · exact q.symm
        · exact absurd d2 (c3 k' q)
      subst this
      exact Or.inl ⟨k', c1, c2, d4, c4⟩
    · exact absurd c2 (d3 k c1)
  · rcases km with ⟨k', d1, d2, d3, d4⟩ | ⟨d3, d4⟩
    · exact absurd d2 (c3 k' d1)
    · exact Or.inr ⟨d4, c4⟩
theorem z_lookup (hB1 : B ≤ 1280) (F : FiS C B P mss fss D M σ V I Bm cr R E) (hw : 38 ≤ w ∧ w < 38 + cm C) : (∃ k, k < mss.length ∧ mI M 1800 (mss.getD k 0) = nI w ∧ K_X0_model (nI w) M = some (mss.getD k 0, M) ∧ F_classOf (wc M w) σ = some (nI k, σ)) ∨ (K_X0_model (nI w) M = some (0, M) ∧ F_classOf (wc M w) σ = some (-1, σ)) := by
  obtain ⟨⟨L, WN0⟩, h1280, hQ⟩ := F.wn hB1
  have H := F.cn
  have km := k_model (F.1.1.2.2.2.1.1) (fun k hk => (H.2.2 k hk).1) (nI w)
  rcases t_classOf WN0 h1280 H hw.2 with ⟨k, c1, c2, c3, c4⟩ | ⟨c3, c4⟩
  · rcases km with ⟨k', d1, d2, d3, d4⟩ | ⟨d3, d4⟩
    · have : k' = k := by
        rcases Nat.lt_trichotomy k k' with q | q | q
        · exact absurd c2 (d3 k q)
        · exact q.symm
        · exact absurd d2 (c3 k' q)
      subst this
      exact Or.inl ⟨k', c1, c2, d4, c4⟩
    · exact absurd c2 (d3 k c1)
  · rcases km with ⟨k', d1, d2, d3, d4⟩ | ⟨d3, d4⟩
    · exact absurd d2 (c3 k' d1)
    · exact Or.inr ⟨d4, c4⟩
/-- the twin's class of an element is by its redeclaration -/
theorem t_classFor (h : CvT σ E i tf cb W ks) (h1 : ∀ a, a ∈ W → 1 ≤ a.1) (he : e < 481) : F_classFor (nI e) (nI i) 0 σ = J_classFor_177 (nI e) (tB σ 51 e) (nI (rdk σ (tB σ 50 e) (W ++ wcE i ks))) σ := by
  obtain ⟨⟨a1, a2, a3, a4⟩, h2, h3, ⟨c1, c2, c3, c4⟩, h5⟩ := h
  have fu := FUb
  have g1 := t_cf19 (x4 := tB σ 51 e) (fr := tf) (n := W.length) a1 ⟨a2, a3⟩ he rfl (by omega) W 0 FU (by omega) (by omega) h2 (fun a ha => ⟨h3 a ha, h1 a ha⟩)
  have g1 : L_classFor_19 FU (nI e) (nI i) (tB σ 51 e) 0 (nI tf) σ = some (nI (rdk σ (tB σ 50 e) W), σ) := g1
  unfold F_classFor
  rw [ifT (inb_nI' he (by decide)), ix_nI (by omega), nm_eq, ifT (inb_nI' a1 (by decide)), ix_nI (by omega), a2, nm_eq, g1, ob_some, rdk_cat _ h1]
  unfold J_classFor_89
  rw [c1, nm_eq]
  by_cases z : rdk σ (tB σ 50 e) W = 0
  · have g2 := t_cf95 (x := tB σ 50 e) (i := i) (x4 := tB σ 51 e) he rfl ks cb FU c2 c3 c4 (by omega)
    rw [z, ifT rfl]
    rw [show (nI 0 : Int32) = 0 from rfl, g2, ob_some]
  · rw [ifF z]
    have hb : rdk σ (tB σ 50 e) W < 2400 := by
      have : ∀ (W : List (Nat × Nat × Nat)), (∀ a, a ∈ W → a.1 < 2400) → rdk σ (tB σ 50 e) W < 2400 := fun W => by
        induction W with
        | nil => intro _; exact (by decide : (0 : Nat) < 2400)
        | cons a W ih =>
          intro h
          show (if ldB σ (tB σ 50 e) a = true ∧ tA σ 62 a.1 ≠ 0 then a.1 else rdk σ (tB σ 50 e) W) < _
          by_cases q : ldB σ (tB σ 50 e) a = true ∧ tA σ 62 a.1 ≠ 0
          · rw [ifT q]; exact h a List.mem_cons_self
          · rw [ifF q]; exact ih (fun b hb => h b (List.mem_cons_of_mem _ hb))
      exact this W (fun a ha => (h3 a ha).1)
    obtain ⟨f, hf⟩ : ∃ f, FU = f + 1 := ⟨FU - 1, by omega⟩
    rw [hf, L_classFor_95]
    by_cases y : tI σ 114 ≤ nI cb
    · rw [ifT y, ob_some]
    · rw [ifF y, ifF (show ¬ nI (rdk σ (tB σ 50 e) W) = 0 from by rw [show (0 : Int32) = nI 0 from rfl, bI_eq (by omega) (by decide)]; exact z), ob_some]
/-- the class of an element, both sides -/
theorem z_cls {y x5 : Int32} {mo : Nat} {x3 : Int32} {cf : Nat → Nat → Int32 → Int32 → Int32 → CM → Option ((Unit ⊕ Nat) × CM)} {io : Nat} (hB1 : B ≤ 1280) (F : FiS C B P mss fss D M σ V I Bm cr R E) (hC : CvT σ E i tf cb W ks) (h1 : ∀ a, a ∈ W → 1 ≤ a.1) (he : ElR C P M σ eo e) (he480 : e < 480) (h57 : tA σ 57 e = 0) (h51 : ¬ tB σ 51 e = 0) (hmo : mk M mo = 16 ∧ mR M 3003 mo = eo ∧ mI M 3001 mo = mI M 2002 eo) (hy : (y = -1 ∧ rdk σ (tB σ 50 e) (W ++ wcE i ks) = 0) ∨ ∃ w', y = nI w' ∧ 38 ≤ w' ∧ w' < 38 + cm C ∧ tB σ 64 (rdk σ (tB σ 50 e) (W ++ wcE i ks)) = wc M w' ∧ 1 ≤ rdk σ (tB σ 50 e) (W ++ wcE i ks) ∧ rdk σ (tB σ 50 e) (W ++ wcE i ks) < tM σ) :
    (∃ r, ¬ r = 0 ∧ KB_X0_instances cf io mo x3 y x5 M = some (.inr (mn M), wM M r 0) ∧ F_classFor (nI e) (nI i) 0 σ = some (-1, badT σ r)) ∨
    ∃ k M', k < mss.length ∧ KB_X0_instances cf io mo x3 y x5 M = KJ_X0_instances_87 cf io mo x3 x5 eo (mss.getD k 0) M' ∧ F_classFor (nI e) (nI i) 0 σ = some (nI k, σ) ∧ (M' = M ∨ M' = msI M 3001 mo y) ∧ mI M 1800 (mss.getD k 0) = mI M' 3001 mo := by
  obtain ⟨w, z, fl, hv, ⟨hw, hx⟩, hMs, hty, h56⟩ := he.own h57
  have hm := F.1.rm
  have h167 := F.1.n167
  obtain ⟨hWN, h1280, hQ⟩ := F.wn hB1
  rcases hty with ⟨_, q⟩ | ⟨w2, t1, t2, t3, t4⟩
  · exact absurd q h51
  have tf := t_classFor (e := e) hC h1 (by omega)
  have hk2 : ∀ k, k < mss.length → mk M (mss.getD k 0) = 10 := fun k hk => (F.cn.2.2 k hk).1
  have hk0 : ∀ k, k < mss.length → mss.getD k 0 ≠ 0 := fun k hk => (F.cn.2.2 k hk).2.1
  have m24 : mss.length ≤ 24 := F.cn.2.1
  have wr := fun r => k_wrong (M := M) (by omega) (by omega) r 0
  have h0 := F.g0
  have bt := fun r => t_badT (r := r) h0
  rw [tf]
  unfold KB_X0_instances J_classFor_177
  rw [ifT hmo.1, hmo.2.1, nm_eq, ifT hv.2.1, t1, t4]
  rcases z_lookup hB1 F ⟨t2, t3⟩ with ⟨k, a1, a2, a3, a4⟩ | ⟨a3, a4⟩
  · have p0 : (0 : Int32) ≤ nI k := by rw [show (0 : Int32) = nI 0 from rfl, bI_le (by decide) (by omega)]; omega
    rw [a3, ob_some, ifF (hk0 k a1), a4, ob_some, ifT p0]
    rcases hy with ⟨y1, y2⟩ | ⟨w', y1, y2, y3, y4, y5, y6⟩
    · right
      refine ⟨k, M, a1, ?_, ?_, Or.inl rfl, ?_⟩
      · rw [y1, ifT (by decide)]
      · rw [y2, ifT (show nI 0 = 0 from rfl)]
      · rw [a2, hmo.2.2, t1]
    · have hMt := F.tm24 hB1
      have yn : ¬ nI w' < 0 := by rw [nI_ltL (by omega) (by decide)]; exact Nat.not_lt_zero _
      obtain ⟨f5, f6, f7⟩ := hv.2.2.2.2.1
      obtain ⟨-, -, -, -, -, b10⟩ := bit_par fl f5
      have is10 : K_X11_is eo 10 M = some (if ¬ nI fl &&& 32 = 0 then 1 else 0, M) := is_bit (c := ¬ nI fl &&& 32 = 0) hv.2.1 (by rw [f6]; exact b10)
      rw [y1, ifF yn, ifF (show ¬ nI (rdk σ (tB σ 50 e) (W ++ wcE i ks)) = 0 from by rw [show (0 : Int32) = nI 0 from rfl, bI_eq (by omega) (by decide)]; omega), ifT (inb_nI' (by omega) (by decide)), ix_nI (by omega), y4]
      have hl := z_lookup hB1 F ⟨y2, y3⟩
      have ie : inb (nI e) 481 := inb_nI' (by omega) (by decide)
      have flt : ∀ r : Int32, ¬ r = 0 → ∀ (A : Option ((Unit ⊕ Nat) × CM)) (B : Option (Int32 × TS)), A = (ob (K_X0_wrong r 0 M) fun q N => if mk N q = 7 then some (.inr q, N) else none) → B = (ob (F_bad r 0 σ) fun _ s => some (-1, s)) → (∃ r, ¬ r = 0 ∧ A = some (.inr (mn M), wM M r 0) ∧ B = some (-1, badT σ r)) := fun r hr A B h1 h2 => by
        refine ⟨r, hr, ?_, ?_⟩
        · rw [h1, wr r, ob_some, ifT (wM_k M r 0)]
        · rw [h2, bt r, ob_some]
      have hlk : ∃ (o : Nat) (q : Int32), K_X0_model (nI w') M = some (o, M) ∧ F_classOf (wc M w') σ = some (q, σ) ∧ ((∃ k', k' < mss.length ∧ o = mss.getD k' 0 ∧ q = nI k' ∧ mI M 1800 (mss.getD k' 0) = nI w') ∨ (o = 0 ∧ q = -1)) := by
        rcases hl with ⟨k', c1, c2, c3, c4⟩ | ⟨c3, c4⟩
        · exact ⟨_, _, c3, c4, Or.inl ⟨k', c1, rfl, rfl, c2⟩⟩
        · exact ⟨_, _, c3, c4, Or.inr ⟨rfl, rfl⟩⟩
      obtain ⟨o, q, c3, c4, c5⟩ := hlk
      rw [c3, ob_some, c4, ob_some, ifT hv.2.1, is10, ob_some, ifT ie, ix_nI (by omega), f7]
      by_cases b : nI fl &&& 32 = 0
      · left
        rw [ifF (show ¬ ¬ nI fl &&& 32 = 0 from fun q => q b), ifT (rfl : (0 : Int32) = 0), ifT b]
        exact flt 22 (by decide) _ _ rfl rfl
      · rw [ifT b, ifF (show ¬ (1 : Int32) = 0 by decide), ifF b]
        rcases c5 with ⟨k', d1, d2, d3, d4⟩ | ⟨d1, d2⟩
        · rw [d2, d3, ifF (hk0 k' d1), ifT (hk2 k' d1), ifT (hk2 k a1), ifF (show ¬ nI k' < 0 from by rw [nI_ltL (by omega) (by decide)]; exact Nat.not_lt_zero _), ifT (inb_nI' (by omega) (by decide)), ifT (inb_nI' (by omega) (by decide)), ix_nI (by omega), ix_nI (by omega)]
          have cc : ∀ k, k < mss.length → mI M 1801 (mss.getD k 0) = tA σ 44 k := fun k hk => by
            rcases (F.cc hk).2.1 with ⟨q1, q2⟩ | ⟨q1, q2⟩ <;> rw [q1, q2]
          rw [cc k' d1, cc k a1]
          by_cases s : tA σ 44 k' = tA σ 44 k
          · right
            refine ⟨k', msI M 3001 mo (nI w'), d1, ?_, ?_, Or.inr rfl, ?_⟩
            · rw [ifT s, ifT hmo.1, nm_eq]
            · rw [ifT s]
            · rw [d4, mI_msI, ifT ⟨rfl, rfl⟩]
          · left
            rw [ifF s, ifF s]
            exact flt 22 (by decide) _ _ rfl rfl
        · left
          rw [d1, d2, ifT (rfl : (0 : Nat) = 0), ifT (by decide)]
          exact flt 22 (by decide) _ _ rfl rfl
  · left
    refine ⟨20, by decide, ?_, ?_⟩
    · rw [a3, ob_some, ifT rfl, wr 20, ob_some, ifT (wM_k M 20 0)]
    · rw [a4, ob_some, ifF (by decide), bt 20, ob_some]
end CLS
