/-! Layer B: the flat model: extends: rows are copied, hits taken over, what leads nowhere -/
set_option maxRecDepth 100000
/-- the twin goes into an extends -/
def exA (σ : TS) (e : Nat) : TS := tsI (tsA σ 112 (ix (tI σ 114)) (tA σ 55 e)) 114 (tI σ 114 + 1)
/-- and out -/
def exB (s : TS) : TS := tsI s 114 (tI s 114 - 1)
section EXT1
variable {C C' : PC} {D D' D2 : FQ} {M M' M1 M2 : CM} {σ σ' σ0 σ1 σ2 σ4 : TS} {mss fss xs bs qs os : List Nat} {B l k n o m u w Q I I' L V V' Bm Bm' b c v r R R' R2 E E' cr i i' k0 k2 fr e eo fl z env kk tf cb d len to dk : Nat} {P P' X T : Nat → Prop} {S S' O : List Nat} {a : Nat × Nat × Nat} {A W Wn W1 W2 : List (Nat × Nat × Nat)} {ks : List (Nat × Nat)} {x : Int64} {cf : Nat → Nat → Int32 → Int32 → Int32 → CM → Option ((Unit ⊕ Nat) × CM)} {cf' cm : Int32 → Int32 → Int32 → TS → Option (Unit × TS)}
theorem wcE_app (p : Nat × Nat) : ∀ ks : List (Nat × Nat), wcE i (ks ++ [p]) = wcE i ks ++ msE p.1 p.2 i
  | [] => by
    show msE p.1 p.2 i ++ [] = [] ++ msE p.1 p.2 i
    rw [List.append_nil, List.nil_append]
  | q :: ks => by
    show msE q.1 q.2 i ++ wcE i (ks ++ [p]) = (msE q.1 q.2 i ++ wcE i ks) ++ msE p.1 p.2 i
    rw [wcE_app p ks, List.append_assoc]
theorem k_copy {x1 x2 x3 : Nat} {x6 x7 : Int32} : ∀ (dd j f : Nat) (D : FQ) (M : CM) (R : Nat), j + dd = len → dd < f → FiS C B P mss fss D M σ V I Bm cr R E → R + dd < 33300 → fr + len ≤ R → (∀ c, c < len → RoR C P D M σ I (fr + c) (ge W c)) →
    ∃ D' M', KL_X0_extended_24 cf f x1 x2 x3 (nI fr) (nI (fr + len)) x6 x7 (nI (fr + j)) M = some ((), M') ∧ FiS C B P mss fss D' M' σ V I Bm cr (R + dd) E ∧ Wz C C P M M' σ σ ∧ Dx D D' M ∧ (∀ r, r < R → RwS D M D' M' r ∧ hit D' M' r = hit D M r) ∧ (∀ c, c < dd → RoR C P D' M' σ I (R + c) (ge W (j + c)) ∧ hit D' M' (R + c) = 0) ∧ FqO D (Tr R) M M' := by
  intro dd
  induction dd with
  | zero =>
    intro j f D M R hj hf F hR hto hl
    obtain ⟨f, rfl⟩ : ∃ g, f = g + 1 := ⟨f - 1, by omega⟩
    refine ⟨D, M, ?_, F, Wz.rf (by have := F.1.1.2.2.2.2.1; omega), Dx.rf D M, fun _ _ => ⟨RwS.rf, rfl⟩, fun c hc => absurd hc (Nat.not_lt_zero _), FqO.rf⟩
    rw [KL_X0_extended_24, ifT ((bI_le (by omega) (by omega)).mpr (by omega))]
  | succ dd ih =>
    intro j f D M R hj hf F hR hto hl
    obtain ⟨f, rfl⟩ : ∃ g, f = g + 1 := ⟨f - 1, by omega⟩
    have r2 := F.r18.2
    have kr := F.kr (r := fr + j) (by omega)
    have get := ls_get (F.1.2.1.1 101 (by decide)).1 (show fr + j < (pl D 101).length by omega)
    obtain ⟨m, ⟨e1, e2, e3⟩, ok⟩ := hl j (by omega)
    obtain ⟨D1, M1, a1, F1, v1, x1, st1, ⟨b1, b2, b3, b4⟩, q1⟩ := F.row (by omega) (mR M 2800 ((pl D 101).getD (fr + j) 0)) (mR M 2802 ((pl D 101).getD (fr + j) 0)) (mI M 2801 ((pl D 101).getD (fr + j) 0))
    have iI := F.2.1.1.2.1
    have iA := ok.2.2.1
    have roR : RoR C P D1 M1 σ I R (ge W j) := ⟨m, ⟨b1.trans e1, b2.trans e2, by rw [b3, e3, (x1.1 99 _ (by omega)).2]⟩, ok.mv v1 (Nat.le_refl _) (Ft.rf _ _)⟩
    obtain ⟨D2, M2, c1, F2, v2, x2, st2, ro2, q2⟩ := ih (j + 1) f D1 M1 (R + 1) (by omega) (by omega) F1 (by omega) (by omega) (fun c hc => (hl c hc).mv v1 x1 (st1 _ (by omega)).1 ⟨iI, Nat.le_refl _⟩ (Ft.rf _ _))
    refine ⟨D2, M2, ?_, ?_, v1.tr v2 (fun _ z => z), x1.tr x2 v1.1.1, fun r hr => ?_, fun c hc => ?_, (q1.mono (fun t z => ?_)).tr (q2.mono (fun t z => z.mono (Nat.le_succ R))) x1⟩
    · rw [KL_X0_extended_24, ifF (fun z => by have := (bI_le (by omega) (by omega)).mp z; omega), get, ob_some, ifT (Or.inr kr), ifT kr, ifT kr, ifT kr, a1, ob_some, nI_addL, nm_eq]
      exact c1
    · rw [show R + (dd + 1) = R + 1 + dd by omega]; exact F2
    · exact ⟨(st1 r hr).1.tr (st2 r (by omega)).1, (st2 r (by omega)).2.trans (st1 r hr).2⟩
    · by_cases e : c = 0
      · subst e
        have := st2 R (Nat.lt_succ_self R)
        exact ⟨roR.mv v2 x2 this.1 ⟨F1.2.1.1.2.1, Nat.le_refl _⟩ (Ft.rf _ _), this.2.trans b4⟩
      · have := ro2 (c - 1) (by omega)
        rw [show R + 1 + (c - 1) = R + c by omega, show j + 1 + (c - 1) = j + c by omega] at this
        exact this
    · have := F1.r18.2
      have l101 := (F1.1.2.1.1 101 (by decide)).2.2
      have e101 : flX 101 = 33300 := rfl
      unfold Tr tg at *; omega
theorem k_orhit {x9 : Int32} (hR : R + len ≤ R') (hfr : fr + len ≤ R) (hR' : R' ≤ 33300) : ∀ (dd j f : Nat) (M : CM), j + dd = len → dd < f → FiS C B P mss fss D M σ V I Bm cr R' E →
    ∃ M', KL_X0_extended_110 cf f (nI fr) (nI R) (nI (R + len)) x9 (nI (R + j)) M = some ((), M') ∧ FiS C B P mss fss D M' σ V I Bm cr R' E ∧ Wz C C P M M' σ σ ∧ (∀ r, r < R' → RwS D M D M' r) ∧ (∀ r, r < R' → ¬ (fr + j ≤ r ∧ r < fr + len) → hit D M' r = hit D M r) ∧ (∀ c, j ≤ c → c < len → hit D M' (fr + c) = hit D M (fr + c) ||| hit D M (R + c)) ∧ FqO D (Tr 0) M M' := by
  intro dd
  induction dd with
  | zero =>
    intro j f M hj hf F
    obtain ⟨f, rfl⟩ : ∃ g, f = g + 1 := ⟨f - 1, by omega⟩
    refine ⟨M, ?_, F, Wz.rf (by have := F.1.1.2.2.2.2.1; omega), fun _ _ => RwS.rf, fun _ _ _ => rfl, fun c h1 h2 => by omega, FqO.rf⟩
    rw [KL_X0_extended_110, ifT ((bI_le (by omega) (by omega)).mpr (by omega))]
  | succ dd ih =>
    intro j f M hj hf F
    obtain ⟨f, rfl⟩ : ∃ g, f = g + 1 := ⟨f - 1, by omega⟩
    have r2 := F.r18.2
    have kr := F.kr (r := fr + j) (by omega)
    have kr2 := F.kr (r := R + j) (by omega)
    have get := ls_get (F.1.2.1.1 101 (by decide)).1 (show fr + j < (pl D 101).length by omega)
    have get2 := ls_get (F.1.2.1.1 101 (by decide)).1 (show R + j < (pl D 101).length by omega)
    obtain ⟨F1, v1, st1, q1⟩ := F.hitw (r := fr + j) (u := hit D M (fr + j) ||| hit D M (R + j)) (by omega)
    obtain ⟨M', c1, F2, v2, st2, h1, h2, q2⟩ := ih (j + 1) f _ (by omega) (by omega) F1
    refine ⟨M', ?_, F2, v1.tr v2 (fun _ z => z), fun r hr => (st1 r hr).1.tr (st2 r hr), fun r hr hn => ?_, fun c e1 e2 => ?_, q1.tr q2 (Dx.rf D M)⟩
    · have ei : nI fr + nI (R + j) - nI R = nI (fr + j) := by rw [bI_add, nI_sub (by omega)]; congr 1; omega
      rw [KL_X0_extended_110, ifF (fun z => by have := (bI_le (by omega) (by omega)).mp z; omega), ei, get, ob_some, ifT (Or.inr kr), ifT kr, get2, ob_some, ifT (Or.inr kr2), ifT kr2, ifT kr, nm_eq, nI_addL, nm_eq]
      exact c1
    · rw [h1 r hr (by omega), (st1 r hr).2, ifF (by omega)]
    · by_cases y : c = j
      · rw [y, h1 (fr + j) (by omega) (by omega), (st1 _ (by omega)).2, ifT rfl]
      · rw [h2 c (by omega) e2, (st1 _ (by omega)).2, ifF (by omega), (st1 _ (by omega)).2, ifF (by omega)]
theorem hs.ft {p q : Nat} (f : Ft fiS σ σ') (h : ∀ m, tA σ' 83 m = tA σ 83 m ∧ tA σ' 84 m = tA σ 84 m) : hs σ' p q i x ↔ hs σ p q i x := by
  constructor
  · rintro ⟨m, e, c1, c2, c3, c4, c5⟩
    rw [(h m).1] at c2
    rw [(h m).2] at c3
    rw [(f 52 rfl).2.2.1] at c4
    rw [(f 50 rfl).2.2.2] at c5
    exact ⟨m, e, c1, c2, c3, c4, c5⟩
  · rintro ⟨m, e, c1, c2, c3, c4, c5⟩
    exact ⟨m, e, c1, by rw [(h m).1]; exact c2, by rw [(h m).2]; exact c3, by rw [(f 52 rfl).2.2.1]; exact c4, by rw [(f 50 rfl).2.2.2]; exact c5⟩
theorem hsL.ft {p q : Nat} (f : Ft fiS σ σ') (h : ∀ m, tA σ' 83 m = tA σ 83 m ∧ tA σ' 84 m = tA σ 84 m) : hsL σ' p q i a ↔ hsL σ p q i a := by
  constructor
  · rintro ⟨x, y, g⟩
    rw [ldB_ft f] at g
    exact ⟨x, (hs.ft f h).mp y, g⟩
  · rintro ⟨x, y, g⟩
    exact ⟨x, (hs.ft f h).mpr y, by rw [ldB_ft f]; exact g⟩
theorem HasP.ft {p q : Nat} (H : HasP σ p q i k d) (f : Ft fiS σ σ') (h : ∀ m, tA σ' 83 m = tA σ 83 m ∧ tA σ' 84 m = tA σ 84 m) : HasP σ' p q i k d := ⟨fun s fs x dp g h1 h2 => ⟨fun z => (H.1 s (f.tr fs) x dp g h1 h2).1 ((hs.ft f h).mp z), fun z => (H.1 s (f.tr fs) x dp g h1 h2).2 (fun y => z ((hs.ft f h).mpr y))⟩, H.2.fwd f (by decide) _ _⟩
theorem HasP.mv {p q : Nat} (H : HasP σ p q i k d) (f : Ft fiS σ σ') (kp : KpT σ σ' V I Bm E i') (hb : q ≤ Bm) : HasP σ' p q i k d := ⟨fun s fs x dp g h1 h2 => ⟨fun z => (H.1 s (f.tr fs) x dp g h1 h2).1 ((hs.mv f kp hb).mp z), fun z => (H.1 s (f.tr fs) x dp g h1 h2).2 (fun y => z ((hs.mv f kp hb).mpr y))⟩, H.2.fwd f (by decide) _ _⟩
/-- the chain is as before -/
theorem SqM.ex {y : Int32} (h : SqM C P V I Bm R E i D D' M M' (tsI (tsA σ 112 c y) 114 (nI (c + 1))) σ4) (W : FW C B P mss fss D M σ) (W4 : FW C B P mss fss D' M' σ4) (h114 : tI σ 114 = nI c) (hc : c < 200) : SqM C P V I Bm R E i D D' M M' σ (tsI σ4 114 (nI c)) := by
  obtain ⟨a1, a2, a3, a4, a5, a6, ⟨k1, k2, k3, k4, k5, ⟨k6, k7⟩, k8⟩⟩ := h
  have f1 : Ft [112, 114] σ (tsI (tsA σ 112 c y) 114 (nI (c + 1))) := ((Ft.rf _ σ).p_tsA rfl).p_tsI rfl
  have f2 : Ft [114] σ4 (tsI σ4 114 (nI c)) := (Ft.rf _ σ4).p_tsI rfl
  obtain ⟨-, v1⟩ := W.wzT f1 (by decide)
  obtain ⟨-, v2⟩ := W4.wzT f2 (by decide)
  refine ⟨(v1.tr a1 (fun _ z => z)).tr v2 (fun _ z => z), a2, a3, a4, a5, ((f1.mono (by decide)).tr a6).tr (f2.mono (by decide)), ⟨fun f hf n hn => ?_, fun n hn hi => ?_, fun f hf n hn => ?_, fun f hf n hn => ?_, fun f hf n hn => ?_, ⟨?_, ?_⟩, fun c' hc' => ?_⟩⟩
  · refine (k1 f hf n hn).trans ?_
    simp only [List.mem_cons, List.not_mem_nil, or_false] at hf
    rcases hf with rfl | rfl | rfl | rfl | rfl | rfl <;> exact (f1 _ rfl).2.2.1 n
  · exact (k2 n hn hi).trans ((f1 88 rfl).2.2.1 n)
  · refine (k3 f hf n hn).trans ?_
    simp only [List.mem_cons, List.not_mem_nil, or_false] at hf
    rcases hf with rfl | rfl | rfl | rfl | rfl <;> exact (f1 _ rfl).2.2.1 n
  · refine (k4 f hf n hn).trans ?_
    simp only [List.mem_cons, List.not_mem_nil, or_false] at hf
    rcases hf with rfl | rfl | rfl | rfl | rfl | rfl | rfl | rfl | rfl | rfl <;> exact (f1 _ rfl).2.2.1 n
  · refine (k5 f hf n hn).trans ?_
    simp only [List.mem_cons, List.not_mem_nil, or_false] at hf
    rcases hf with rfl | rfl | rfl <;> exact (f1 _ rfl).2.2.1 n
  · exact k6.trans (f1 113 rfl).1
  · exact h114.symm
  · rw [h114, ix_nI (by omega)] at hc'
    refine (k8 c' (by show c' < ix (nI (c + 1)); rw [ix_nI (by omega)]; omega)).trans ?_
    show tA (tsA σ 112 c y) 112 c' = tA σ 112 c'
    rw [tA_tsA, ifF (by omega)]
/-- with a fault the twin does no more -/
theorem t_exStop {x1 x2 x3 x4 x5 : Int32} (h : tI σ 0 ≠ 0) : ∀ (y : Int32) (f : Nat), 0 < f → L_fill_196 cf' cm f x1 x2 x3 x4 x5 y σ = some ((), σ) := fun y f hf => by
  obtain ⟨f, rfl⟩ : ∃ g, f = g + 1 := ⟨f - 1, by omega⟩
  rw [L_fill_196]
  by_cases q : y = 0
  · rw [ifT q]
  · rw [ifF q, t_isBad1 h, ob_some, ifF (show ¬ (1 : Int32) = 0 by decide)]
/-- modifications of an extends that lead nowhere -/
theorem t_exLeads {p q : Nat} {x1 x2 x3 x4 : Int32} (h0 : tI σ 0 = 0) (hH : HasP σ p q i k2 dk) (hd : dk ≤ 13) (hM : MlR σ k0 n) : ∀ (d t f : Nat), t + d = n → d + 1 < f → (∃ t', t ≤ t' ∧ t' < n ∧ ¬ hsL σ p q i (k0 + t', 0, i)) ∧ L_fill_196 cf' cm f x1 x2 x3 x4 (nI k2) (ptr k0 n t) σ = some ((), badT σ 21) ∨ (∀ t', t ≤ t' → t' < n → hsL σ p q i (k0 + t', 0, i)) ∧ L_fill_196 cf' cm f x1 x2 x3 x4 (nI k2) (ptr k0 n t) σ = some ((), σ) := by
  intro d
  induction d with
  | zero =>
    intro t f hd hf
    obtain ⟨f, rfl⟩ : ∃ g, f = g + 1 := ⟨f - 1, by omega⟩
    refine Or.inr ⟨fun t' h1 h2 => by omega, ?_⟩
    rw [L_fill_196, ifT (show ptr k0 n t = 0 from ifF (by omega))]
  | succ d ih =>
    intro t f hd hf
    obtain ⟨f, rfl⟩ : ∃ g, f = g + 1 := ⟨f - 1, by omega⟩
    obtain ⟨pe, n0, hin, hix⟩ := ptr_ne (k := t) (n := n) (k0 := k0) (by omega) hM.1
    obtain ⟨m1, m2, -⟩ := hM.2 t (by omega)
    have m1' := ptr_next hM (k := t) (by omega)
    have has : ∀ x, (hs σ p q i x → F_has (nI k2) x 0 σ = some (1, σ)) ∧ (¬ hs σ p q i x → F_has (nI k2) x 0 σ = some (0, σ)) := fun x => hH.1 σ (Ft.rf _ _) x 0 300 (by omega) (by omega)
    have good : hsL σ p q i (k0 + t, 0, i) → (∃ t', t ≤ t' ∧ t' < n ∧ ¬ hsL σ p q i (k0 + t', 0, i)) ∧ L_fill_196 cf' cm f x1 x2 x3 x4 (nI k2) (ptr k0 n (t + 1)) σ = some ((), badT σ 21) ∨ (∀ t', t ≤ t' → t' < n → hsL σ p q i (k0 + t', 0, i)) ∧ L_fill_196 cf' cm f x1 x2 x3 x4 (nI k2) (ptr k0 n (t + 1)) σ = some ((), σ) := fun h => by
      rcases ih (t + 1) f (by omega) (by omega) with ⟨⟨t', g1, g2, g3⟩, g4⟩ | ⟨g1, g2⟩
      · exact Or.inl ⟨⟨t', by omega, g2, g3⟩, g4⟩
      · refine Or.inr ⟨fun t' y1 y2 => ?_, g2⟩
        by_cases y : t' = t
        · rw [y]; exact h
        · exact g1 t' (by omega) y2
    have bad : ¬ hsL σ p q i (k0 + t, 0, i) → (∃ t', t ≤ t' ∧ t' < n ∧ ¬ hsL σ p q i (k0 + t', 0, i)) ∧ L_fill_196 cf' cm f x1 x2 x3 x4 (nI k2) (ptr k0 n (t + 1)) (badT σ 21) = some ((), badT σ 21) := fun h => ⟨⟨t, Nat.le_refl _, by omega, h⟩, t_exStop (badT_ne (by decide)) _ f (by omega)⟩
    have e61 : tA (badT σ 21) 61 (k0 + t) = ptr k0 n (t + 1) := m1'
    rw [L_fill_196, ifF n0, t_isBad0 h0, ob_some, ifT (rfl : (0 : Int32) = 0), ifT hin, hix]
    by_cases r62 : tA σ 62 (k0 + t) = 0
    · obtain ⟨y, q0, q1, q2⟩ := m2 r62
      have yin : inb (nI y) 7000 := inb_nI' q1 (by decide)
      have pos : 0 < nI y := by rw [show (0 : Int32) = nI 0 from rfl, bI_lt (by decide) (by omega)]; omega
      have hp : pth σ (k0 + t) 0 = nI y := q2
      rw [ifT r62, ifT hin, q2, ifT yin]
      by_cases hx : hs σ p q i (tB σ 29 (ix (nI y)))
      · rw [(has _).1 hx, ob_some, ifF (show ¬ (1 : Int32) = 0 by decide), ifT hin, m1', nm_eq]
        exact good ((hsL_pa r62).mpr (by show 0 < pth σ (k0 + t) 0 ∧ hs σ p q i (tB σ 29 (ix (pth σ (k0 + t) 0))); rw [hp]; exact ⟨pos, hx⟩))
      · rw [(has _).2 hx, ob_some, ifT rfl, t_badT h0, ob_some, ifT hin, e61, nm_eq]
        exact Or.inl (bad (fun z => hx (by have := ((hsL_pa r62).mp z).2; have this : hs σ p q i (tB σ 29 (ix (pth σ (k0 + t) 0))) := this; rw [hp] at this; exact this)))
    · rw [ifF r62, ifT hin]
      by_cases hx : hs σ p q i (tB σ 63 (k0 + t))
      · rw [(has _).1 hx, ob_some, ifF (show ¬ (1 : Int32) = 0 by decide), ifT hin, m1', nm_eq]
        exact good ((hsL_re r62).mpr hx)
      · rw [(has _).2 hx, ob_some, ifT rfl, t_badT h0, ob_some, ifT hin, e61, nm_eq]
        exact Or.inl (bad (fun z => hx ((hsL_re r62).mp z)))
end EXT1
