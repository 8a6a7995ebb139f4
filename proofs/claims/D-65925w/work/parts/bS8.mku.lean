/-! Layer B: unknowns of heads, both sides -/
set_option maxRecDepth 100000
abbrev isH (σ : TS) (hd : Nat → Nat) (v : Nat) : Prop := tA σ 94 v = 0 ∧ hd v = v
/-- heads below n -/
def cH (σ : TS) (hd : Nat → Nat) : Nat → Nat
  | 0 => 0
  | n + 1 => cH σ hd n + if isH σ hd n then 1 else 0
/-- the component's unknowns of the heads below j -/
def CmU (D : FQ) (V : Nat) (σ : TS) (hd : Nat → Nat) (M : CM) (j : Nat) : Prop := mI M 57 1 = nI (cH σ hd j) ∧ ∀ w, w < V → (w < j ∧ isH σ hd w → mA M 119 (cH σ hd w) = nI w ∧ mA M 120 (cH σ hd w) = 0 ∧ mA M 121 (cH σ hd w) = -1 ∧ mI M 3219 ((pl D 98).getD w 0) = nI (cH σ hd w)) ∧ (¬ (w < j ∧ isH σ hd w) → mI M 3219 ((pl D 98).getD w 0) = -1)
/-- the twin's -/
def TmU (V : Nat) (σ : TS) (hd : Nat → Nat) (s : TS) (j : Nat) : Prop := tI s 197 = nI (cH σ hd j) ∧ ∀ w, w < V → (w < j ∧ isH σ hd w → tA s 187 (cH σ hd w) = nI w ∧ tA s 188 (cH σ hd w) = 0 ∧ tA s 189 (cH σ hd w) = -1 ∧ tA s 179 w = nI (cH σ hd w)) ∧ (¬ (w < j ∧ isH σ hd w) → tA s 179 w = -1)
section MKU
variable {C : PC} {P : Nat → Prop} {mss fss : List Nat} {D : FQ} {M0 M M' M1 M2 : CM} {σ σ' s s' : TS} {I' R' A' X' S : List Nat} {B V I Bm K N E A Wn q qs k c w U b o u n j : Nat} {z7 : Nat → Nat} {hd : Nat → Nat} {sg : Nat → Int32} {x y p : Int32}
theorem cH_le (σ : TS) (hd : Nat → Nat) : ∀ n, cH σ hd n ≤ n
  | 0 => Nat.le_refl _
  | n + 1 => by
    have := cH_le σ hd n
    unfold cH
    split <;> omega
theorem cH_s (h : isH σ hd n) : cH σ hd (n + 1) = cH σ hd n + 1 := by
  conv => lhs; unfold cH
  rw [ifT h]
theorem cH_n (h : ¬ isH σ hd n) : cH σ hd (n + 1) = cH σ hd n := by
  conv => lhs; unfold cH
  rw [ifF h]; rfl
theorem cH_mono (σ : TS) (hd : Nat → Nat) : ∀ d n, cH σ hd n ≤ cH σ hd (n + d)
  | 0, _ => Nat.le_refl _
  | d + 1, n => by
    refine Nat.le_trans (cH_mono σ hd d n) ?_
    show cH σ hd (n + d) ≤ cH σ hd (n + d + 1)
    by_cases e : isH σ hd (n + d)
    · rw [cH_s e]; omega
    · rw [cH_n e]; exact Nat.le_refl _
theorem cH_lt (h : isH σ hd w) (hw : w < n) : cH σ hd w < cH σ hd n := by
  have := cH_mono σ hd (n - (w + 1)) (w + 1)
  rw [show w + 1 + (n - (w + 1)) = n by omega, cH_s h] at this
  omega
theorem cH_inv : ∀ n u, u < cH σ hd n → ∃ v, v < n ∧ isH σ hd v ∧ cH σ hd v = u
  | 0, u, h => absurd h (Nat.not_lt_zero u)
  | n + 1, u, h => by
    by_cases e : isH σ hd n
    · rw [cH_s e] at h
      by_cases q : u = cH σ hd n
      · exact ⟨n, Nat.lt_succ_self n, e, q.symm⟩
      · obtain ⟨v, a, b⟩ := cH_inv n u (by omega)
        exact ⟨v, by omega, b⟩
    · rw [cH_n e] at h
      obtain ⟨v, a, b⟩ := cH_inv n u h
      exact ⟨v, by omega, b⟩
/-- the twin's -1 -/
theorem t_u12 (hV : V ≤ 96) : ∀ (d j f : Nat) (s : TS), j + d = V → d < f → tI s 107 = nI V → (∀ v, v < j → tA s 179 v = -1) → ∃ s', L_makeUnknowns_12 f (nI j) s = some ((), s') ∧ Ft [179] s s' ∧ ∀ v, v < V → tA s' 179 v = -1 := by
  intro d
  induction d with
  | zero =>
    intro j f s hj hf c2 hv
    obtain ⟨f, rfl⟩ : ∃ g, f = g + 1 := ⟨f - 1, by omega⟩
    obtain rfl : j = V := by omega
    exact ⟨s, by unfold L_makeUnknowns_12; rw [c2, ifT ((bI_le (by omega) (by omega)).mpr (Nat.le_refl _))], Ft.rf _ _, hv⟩
  | succ d ih =>
    intro j f s hj hf c2 hv
    obtain ⟨f, rfl⟩ : ∃ g, f = g + 1 := ⟨f - 1, by omega⟩
    have xj : ix (nI j) = j := ix_nI (by omega)
    have f1 : Ft [179] s (tsA s 179 j (-1)) := (Ft.rf _ s).p_tsA rfl
    obtain ⟨s', a1, a2, a3⟩ := ih (j + 1) f (tsA s 179 j (-1)) (by omega) (by omega) ((f1 107 rfl).1.trans c2) (fun v hv' => by
      rw [tA_tsA]
      by_cases e : v = j
      · rw [ifT ⟨rfl, e⟩]
      · rw [ifF (fun z => e z.2)]; exact hv v (by omega))
    refine ⟨s', ?_, f1.tr a2, a3⟩
    unfold L_makeUnknowns_12
    rw [c2, ifF (fun z => by have := (bI_le (by omega) (by omega)).mp z; omega), ifT (inb_nI' (by omega) (by decide)), xj, nm_eq, nI_addL, nm_eq]
    exact a1
/-- the twin's unknowns of heads -/
theorem t_u35 (hV : V ≤ 96) : ∀ (d j f : Nat) (s : TS), j + d = V → d < f → tI s 107 = nI V → (∀ v, v < V → tA s 94 v = tA σ 94 v ∧ tA s 177 v = nI (hd v) ∧ hd v < 96) → TmU V σ hd s j → ∃ s', L_makeUnknowns_35 f (nI j) s = some ((), s') ∧ Ft (179 :: ukS) s s' ∧ TmU V σ hd s' V := by
  intro d
  induction d with
  | zero =>
    intro j f s hj hf c2 _ hv
    obtain ⟨f, rfl⟩ : ∃ g, f = g + 1 := ⟨f - 1, by omega⟩
    obtain rfl : j = V := by omega
    exact ⟨s, by unfold L_makeUnknowns_35; rw [c2, ifT ((bI_le (by omega) (by omega)).mpr (Nat.le_refl _))], Ft.rf _ _, hv⟩
  | succ d ih =>
    intro j f s hj hf c2 hk ⟨g1, g2⟩
    obtain ⟨f, rfl⟩ : ∃ g, f = g + 1 := ⟨f - 1, by omega⟩
    have xj : ix (nI j) = j := ix_nI (by omega)
    have ij : inb (nI j) 96 := inb_nI' (by omega) (by decide)
    have le : ¬ nI V ≤ nI j := fun z => by have := (bI_le (by omega) (by omega)).mp z; omega
    have nx : nI j + 1 = nI (j + 1) := nI_addL j 1
    obtain ⟨k1, k2, k3⟩ := hk j (by omega)
    have cj := cH_le σ hd j
    by_cases e : isH σ hd j
    · have nu := t_newU (s := s) (U := cH σ hd j) (o := 0) ⟨g1, by omega⟩ (Nat.zero_le _) (nI j)
      obtain ⟨s1, hs1⟩ : ∃ q, q = tsA (tU5 s (nI j) (nI 0) (-1) (cH σ hd j)) 179 j (nI (cH σ hd j)) := ⟨_, rfl⟩
      have f1 : Ft (179 :: ukS) s s1 := by rw [hs1]; exact ((tU5_f (s := s)).mono (by decide)).p_tsA rfl
      have v5 := fun i => tU5_v (s := s) (x := nI j) (y := nI 0) (p := -1) (U := cH σ hd j) i
      have r1 : ∀ g i, g ≠ 179 → tA s1 g i = tA (tU5 s (nI j) (nI 0) (-1) (cH σ hd j)) g i := fun g i hg => by rw [hs1, tA_tsA, ifF (fun z => hg z.1)]
      have r2 : ∀ i, tA s1 179 i = if i = j then nI (cH σ hd j) else tA s 179 i := fun i => by
        rw [hs1, tA_tsA]
        by_cases z : i = j
        · rw [ifT ⟨rfl, z⟩, ifT z]
        · rw [ifF (fun q => z q.2), ifF z, (tU5_f 179 rfl).2.2.1]
      obtain ⟨s', a1, a2, a3⟩ := ih (j + 1) f s1 (by omega) (by omega) ((f1 107 rfl).1.trans c2) (fun v hv => by
        rw [(f1 94 rfl).2.2.1, (f1 177 rfl).2.2.1]; exact hk v hv) ⟨by rw [cH_s e, hs1]; rfl, fun w hw => by
          obtain ⟨w1, w2⟩ := g2 w hw
          refine ⟨fun hz => ?_, fun hz => ?_⟩
          · rw [r1 187 _ (by decide), r1 188 _ (by decide), r1 189 _ (by decide), (v5 _).1, (v5 _).2.1, (v5 _).2.2.1, r2]
            by_cases z : w = j
            · rw [z, ifT rfl, ifT rfl, ifT rfl, ifT rfl]; exact ⟨rfl, rfl, rfl, rfl⟩
            · have hlt : w < j := by omega
              have := cH_lt hz.2 hlt
              rw [ifF (by omega), ifF (by omega), ifF (by omega), ifF z]
              exact w1 ⟨hlt, hz.2⟩
          · rw [r2]
            by_cases z : w = j
            · exact absurd ⟨by omega, by rw [z]; exact e⟩ hz
            · rw [ifF z]; exact w2 (fun y => hz ⟨by omega, y.2⟩)⟩
      refine ⟨s', ?_, f1.tr a2, a3⟩
      unfold L_makeUnknowns_35
      rw [c2, ifF le, ifT ij, xj, k1, ifT e.1, ifT ij, k2, e.2, ifT rfl, show F_newUnknown (nI j) 0 (-1) s = _ from nu, ob_some, ifT ij, nm_eq, ← hs1, nm_eq, nx]
      exact a1
    · obtain ⟨s', a1, a2, a3⟩ := ih (j + 1) f s (by omega) (by omega) c2 hk ⟨by rw [cH_n e]; exact g1, fun w hw => by
        obtain ⟨w1, w2⟩ := g2 w hw
        refine ⟨fun hz => w1 ⟨?_, hz.2⟩, fun hz => w2 (fun y => hz ⟨by omega, y.2⟩)⟩
        have : w ≠ j := fun z => e (by rw [← z]; exact hz.2)
        omega⟩
      refine ⟨s', ?_, a2, a3⟩
      unfold L_makeUnknowns_35
      by_cases e1 : tA σ 94 j = 0
      · have e2 : ¬ nI (hd j) = nI j := fun z => e ⟨e1, (bI_eq (by omega) (by omega)).mp z⟩
        rw [c2, ifF le, ifT ij, xj, k1, ifT e1, ifT ij, k2, ifF e2, nm_eq, nx]
        exact a1
      · rw [c2, ifF le, ifT ij, xj, k1, ifF e1, nm_eq, nx]
        exact a1
/-- the component's unknowns, the twin's look at them -/
theorem z_u9 (W : FW C B P mss fss D M0 σ) (h : FP C P mss D M0 σ z7 V I Bm K N E A Wn q qs) (h0 : tI s 0 = 0) (T : TmU V σ hd s V) : ∀ (d j kf tf : Nat) (M : CM), j + d = V → d < kf → d < tf → AlS D V E M0 σ M s hd sg c → CmU D V σ hd M j →
    (∃ M' s' w, KL_X0_makeUnknowns_9 kf (nI (cH σ hd j)) (nI j) M = some (.inr (.inr w), M') ∧ L_makeUnknowns_86 tf (nI j) s = some ((), s') ∧ SbA D M0 σ M' s' w ∧ Ft [0, 1] s s') ∨
    (∃ M', KL_X0_makeUnknowns_9 kf (nI (cH σ hd j)) (nI j) M = some (.inl (nI (cH σ hd V)), M') ∧ L_makeUnknowns_86 tf (nI j) s = some ((), s) ∧ KF D [57, 3219] [] ukA [] M M' ∧ CmU D V σ hd M' V) := by
  obtain ⟨X, -⟩ := id h
  have V96 := X.2.1.1
  have Vl := X.1.1.1
  intro d
  induction d with
  | zero =>
    intro j kf tf M hj hk ht al g
    obtain ⟨kf, rfl⟩ : ∃ g, kf = g + 1 := ⟨kf - 1, by omega⟩
    obtain ⟨tf, rfl⟩ : ∃ g, tf = g + 1 := ⟨tf - 1, by omega⟩
    obtain rfl : j = V := by omega
    have c1 : mI M 15 1 = nI j := (al.1.1.i rfl 1).trans X.2.2.2.1.1
    have c2 : tI s 107 = nI j := (al.1.2 107 rfl).1.trans X.2.2.1.1
    have le : nI j ≤ nI j := (bI_le (by omega) (by omega)).mpr (Nat.le_refl _)
    exact Or.inr ⟨M, by unfold KL_X0_makeUnknowns_9; rw [c1, ifT le], by unfold L_makeUnknowns_86; rw [c2, ifT le], KF.rf, g⟩
  | succ d ih =>
    intro j kf tf M hj hk ht al ⟨g1, g2⟩
    obtain ⟨kf, rfl⟩ : ∃ g, kf = g + 1 := ⟨kf - 1, by omega⟩
    obtain ⟨tf, rfl⟩ : ∃ g, tf = g + 1 := ⟨tf - 1, by omega⟩
    obtain ⟨p, al1, am, -⟩ := id al
    have c1 : mI M 15 1 = nI V := (p.1.i rfl 1).trans X.2.2.2.1.1
    have c2 : tI s 107 = nI V := (p.2 107 rfl).1.trans X.2.2.1.1
    have le : ¬ nI V ≤ nI j := fun z => by have := (bI_le (by omega) (by omega)).mp z; omega
    have ij : inb (nI j) 96 := inb_nI' (by omega) (by decide)
    have xj : ix (nI j) = j := ix_nI (by omega)
    have nx : nI j + 1 = nI (j + 1) := nI_addL j 1
    obtain ⟨q1, ⟨kd, q2, q3, q4⟩, q5, q6⟩ := X.vr W (v := j) (by omega)
    obtain ⟨o, ho⟩ : ∃ o, o = (pl D 98).getD j 0 := ⟨_, rfl⟩
    have get : K_J2_get 98 (nI j) M = some (o, M) := by rw [ho]; exact p.1.get W.2.1 (by decide) q5 rfl rfl rfl
    have k17 : mk M o = 17 := by rw [p.1.k, ho]; exact q1
    have e3 : mI M 3203 o = nI kd := by rw [p.1.i rfl, ho]; exact q3
    obtain ⟨⟨b1, -⟩, -⟩ := am j (by omega)
    rw [← ho] at b1
    obtain ⟨a1, a2, a3, a4⟩ := al1 j (by omega)
    have cj := cH_le σ hd j
    obtain ⟨t1, t2⟩ := T.2 j (by omega)
    have nb := t_isBad0 h0
    by_cases e : isH σ hd j
    · have y1 : nI kd = 0 := q4.symm.trans e.1
      have y2 : nI (hd j) = nI j := by rw [e.2]
      obtain ⟨-, -, -, t179⟩ := t1 ⟨by omega, e⟩
      have tn : ¬ nI (cH σ hd j) < 0 := n_neg (by omega)
      obtain ⟨r, d1, d2, d3, -⟩ := z_inAny (x3 := 0) W h al (w := j) (by omega)
      have n167 := W.n167
      have nM : mn M = mn M0 := p.1.n
      have rm := W.rm
      rcases d1 with rfl | rfl
      · left
        obtain ⟨s1, hs1⟩ : ∃ q, q = tsI (tsI s 0 50) 1 (nI j) := ⟨_, rfl⟩
        have f1 : Ft [0, 1] s s1 := by rw [hs1]; exact ((Ft.rf _ s).p_tsI rfl).p_tsI rfl
        refine ⟨wM M 50 (nI j), s1, mn M, ?_, ?_, ⟨M, 50, nI j, p.1, ⟨rfl, rfl⟩, p.2.tr (f1.mono (by decide)), by rw [hs1]; rfl, by rw [hs1]; rfl, by decide⟩, f1⟩
        · unfold KL_X0_makeUnknowns_9
          rw [c1, ifF le, get, ob_some, ifT (Or.inr k17), ifT k17, e3, ifT y1, get, ob_some, ifT (Or.inr k17), ifT k17, b1, ifT y2, d2, ob_some, ifT rfl, k_wrong ⟨by omega, by have := p.1.2.2.2.2.2.2.2.2; omega⟩ (by omega), ob_some, ifT (wM_k M 50 (nI j))]
        · have b1 : tI s1 0 ≠ 0 := by rw [hs1]; show (50 : Int32) ≠ 0; decide
          have st : L_makeUnknowns_86 tf (nI (j + 1)) s1 = some ((), s1) := by
            obtain ⟨tf, rfl⟩ : ∃ g, tf = g + 1 := ⟨tf - 1, by omega⟩
            unfold L_makeUnknowns_86
            by_cases z : tI s1 107 ≤ nI (j + 1)
            · rw [ifT z]
            · rw [ifF z, t_isBad1 b1, ob_some, ifF (by decide)]
          unfold L_makeUnknowns_86
          rw [c2, ifF le, nb, ob_some, ifT rfl, ifT ij, xj, t179, ifF tn, d3, ob_some, ifT rfl, t_bad h0, ob_some, ← hs1, nm_eq, nx, st]
      · obtain ⟨M1, hM1⟩ : ∃ q, q = msI (kU5 M (nI j) (nI 0) (cH σ hd j)) 3219 o (nI (cH σ hd j)) := ⟨_, rfl⟩
        have tz : TZ (tgof D o) := by rw [ho]; exact TZ.vr W.2.1 q5
        have k1 : KF D [57, 3219] [] ukA [] M M1 := by rw [hM1]; exact ((kU5_k (D := D)).mono (by decide) (by decide) (by decide) (by decide)).wI rfl tz
        have nu := k_newU (M := M) (U := cH σ hd j) (o := 0) ⟨g1, by omega⟩ (Nat.zero_le _) (nI j) 0
        have v5 := fun i => kU5_v (M := M) (x := nI j) (y := nI 0) (U := cH σ hd j) i
        have ma : ∀ g i, mA M1 g i = mA (kU5 M (nI j) (nI 0) (cH σ hd j)) g i := fun g i => by rw [hM1]; rfl
        have inj : ∀ u, u < V → (pl D 98).getD u 0 = o → u = j := fun u hu e => (W.2.1.inj (l := 98) (l' := 98) (by decide) (by decide) (by omega) q5 (e.trans ho)).2
        have m9 : ∀ w, w < V → mI M1 3219 ((pl D 98).getD w 0) = if w = j then nI (cH σ hd j) else mI M 3219 ((pl D 98).getD w 0) := fun w hw => by
          rw [hM1, mI_msI]
          by_cases z : w = j
          · rw [ifT ⟨rfl, by rw [z, ho]⟩, ifT z]
          · rw [ifF (fun y => z (inj w hw y.2)), ifF z, kU5_k.i (D := D) rfl]
        have go := ih (j + 1) kf tf M1 (by omega) (by omega) (by omega) (al.mv (S := []) k1 (Ft.rf _ _) ⟨by decide, by decide, rfl⟩ ⟨rfl, rfl, rfl, rfl⟩ (by decide)) ⟨by rw [cH_s e, hM1]; rfl, fun w hw => by
          obtain ⟨w1, w2⟩ := g2 w hw
          refine ⟨fun hz => ?_, fun hz => ?_⟩
          · rw [ma, ma, ma, (v5 _).1, (v5 _).2.1, (v5 _).2.2.1, m9 w hw]
            by_cases z : w = j
            · rw [z, ifT rfl, ifT rfl, ifT rfl, ifT rfl]; exact ⟨rfl, rfl, rfl, rfl⟩
            · have hlt : w < j := by omega
              have := cH_lt hz.2 hlt
              rw [ifF (by omega), ifF (by omega), ifF (by omega), ifF z]
              exact w1 ⟨hlt, hz.2⟩
          · rw [m9 w hw]
            by_cases z : w = j
            · exact absurd ⟨by omega, by rw [z]; exact e⟩ hz
            · rw [ifF z]; exact w2 (fun y => hz ⟨by omega, y.2⟩)⟩
        rw [cH_s e] at go
        have eK : KL_X0_makeUnknowns_9 (kf + 1) (nI (cH σ hd j)) (nI j) M = KL_X0_makeUnknowns_9 kf (nI (cH σ hd j + 1)) (nI (j + 1)) M1 := by
          conv => lhs; unfold KL_X0_makeUnknowns_9
          rw [c1, ifF le, get, ob_some, ifT (Or.inr k17), ifT k17, e3, ifT y1, get, ob_some, ifT (Or.inr k17), ifT k17, b1, ifT y2, d2, ob_some, ifF (by decide), get, ob_some, ifT (Or.inr k17), show K_X0_newUnknown (nI j) 0 0 M = _ from nu, obS_inl, ifT (show mk (kU5 M (nI j) (nI 0) (cH σ hd j)) o = 17 from k17), nm_eq, ← hM1, nm_eq, nm_eq, nx, nI_addL]
        have eT : L_makeUnknowns_86 (tf + 1) (nI j) s = L_makeUnknowns_86 tf (nI (j + 1)) s := by
          conv => lhs; unfold L_makeUnknowns_86
          rw [c2, ifF le, nb, ob_some, ifT rfl, ifT ij, xj, t179, ifF tn, d3, ob_some, ifF (by decide), nm_eq, nx]
        rw [eK, eT]
        rcases go with z | ⟨M', z1, z2, z3, z4⟩
        · exact Or.inl z
        · exact Or.inr ⟨M', z1, z2, k1.tr z3, z4⟩
    · have t179 := t2 (fun z => e z.2)
      have eK : KL_X0_makeUnknowns_9 (kf + 1) (nI (cH σ hd j)) (nI j) M = KL_X0_makeUnknowns_9 kf (nI (cH σ hd (j + 1))) (nI (j + 1)) M := by
        rw [cH_n e]
        conv => lhs; unfold KL_X0_makeUnknowns_9
        by_cases z1 : tA σ 94 j = 0
        · have z2 : ¬ nI (hd j) = nI j := fun z => e ⟨z1, (bI_eq (by omega) (by omega)).mp z⟩
          rw [c1, ifF le, get, ob_some, ifT (Or.inr k17), ifT k17, e3, ifT (q4.symm.trans z1), get, ob_some, ifT (Or.inr k17), ifT k17, b1, ifF z2, nm_eq, nx]
        · rw [c1, ifF le, get, ob_some, ifT (Or.inr k17), ifT k17, e3, ifF (fun z => z1 (q4.trans z)), nm_eq, nx]
      have eT : L_makeUnknowns_86 (tf + 1) (nI j) s = L_makeUnknowns_86 tf (nI (j + 1)) s := by
        conv => lhs; unfold L_makeUnknowns_86
        rw [c2, ifF le, nb, ob_some, ifT rfl, ifT ij, xj, t179, ifT (by decide), nm_eq, nx]
      rw [eK, eT]
      exact ih (j + 1) kf tf M (by omega) (by omega) (by omega) al ⟨by rw [cH_n e]; exact g1, fun w hw => by
        obtain ⟨w1, w2⟩ := g2 w hw
        refine ⟨fun hz => w1 ⟨?_, hz.2⟩, fun hz => w2 (fun y => hz ⟨by omega, y.2⟩)⟩
        have : w ≠ j := fun z => e (by rw [← z]; exact hz.2)
        omega⟩
end MKU
