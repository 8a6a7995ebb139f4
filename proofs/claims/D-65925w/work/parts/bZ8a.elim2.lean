/-! Layer B: running: elimination, both sides: rows below, the way back -/
set_option maxRecDepth 100000
section ELIM2
variable {α β : Type} {pq : Bool} {V n c b r k m i j kf tf : Nat} {D : FQ} {M M' M1 : CM} {σ σ' s : TS} {x y : Int32}
theorem ElB.ev (h : ElB V D M σ) (f : Ft [170, 171] σ σ') (h1 : tI σ' 171 = nI 0) : ElB V D M σ' := h.mv KF.rf (f.mono (by decide)) h1
theorem MxR.ev (h : MxR n M σ) (f : Ft [170, 171] σ σ') : MxR n M σ' := ⟨h.1, fun i j h1 h2 => by rw [(f 225 rfl).2.2.1]; exact h.2 i j h1 h2⟩
theorem ElB.w {a g h : Nat} {x y : Int32} (e : ElB V D M σ) (ha : a = 149 ∨ a = 150) (t : Nat) (ht : t = 225 ∨ t = 226) : ElB V D (mwA M a g x) (tsA σ t h y) := e.mv (KF.rf.wA (by rcases ha with rfl | rfl <;> rfl) (by omega)) ((Ft.rf _ σ).p_tsA (by rcases ht with rfl | rfl <;> rfl)) e.1.2.1
theorem t_240F (h : tI s 0 ≠ 0) {x1 x2 x4 x5 x6 : Int32} {f : Nat} : L_eliminate_240 (f + 1) x1 x2 x4 x5 x6 s = some ((), s) := by
  rw [L_eliminate_240]
  by_cases q : x1 < x6
  · rw [ifT q]
  · rw [ifF q, t_isBad1 h, ob_some, ifF (show ¬ (1 : Int32) = 0 by decide)]
theorem t_177F (h : tI s 0 ≠ 0) {x1 x2 x4 : Int32} {f : Nat} : L_eliminate_177 (f + 1) x1 x2 x4 s = some ((), s) := by
  rw [L_eliminate_177]
  by_cases q : x1 ≤ x4
  · rw [ifT q]
  · rw [ifF q, t_isBad1 h, ob_some, ifF (show ¬ (1 : Int32) = 0 by decide)]
theorem fuEx : ∃ g, FU = g + 1 := ⟨FU - 1, by unfold FU; decide⟩
abbrev fb2 : Nat → Unit ⊕ (Unit ⊕ Nat) := fun w => .inr (.inr w)
/-- a row less a pivot row -/
theorem el_row (hc : c < n) (hr : r < n) : ∀ (m k kf tf : Nat) (M : CM) (σ : TS), k + m = n + 1 → m < kf → m + 1 < tf → ElB V D M σ → MxR n M σ →
    RsO pq fb2 [] [149, 150] elT 1 V D M σ (fun a _ M' σ' => a = .inl () ∧ ElB V D M' σ' ∧ MxR n M' σ') (KL_X0_eliminate_215 kf (nI n) (nI c) (nI r) x (nI k) M) (L_eliminate_240 tf (nI n) (nI c) (nI r) x (nI k) σ) := by
  intro m
  induction m with
  | zero =>
    intro k kf tf M σ e hk ht eb h
    have n24 := h.1
    obtain ⟨kf, rfl⟩ : ∃ g, kf = g + 1 := ⟨kf - 1, by omega⟩
    obtain ⟨tf, rfl⟩ : ∃ g, tf = g + 1 := ⟨tf - 1, by omega⟩
    have t : nI n < nI k := (bI_lt (by omega) (by omega)).mpr (by omega)
    exact Or.inr ⟨.inl (), (), M, σ, by rw [KL_X0_eliminate_215, ifT t], by rw [L_eliminate_240, ifT t], RsK.rf, rfl, eb, h⟩
  | succ m ih =>
    intro k kf tf M σ e hk ht eb h
    have n24 := h.1
    obtain ⟨kf, rfl⟩ : ∃ g, kf = g + 1 := ⟨kf - 1, by omega⟩
    obtain ⟨tf, rfl⟩ : ∃ g, tf = g + 1 := ⟨tf - 1, by omega⟩
    have t : ¬ nI n < nI k := fun z => by have := (bI_lt (by omega) (by omega)).mp z; omega
    have c24 : c < 24 := by omega
    have r24 : r < 24 := by omega
    have k24 : k ≤ 24 := by omega
    have e1 : nI k + 1 = nI (k + 1) := by rw [show (1 : Int32) = nI 1 from rfl, bI_add]
    obtain ⟨a1, a2⟩ := h.2 c k hc (by omega)
    obtain ⟨⟨h0, h171, -⟩, hcc, -⟩ := id eb
    have n94 : elT.contains 94 = false := rfl
    rw [KL_X0_eliminate_215, ifF t, L_eliminate_240, ifF t, t_isBad0 h0, ob_some, ifT (rfl : (0 : Int32) = 0), m25, m25, m181, m181, ifT (in25 r24 k24), ifT (in25 c24 k24), ifT (in181 c24 k24), x25 c24 k24, x181 c24 k24, ← a1]
    refine RsO.seq n94 (((n_times (a := x) (b := mA M 149 (25 * c + k)) hcc.1 hcc.2 h0).nv h171).eb eb (by decide)) (fun w M' σ' y k1 k2 fo => ?_) (fun a b M' σ' k1 k2 g ⟨q1, q2, q3, v, q4, q5⟩ => ?_)
    · refine ⟨by rw [k1, obS_inr], (), σ', ?_, Ft.rf _ σ', rfl, rfl, rfl, rfl⟩
      obtain ⟨tf, rfl⟩ : ∃ g, tf = g + 1 := ⟨tf - 1, by omega⟩
      rw [k2, ob_some, t_isBad1 fo.ne, ob_some, ifF (show ¬ (1 : Int32) = 0 by decide), nm_eq, t_240F fo.ne]
    have q5 : v = b := q5
    subst q1; subst q4; subst q5
    have eb1 := eb.ev q2 q3
    have h1 := h.ev q2
    obtain ⟨b1, b2⟩ := h1.2 r k hr (by omega)
    rw [k1, k2, obS_inl, ob_some, t_isBad0 eb1.1.1, ob_some, ifT (rfl : (0 : Int32) = 0), ifT (in181 r24 k24), x25 r24 k24, x181 r24 k24, ← b1]
    refine RsO.seq n94 ((n_inr (x := (mA M' 149 (25 * r + k)).toInt64 - v.toInt64) hcc.1 hcc.2 eb1.1.1 q3).eb eb1 (by decide)) (fun w M2 σ2 y k3 k4 fo => ?_) (fun a b2 M2 σ2 k3 k4 g2 ⟨p1, p2, p3, v2, p4, p5⟩ => ?_)
    · refine ⟨by rw [k3, obS_inr], (), tsA σ2 225 (181 * r + k) y, ?_, (Ft.rf _ σ2).p_tsA rfl, rfl, rfl, rfl, rfl⟩
      obtain ⟨tf, rfl⟩ : ∃ g, tf = g + 1 := ⟨tf - 1, by omega⟩
      have ne : tI (tsA σ2 225 (181 * r + k) y) 0 ≠ 0 := fo.ne
      rw [k4, ob_some, ifT (in181 r24 k24), nm_eq, nm_eq, t_240F ne]
    obtain ⟨p5, p6⟩ : v2 = b2 ∧ -2147483647 ≤ v2.toInt := p5
    subst p1; subst p4; subst p5
    have eb2 := eb1.ev p2 p3
    have h2 := h1.ev p2
    rw [k3, k4, obS_inl, ob_some, ifT (in25 r24 k24), ifT (in181 r24 k24), nm_eq, nm_eq, nm_eq, nm_eq, e1]
    refine RsO.pre (RsK.w149 rfl _ _ _ _) n94 (ih (k + 1) kf tf _ _ (by omega) (by omega) (by omega) (eb2.w (Or.inl rfl) 225 (Or.inl rfl)) (h2.w hr (by omega) (fun _ => p6)))
/-- the rows below the pivot row -/
theorem el_rows (hc : c < n) : ∀ (m r kf tf : Nat) (M : CM) (σ : TS), r + m = n → m < kf → m + 1 < tf → ElB V D M σ → MxR n M σ →
    RsO pq fb2 [] [149, 150] elT 1 V D M σ (fun a _ M' σ' => a = .inl () ∧ ElB V D M' σ' ∧ MxR n M' σ') (KL_X0_eliminate_163 kf (nI n) (nI c) (nI r) M) (L_eliminate_177 tf (nI n) (nI c) (nI r) σ) := by
  intro m
  induction m with
  | zero =>
    intro r kf tf M σ e hk ht eb h
    have n24 := h.1
    obtain ⟨kf, rfl⟩ : ∃ g, kf = g + 1 := ⟨kf - 1, by omega⟩
    obtain ⟨tf, rfl⟩ : ∃ g, tf = g + 1 := ⟨tf - 1, by omega⟩
    have t : nI n ≤ nI r := (bI_le (by omega) (by omega)).mpr (by omega)
    exact Or.inr ⟨.inl (), (), M, σ, by rw [KL_X0_eliminate_163, ifT t], by rw [L_eliminate_177, ifT t], RsK.rf, rfl, eb, h⟩
  | succ m ih =>
    intro r kf tf M σ e hk ht eb h
    have n24 := h.1
    obtain ⟨kf, rfl⟩ : ∃ g, kf = g + 1 := ⟨kf - 1, by omega⟩
    obtain ⟨tf, rfl⟩ : ∃ g, tf = g + 2 := ⟨tf - 2, by omega⟩
    have fu : 100 < FU := by unfold FU; decide
    obtain ⟨F, hF⟩ := fuEx
    have t : ¬ nI n ≤ nI r := fun z => by have := (bI_le (by omega) (by omega)).mp z; omega
    have c24 : c < 24 := by omega
    have c24' : c ≤ 24 := by omega
    have r24 : r < 24 := by omega
    have e1 : nI r + 1 = nI (r + 1) := by rw [show (1 : Int32) = nI 1 from rfl, bI_add]
    have e2 : nI c + 1 = nI (c + 1) := by rw [show (1 : Int32) = nI 1 from rfl, bI_add]
    obtain ⟨a1, -⟩ := h.2 r c (by omega) (by omega)
    obtain ⟨b1, -⟩ := h.2 c c hc (by omega)
    obtain ⟨⟨h0, h171, -⟩, hcc, -⟩ := id eb
    have n94 : elT.contains 94 = false := rfl
    rw [KL_X0_eliminate_163, ifF t, L_eliminate_177, ifF t, t_isBad0 h0, ob_some, ifT (rfl : (0 : Int32) = 0), m25, m25, m181, m181, ifT (in25 r24 c24'), ifT (in25 c24 c24'), ifT (in181 r24 c24'), ifT (in181 c24 c24'), x25 c24 c24', x181 c24 c24', x25 r24 c24', x181 r24 c24', ← a1, ← b1]
    refine RsO.seq n94 (((n_over (a := mA M 149 (25 * r + c)) (b := mA M 149 (25 * c + c)) hcc.1 hcc.2 h0).nv h171).eb eb (by decide)) (fun w M' σ' y k1 k2 fo => ?_) (fun a b M' σ' k1 k2 g ⟨q1, q2, q3, v, q4, q5⟩ => ?_)
    · refine ⟨by rw [k1, obS_inr], (), tsA σ' 225 (181 * r + c) 0, ?_, (Ft.rf _ σ').p_tsA rfl, rfl, rfl, rfl, rfl⟩
      have ne : tI (tsA σ' 225 (181 * r + c) 0) 0 ≠ 0 := fo.ne
      rw [k2, ob_some, ifT (in181 r24 c24'), nm_eq, nm_eq, hF, t_240F ne, ob_some, nm_eq, t_177F ne]
    have q5 : v = b := q5
    subst q1; subst q4; subst q5
    have eb1 := eb.ev q2 q3
    have h1 := h.ev q2
    rw [k1, k2, obS_inl, ob_some, ifT (in25 r24 c24'), ifT (in181 r24 c24'), nm_eq, nm_eq, nm_eq, nm_eq, e2]
    refine RsO.pre (RsK.w149 rfl (25 * r + c) (181 * r + c) 0 0) n94 ?_
    have eb2 : ElB V D (mwA M' 149 (25 * r + c) 0) (tsA σ' 225 (181 * r + c) 0) := eb1.w (Or.inl rfl) 225 (Or.inl rfl)
    have h2 : MxR n (mwA M' 149 (25 * r + c) 0) (tsA σ' 225 (181 * r + c) 0) := h1.w (by omega) (by omega) (fun _ => by decide)
    refine RsO.seq n94 (el_row (x := v) hc (show r < n by omega) (n - c) (c + 1) FU FU _ _ (by omega) (by omega) (by omega) eb2 h2) (fun w M3 σ3 y k3 k4 fo => ?_) (fun a b3 M3 σ3 k3 k4 g3 ⟨r1, r2, r3⟩ => ?_)
    · refine ⟨by rw [k3, obS_inr], (), σ3, ?_, Ft.rf _ σ3, rfl, rfl, rfl, rfl⟩
      rw [k4, ob_some, nm_eq, t_177F fo.ne]
    · subst r1
      rw [k3, k4, obS_inl, ob_some, nm_eq, nm_eq, e1]
      exact ih (r + 1) kf (tf + 1) M3 σ3 (by omega) (by omega) (by omega) r2 r3
theorem t_e2F (h : tI s 0 ≠ 0) {x1 x2 : Int32} {f : Nat} : L_eliminate_2 (f + 1) x1 x2 s = some (.inl (), s) := by
  rw [L_eliminate_2]
  by_cases q : x1 ≤ x2
  · rw [ifT q]
  · rw [ifF q, t_isBad1 h, ob_some, ifF (show ¬ (1 : Int32) = 0 by decide)]
/-- all columns -/
theorem el_cols : ∀ (m c kf tf : Nat) (M : CM) (σ : TS), c + m = n → m < kf → m + 1 < tf → ElB V D M σ → MxR n M σ →
    RsO pq fb2 [] [149, 150] elT 1 V D M σ (fun a b M' σ' => a = .inl () ∧ b = .inl () ∧ ElB V D M' σ' ∧ MxR n M' σ') (KL_X0_eliminate_2 kf (nI n) (nI c) M) (L_eliminate_2 tf (nI n) (nI c) σ) := by
  intro m
  induction m with
  | zero =>
    intro c kf tf M σ e hk ht eb h
    have n24 := h.1
    obtain ⟨kf, rfl⟩ : ∃ g, kf = g + 1 := ⟨kf - 1, by omega⟩
    obtain ⟨tf, rfl⟩ : ∃ g, tf = g + 1 := ⟨tf - 1, by omega⟩
    have t : nI n ≤ nI c := (bI_le (by omega) (by omega)).mpr (by omega)
    exact Or.inr ⟨.inl (), .inl (), M, σ, by rw [KL_X0_eliminate_2, ifT t], by rw [L_eliminate_2, ifT t], RsK.rf, rfl, rfl, eb, h⟩
  | succ m ih =>
    intro c kf tf M σ e hk ht eb h
    have n24 := h.1
    obtain ⟨kf, rfl⟩ : ∃ g, kf = g + 1 := ⟨kf - 1, by omega⟩
    obtain ⟨tf, rfl⟩ : ∃ g, tf = g + 2 := ⟨tf - 2, by omega⟩
    have fu : 100 < FU := by unfold FU; decide
    have t : ¬ nI n ≤ nI c := fun z => by have := (bI_le (by omega) (by omega)).mp z; omega
    have hc : c < n := by omega
    have c24' : c ≤ 24 := by omega
    have e2 : nI c + 1 = nI (c + 1) := by rw [show (1 : Int32) = nI 1 from rfl, bI_add]
    have n94 : elT.contains 94 = false := rfl
    obtain ⟨⟨h0, h171, -⟩, hcc, -⟩ := id eb
    obtain ⟨b, b1, b2, b3⟩ := el_best h hc m (c + 1) c FU FU (by omega) hc (by omega) (by omega)
    have b24 : b < 24 := by omega
    obtain ⟨p1, -⟩ := h.2 b c b1 (by omega)
    rw [KL_X0_eliminate_2, ifF t, nm_eq, e2, b2, ob_some, m25, ifT (in25 b24 c24'), x25 b24 c24', L_eliminate_2, ifF t, t_isBad0 h0, ob_some, ifT (rfl : (0 : Int32) = 0), nm_eq, e2, b3, ob_some, m181, ifT (in181 b24 c24'), x181 b24 c24', ← p1]
    by_cases z : mA M 149 (25 * b + c) = 0
    · rw [ifT z, ifT z, k_wrong hcc.1 hcc.2, ob_some, ifT (wM_k _ _ _), t_badT h0, ob_some]
      exact Or.inl ⟨_, _, _, .inr (), rfl, rfl, FoR.eb eb 43 (by decide) ⟨rfl, rfl⟩⟩
    rw [ifF z, ifF z]
    have sw : ∃ M' σ', KL_X0_eliminate_89 FU (nI n) (nI c) (nI b) 0 M = some ((), M') ∧ L_eliminate_99 FU (nI n) (nI c) (nI b) 0 σ = some ((), σ') ∧ RsK [] [149, 150] [225] V D M σ M' σ' ∧ MxR n M' σ' := by
      by_cases hne : b = c
      · obtain ⟨F, hF⟩ := fuEx
        refine ⟨M, σ, ?_, ?_, RsK.rf, h⟩
        · rw [hF, KL_X0_eliminate_89, hne, ifT rfl]
        · rw [hF, L_eliminate_99, ifF (fun z => by have := (bI_lt (b := 0) (by omega) (by decide)).mp z; omega), hne, ifT rfl]
      · exact el_swap hc b1 hne (n + 1) 0 FU FU M σ (by omega) (by omega) (by omega) h
    obtain ⟨M1, σ1, s1, s2, s3, s4⟩ := sw
    rw [s1, s2, ob_some, ob_some]
    have s5 : ElB V D M1 σ1 := eb.mv s3.1 (s3.2.1.mono (by decide)) (by rw [(s3.2.1 171 rfl).1]; exact h171)
    refine RsO.pre (s3.mono (by decide) (by decide) (by decide)) n94 ?_
    unfold KJ_X0_eliminate_158_2 J_eliminate_172_2
    rw [nm_eq, nm_eq, e2]
    refine RsO.seq n94 (el_rows hc m (c + 1) FU FU M1 σ1 (by omega) (by omega) (by omega) s5 s4) (fun w M3 σ3 y k3 k4 fo => ?_) (fun a b3 M3 σ3 k3 k4 g3 ⟨r1, r2, r3⟩ => ?_)
    · refine ⟨by rw [k3, obS_inr], .inl (), σ3, ?_, Ft.rf _ σ3, rfl, rfl, rfl, rfl⟩
      rw [k4, ob_some, nm_eq, t_e2F fo.ne]
    · subst r1
      rw [k3, k4, obS_inl, ob_some, nm_eq, nm_eq]
      exact ih (c + 1) kf (tf + 1) M3 σ3 (by omega) (by omega) (by omega) r2 r3
/-- the changes from the row k on are alike -/
def CgR (n k : Nat) (M : CM) (σ : TS) : Prop := ∀ j, k ≤ j → j < n → mA M 150 j = tA σ 226 j
theorem CgR.ev (h : CgR n k M σ) (f : Ft [170, 171] σ σ') : CgR n k M σ' := fun j h1 h2 => by rw [(f 226 rfl).2.2.1]; exact h j h1 h2
abbrev fb3 : Nat → Int32 ⊕ (Unit ⊕ Nat) := fun w => .inr (.inr w)
theorem t_369F (h : tI s 0 ≠ 0) {x1 x2 x3 x4 : Int32} {f : Nat} : L_eliminate_369 (f + 1) x1 x2 x3 x4 s = some (x3, s) := by
  rw [L_eliminate_369]
  by_cases q : x1 ≤ x4
  · rw [ifT q]
  · rw [ifF q, t_isBad1 h, ob_some, ifF (show ¬ (1 : Int32) = 0 by decide)]
theorem el_sum (hc : c < n) : ∀ (m k kf tf : Nat) (x : Int32) (M : CM) (σ : TS), k + m = n → m < kf → m + 1 < tf → ElB V D M σ → MxR n M σ → CgR n k M σ →
    RsO pq fb3 [] [149, 150] elT 1 V D M σ (fun a b M' σ' => (∃ v, a = .inl v ∧ b = v) ∧ M' = M ∧ Ft [170, 171] σ σ' ∧ tI σ' 171 = nI 0) (KL_X0_eliminate_313 kf (nI n) (nI c) x (nI k) M) (L_eliminate_369 tf (nI n) (nI c) x (nI k) σ) := by
  intro m
  induction m with
  | zero =>
    intro k kf tf x M σ e hk ht eb h ch
    have n24 := h.1
    obtain ⟨kf, rfl⟩ : ∃ g, kf = g + 1 := ⟨kf - 1, by omega⟩
    obtain ⟨tf, rfl⟩ : ∃ g, tf = g + 1 := ⟨tf - 1, by omega⟩
    have t : nI n ≤ nI k := (bI_le (by omega) (by omega)).mpr (by omega)
    exact Or.inr ⟨.inl x, x, M, σ, by rw [KL_X0_eliminate_313, ifT t], by rw [L_eliminate_369, ifT t], RsK.rf, ⟨x, rfl, rfl⟩, rfl, Ft.rf _ σ, eb.1.2.1⟩
  | succ m ih =>
    intro k kf tf x M σ e hk ht eb h ch
    have n24 := h.1
    obtain ⟨kf, rfl⟩ : ∃ g, kf = g + 1 := ⟨kf - 1, by omega⟩
    obtain ⟨tf, rfl⟩ : ∃ g, tf = g + 2 := ⟨tf - 2, by omega⟩
    have t : ¬ nI n ≤ nI k := fun z => by have := (bI_le (by omega) (by omega)).mp z; omega
    have c24 : c < 24 := by omega
    have k24 : k ≤ 24 := by omega
    have e1 : nI k + 1 = nI (k + 1) := by rw [show (1 : Int32) = nI 1 from rfl, bI_add]
    obtain ⟨a1, -⟩ := h.2 c k hc (by omega)
    have c1 := ch k (Nat.le_refl _) (by omega)
    obtain ⟨⟨h0, h171, -⟩, hcc, -⟩ := id eb
    have n94 : elT.contains 94 = false := rfl
    rw [KL_X0_eliminate_313, ifF t, L_eliminate_369, ifF t, t_isBad0 h0, ob_some, ifT (rfl : (0 : Int32) = 0), m25, m181, ifT (in25 c24 k24), ifT (in181 c24 k24), ifT (inb_nI' (show k < 25 by omega) (by decide)), ifT (inb_nI' (show k < 180 by omega) (by decide)), x25 c24 k24, x181 c24 k24, ix_nI (by omega), ← a1, ← c1]
    refine RsO.seq n94 (((n_times (a := mA M 149 (25 * c + k)) (b := mA M 150 k) hcc.1 hcc.2 h0).nv h171).eb eb (by decide)) (fun w M' σ' y k1 k2 fo => ?_) (fun a b M' σ' k1 k2 g ⟨q1, q2, q3, v, q4, q5⟩ => ?_)
    · refine ⟨by rw [k1, obS_inr], x, σ', ?_, Ft.rf _ σ', rfl, rfl, rfl, rfl⟩
      rw [k2, ob_some, t_isBad1 fo.ne, ob_some, ifF (show ¬ (1 : Int32) = 0 by decide), nm_eq, t_369F fo.ne]
    have q5 : v = b := q5
    subst q1; subst q4; subst q5
    have eb1 := eb.ev q2 q3
    have h1 := h.ev q2
    have ch1 := ch.ev q2
    rw [k1, k2, obS_inl, ob_some, t_isBad0 eb1.1.1, ob_some, ifT (rfl : (0 : Int32) = 0)]
    refine RsO.seq n94 (((n_in (x := x.toInt64 - v.toInt64) hcc.1 hcc.2 eb1.1.1).nv q3).eb eb1 (by decide)) (fun w M2 σ2 y k3 k4 fo => ?_) (fun a b2 M2 σ2 k3 k4 g2 ⟨p1, p2, p3, v2, p4, p5⟩ => ?_)
    · refine ⟨by rw [k3, obS_inr], y, σ2, ?_, Ft.rf _ σ2, rfl, rfl, rfl, rfl⟩
      rw [k4, ob_some, nm_eq, t_369F fo.ne]
    have p5 : v2 = b2 := p5
    subst p1; subst p4; subst p5
    rw [k3, k4, obS_inl, ob_some, nm_eq, nm_eq, e1]
    exact (ih (k + 1) kf (tf + 1) v2 _ σ2 (by omega) (by omega) (by omega) (eb1.ev p2 p3) (h1.ev p2) (fun j h1 h2 => (ch1.ev p2) j (by omega) h2)).im (fun a b M' σ' _ ⟨o1, o2, o3, o4⟩ => ⟨o1, o2, (q2.tr p2).tr o3, o4⟩)
theorem t_340F (h : tI s 0 ≠ 0) {x1 x2 : Int32} {f : Nat} : L_eliminate_340 (f + 1) x1 x2 s = some ((), s) := by
  rw [L_eliminate_340]
  by_cases q : x2 < 0
  · rw [ifT q]
  · rw [ifF q, t_isBad1 h, ob_some, ifF (show ¬ (1 : Int32) = 0 by decide)]
/-- the way back -/
theorem el_back : ∀ (m kf tf : Nat) (M : CM) (σ : TS), m ≤ n → m < kf → m + 1 < tf → ElB V D M σ → MxR n M σ → CgR n m M σ →
    RsO pq fb2 [] [149, 150] elT 1 V D M σ (fun a _ M' σ' => a = .inl () ∧ ElB V D M' σ' ∧ CgR n 0 M' σ') (KL_X0_eliminate_292 kf (nI n) (nI m - 1) M) (L_eliminate_340 tf (nI n) (nI m - 1) σ) := by
  intro m
  induction m with
  | zero =>
    intro kf tf M σ e hk ht eb h ch
    obtain ⟨kf, rfl⟩ : ∃ g, kf = g + 1 := ⟨kf - 1, by omega⟩
    obtain ⟨tf, rfl⟩ : ∃ g, tf = g + 1 := ⟨tf - 1, by omega⟩
    have t : nI 0 - 1 < 0 := by decide
    exact Or.inr ⟨.inl (), (), M, σ, by rw [KL_X0_eliminate_292, ifT t], by rw [L_eliminate_340, ifT t], RsK.rf, rfl, eb, ch⟩
  | succ m ih =>
    intro kf tf M σ e hk ht eb h ch
    have n24 := h.1
    obtain ⟨kf, rfl⟩ : ∃ g, kf = g + 1 := ⟨kf - 1, by omega⟩
    obtain ⟨tf, rfl⟩ : ∃ g, tf = g + 2 := ⟨tf - 2, by omega⟩
    have fu : 100 < FU := by unfold FU; decide
    have e0 : nI (m + 1) - 1 = nI m := by rw [nI_subL _ _ (by omega), Nat.add_sub_cancel]
    have t : ¬ nI m < 0 := fun z => by
      rw [show (0 : Int32) = nI 0 from rfl, bI_lt (by omega) (by decide)] at z; omega
    have m24 : m < 24 := by omega
    have m24' : m ≤ 24 := by omega
    have e1 : nI m + 1 = nI (m + 1) := by rw [show (1 : Int32) = nI 1 from rfl, bI_add]
    have e2 : nI m + -1 = nI m - 1 := by rw [Int32.sub_eq_add_neg]
    obtain ⟨a1, -⟩ := h.2 m n (by omega) (Nat.le_refl _)
    obtain ⟨b1, -⟩ := h.2 m m (by omega) (by omega)
    obtain ⟨⟨h0, h171, -⟩, hcc, -⟩ := id eb
    have n94 : elT.contains 94 = false := rfl
    rw [e0, KL_X0_eliminate_292, ifF t, L_eliminate_340, ifF t, t_isBad0 h0, ob_some, ifT (rfl : (0 : Int32) = 0), m25, m181, ifT (in25 m24 n24), ifT (in181 m24 n24), x25 m24 n24, x181 m24 n24, nm_eq, nm_eq, nm_eq, nm_eq, e1, ← a1]
    refine RsO.seq n94 (el_sum (show m < n by omega) (n - (m + 1)) (m + 1) FU FU (mA M 149 (25 * m + n)) M σ (by omega) (by omega) (by omega) eb h ch) (fun w M' σ' y k1 k2 fo => ?_) (fun a b M' σ' k1 k2 g ⟨⟨v, q1, q4⟩, q2, q3, q5⟩ => ?_)
    · refine ⟨by rw [k1, obS_inr], (), tsA σ' 226 m 0, ?_, (Ft.rf _ σ').p_tsA rfl, rfl, rfl, rfl, rfl⟩
      have ne : tI (tsA σ' 226 m 0) 0 ≠ 0 := fo.ne
      rw [k2, ob_some]
      unfold J_eliminate_432_340
      rw [t_isBad1 fo.ne, ob_some, ifF (show ¬ (1 : Int32) = 0 by decide), ifT (inb_nI' (show m < 180 by omega) (by decide)), ix_nI (by omega), nm_eq, nm_eq, t_340F ne]
    subst q1; subst q2; subst q4
    have eb1 := eb.ev q3 q5
    have h1 := h.ev q3
    rw [k1, k2, obS_inl, ob_some]
    unfold J_eliminate_432_340
    obtain ⟨b2, -⟩ := h1.2 m m (by omega) (by omega)
    rw [t_isBad0 eb1.1.1, ob_some, ifT (rfl : (0 : Int32) = 0), m25, m181, ifT (in25 m24 m24'), ifT (in181 m24 m24'), x25 m24 m24', x181 m24 m24', ← b2]
    refine RsO.seq n94 (((n_over (a := b) (b := mA M' 149 (25 * m + m)) hcc.1 hcc.2 eb1.1.1).nv q5).eb eb1 (by decide)) (fun w M2 σ2 y k3 k4 fo => ?_) (fun a b2 M2 σ2 k3 k4 g2 ⟨p1, p2, p3, v2, p4, p5⟩ => ?_)
    · refine ⟨by rw [k3, obS_inr], (), tsA σ2 226 m y, ?_, (Ft.rf _ σ2).p_tsA rfl, rfl, rfl, rfl, rfl⟩
      have ne : tI (tsA σ2 226 m y) 0 ≠ 0 := fo.ne
      rw [k4, ob_some, ifT (inb_nI' (show m < 180 by omega) (by decide)), ix_nI (by omega), nm_eq, nm_eq, t_340F ne]
    have p5 : v2 = b2 := p5
    subst p1; subst p4; subst p5
    have eb2 := eb1.ev p2 p3
    have h2 := h1.ev p2
    have ch2 := (ch.ev q3).ev p2
    rw [k3, k4, obS_inl, ob_some, ifT (inb_nI' (show m < 25 by omega) (by decide)), ifT (inb_nI' (show m < 180 by omega) (by decide)), ix_nI (by omega), nm_eq, nm_eq, nm_eq, nm_eq, e2]
    refine RsO.pre ⟨KF.rf.wA rfl ⟨by decide, by decide⟩, (Ft.rf _ _).p_tsA rfl, fun _ _ _ => rfl⟩ n94 (ih kf (tf + 1) _ _ (by omega) (by omega) (by omega) (eb2.w (Or.inr rfl) 226 (Or.inr rfl)) ⟨n24, fun i j hi hj => ?_⟩ (fun j hj hj2 => ?_))
    · rw [mA_mwA, tA_tsA, ifF (fun z => by omega), ifF (fun z => by omega)]
      exact h2.2 i j hi hj
    · rw [mA_mwA, tA_tsA]
      by_cases z : j = m
      · rw [ifT ⟨rfl, z⟩, ifT ⟨rfl, z⟩]
      · rw [ifF (fun y => z y.2), ifF (fun y => z y.2)]
        exact ch2 j (by omega) hj2
/-- elimination, both sides -/
theorem z_eliminate (eb : ElB V D M σ) (h : MxR n M σ) : RsO pq (fun w => (.inr w : Unit ⊕ Nat)) [] [149, 150] elT 1 V D M σ (fun a _ M' σ' => a = .inl () ∧ ElB V D M' σ' ∧ CgR n 0 M' σ') (K_X0_eliminate (nI n) M) (F_eliminate (nI n) σ) := by
  have n24 := h.1
  have fu : 100 < FU := by unfold FU; decide
  have n94 : elT.contains 94 = false := rfl
  obtain ⟨F, hF⟩ := fuEx
  have jF : ∀ {s : TS}, tI s 0 ≠ 0 → J_eliminate_336 (nI n) s = some ((), s) := fun {s} hs => by
    unfold J_eliminate_336
    rw [nm_eq, hF, t_340F hs, ob_some]
  unfold K_X0_eliminate F_eliminate
  refine RsO.seq n94 (el_cols n 0 FU FU M σ (by omega) (by omega) (by omega) eb h) (fun w M' σ' y k1 k2 fo => ?_) (fun a b M' σ' k1 k2 g ⟨q1, q2, q3, q4⟩ => ?_)
  · have k2' : obS (L_eliminate_2 FU (nI n) 0 σ) (fun r150 s90 => some (r150, s90)) (fun q89 s90 => J_eliminate_336 (nI n) s90) = some ((), σ') := by
      rw [show L_eliminate_2 FU (nI n) 0 σ = _ from k2]
      cases y with
      | inl y => rw [obS_inl]; exact jF fo.ne
      | inr y => rw [obS_inr]
    exact ⟨by rw [show KL_X0_eliminate_2 FU (nI n) 0 M = _ from k1, obS_inr], (), σ', k2', Ft.rf _ σ', rfl, rfl, rfl, rfl⟩
  subst q1; subst q2
  unfold J_eliminate_336
  rw [show KL_X0_eliminate_2 FU (nI n) 0 M = _ from k1, show L_eliminate_2 FU (nI n) 0 σ = _ from k2, obS_inl, obS_inl, nm_eq, nm_eq]
  refine RsO.seq n94 (el_back n FU FU M' σ' (Nat.le_refl _) (by omega) (by omega) q3 q4 (fun j h1 h2 => by omega)) (fun w M2 σ2 y k3 k4 fo => ?_) (fun a b M2 σ2 k3 k4 g ⟨p1, p2, p3⟩ => ?_)
  · exact ⟨by rw [k3, obS_inr], (), σ2, by rw [k4, ob_some], Ft.rf _ σ2, rfl, rfl, rfl, rfl⟩
  · subst p1
    exact Or.inr ⟨.inl (), (), M2, σ2, by rw [k3, obS_inl], by rw [k4, ob_some], RsK.rf, rfl, p2, p3⟩
end ELIM2
