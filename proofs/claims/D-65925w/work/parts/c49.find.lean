/-! Layer B: find, and a name's length -/
set_option maxRecDepth 100000
section FIND
variable {C : PC} {P : Nat → Prop} {mss fss : List Nat} {D : FQ} {M M' : CM} {σ0 σ σ' s s1 : TS} {B d n n0 k f g V I Bm v e b m len i : Nat} {z7 : Nat → Nat} {c r r' x x2 : Int32} {A L L' S : List Int32} {T : Nat → Int32}
theorem nbC : ∀ b, b < 128 → nB (nI b) = nI b := by decide +kernel
theorem LtC.nb (h : LtC c) : nB c = c := by
  obtain ⟨b, h1, rfl⟩ := h
  exact nbC b h1
theorem tpL_ef : ∀ (L : List Int32) (σ : TS) (n : Nat), tI σ 9 = nI n → n + L.length ≤ 500 → (∀ c, c ∈ L → LtC c) → ∃ σ', tpL L σ = some ((), σ') ∧ tI σ' 9 = nI (n + L.length) ∧ Ft [6, 9] σ σ' ∧ (∀ i, i < n → tA σ' 6 i = tA σ 6 i) ∧ ∀ i, i < L.length → tA σ' 6 (n + i) = L.getD i 0
  | [], σ, n, h, _, _ => ⟨σ, rfl, h, Ft.rf _ _, fun _ _ => rfl, fun i hi => absurd hi (Nat.not_lt_zero _)⟩
  | c :: L, σ, n, h, hn, hc => by
    rw [List.length_cons] at hn
    have nl : ¬ (500 : Int32) ≤ nI n := fun z => by
      have := (bI_le (a := 500) (b := n) (by decide) (by omega)).mp z
      omega
    have cb := (hc c List.mem_cons_self).nb
    obtain ⟨s1, hs1⟩ : ∃ s1, s1 = tsI (tsA σ 6 n c) 9 (nI (n + 1)) := ⟨_, rfl⟩
    have e1 : F_letter c σ = some ((), s1) := by
      unfold F_letter
      rw [h, ifF nl, ifT (inb_nI' (by omega) (by decide)), ix_nI (by omega), nm_eq, nm_eq, cb, cb]
      have e2 : tI (tsA σ 6 n c) 9 = nI n := h
      rw [e2, nI_addL, hs1]
    have f1 : Ft [6, 9] σ s1 := by rw [hs1]; exact ((Ft.rf _ σ).p_tsA rfl).p_tsI rfl
    have a6 : ∀ j, tA s1 6 j = if j = n then c else tA σ 6 j := fun j => by
      rw [hs1]
      show tA (tsA σ 6 n c) 6 j = _
      rw [tA_tsA]
      by_cases q : j = n
      · rw [ifT ⟨rfl, q⟩, ifT q]
      · rw [ifF (fun z => q z.2), ifF q]
    obtain ⟨σ', b1, b2, b3, b4, b5⟩ := tpL_ef L s1 (n + 1) (by rw [hs1]; rfl) (by omega) (fun c hc' => hc c (List.mem_cons_of_mem _ hc'))
    refine ⟨σ', ?_, by rw [b2, List.length_cons]; congr 1; omega, f1.tr b3, fun i hi => ?_, fun i hi => ?_⟩
    · show (ob (F_letter c σ) fun _ s1 => tpL L s1) = _
      rw [e1, ob_some, b1]
    · rw [b4 i (by omega), a6, ifF (by omega)]
    · cases i with
      | zero => rw [Nat.add_zero, b4 n (by omega), a6, ifT rfl]; rfl
      | succ i =>
        rw [List.length_cons] at hi
        show _ = L.getD i 0
        rw [← b5 i (by omega)]; congr 1; omega
theorem t_l15 (hn : n0 ≤ 500) : ∀ (d i f : Nat) (s : TS), i + d = n0 → d < f → ∃ s', L_letters_15 f x (nI n0) (nI i) s = some ((), s') ∧ Ft [246] s s' ∧ (∀ j, j < i → tA s' 246 j = tA s 246 j) ∧ ∀ j, i ≤ j → j < n0 → tA s' 246 j = nB (tA s 6 j) := by
  intro d
  induction d with
  | zero =>
    intro i f s hi hf
    obtain ⟨f, rfl⟩ : ∃ g, f = g + 1 := ⟨f - 1, by omega⟩
    exact ⟨s, by rw [L_letters_15, ifT ((bI_le (by omega) (by omega)).mpr (by omega))], Ft.rf _ _, fun _ _ => rfl, fun j h1 h2 => by omega⟩
  | succ d ih =>
    intro i f s hi hf
    obtain ⟨f, rfl⟩ : ∃ g, f = g + 1 := ⟨f - 1, by omega⟩
    obtain ⟨s1, hs1⟩ : ∃ s1, s1 = tsA s 246 i (nB (tA s 6 i)) := ⟨_, rfl⟩
    have f1 : Ft [246] s s1 := by rw [hs1]; exact (Ft.rf _ s).p_tsA rfl
    have a6 : ∀ j, tA s1 246 j = if j = i then nB (tA s 6 i) else tA s 246 j := fun j => by
      rw [hs1, tA_tsA]
      by_cases q : j = i
      · rw [ifT ⟨rfl, q⟩, ifT q]
      · rw [ifF (fun z => q z.2), ifF q]
    obtain ⟨s', b1, b2, b3, b4⟩ := ih (i + 1) f s1 (by omega) (by omega)
    refine ⟨s', ?_, f1.tr b2, fun j hj => by rw [b3 j (by omega), a6, ifF (by omega)], fun j h1 h2 => ?_⟩
    · rw [L_letters_15, ifF (fun z => by have := (bI_le (by omega) (by omega)).mp z; omega), ifF (fun z => by have := (bI_le (a := 2200) (by decide) (by omega)).mp z; omega), ifT (inb_nI' (by omega) (by decide)), ifT (inb_nI' (by omega) (by decide)), ix_nI (by omega), nm_eq, nI_addL, nm_eq, ← hs1, b1]
    · by_cases q : j = i
      · rw [q, b3 i (by omega), a6, ifT rfl]
      · rw [b4 j (by omega) h2, (f1 6 rfl).2.2.1]
theorem t_l67 (hn : n0 ≤ 500) : ∀ (d i f : Nat) (s : TS), i + d = n0 → d < f → ∃ s', L_letters_67 f x (nI n0) (nI i) s = some ((), s') ∧ Ft [247] s s' ∧ (∀ j, j < i → tA s' 247 j = tA s 247 j) ∧ ∀ j, i ≤ j → j < n0 → tA s' 247 j = nB (tA s 6 j) := by
  intro d
  induction d with
  | zero =>
    intro i f s hi hf
    obtain ⟨f, rfl⟩ : ∃ g, f = g + 1 := ⟨f - 1, by omega⟩
    exact ⟨s, by rw [L_letters_67, ifT ((bI_le (by omega) (by omega)).mpr (by omega))], Ft.rf _ _, fun _ _ => rfl, fun j h1 h2 => by omega⟩
  | succ d ih =>
    intro i f s hi hf
    obtain ⟨f, rfl⟩ : ∃ g, f = g + 1 := ⟨f - 1, by omega⟩
    obtain ⟨s1, hs1⟩ : ∃ s1, s1 = tsA s 247 i (nB (tA s 6 i)) := ⟨_, rfl⟩
    have f1 : Ft [247] s s1 := by rw [hs1]; exact (Ft.rf _ s).p_tsA rfl
    have a6 : ∀ j, tA s1 247 j = if j = i then nB (tA s 6 i) else tA s 247 j := fun j => by
      rw [hs1, tA_tsA]
      by_cases q : j = i
      · rw [ifT ⟨rfl, q⟩, ifT q]
      · rw [ifF (fun z => q z.2), ifF q]
    obtain ⟨s', b1, b2, b3, b4⟩ := ih (i + 1) f s1 (by omega) (by omega)
    refine ⟨s', ?_, f1.tr b2, fun j hj => by rw [b3 j (by omega), a6, ifF (by omega)], fun j h1 h2 => ?_⟩
    · rw [L_letters_67, ifF (fun z => by have := (bI_le (by omega) (by omega)).mp z; omega), ifT (inb_nI' (by omega) (by decide)), ifT (inb_nI' (by omega) (by decide)), ix_nI (by omega), nm_eq, nI_addL, nm_eq, ← hs1, b1]
    · by_cases q : j = i
      · rw [q, b3 i (by omega), a6, ifT rfl]
      · rw [b4 j (by omega) h2, (f1 6 rfl).2.2.1]
theorem t_l101 (hn : n0 ≤ 500) : ∀ (d i f : Nat) (s : TS), i + d = n0 → d < f → ∃ s', L_letters_101 f (nI n0) x (nI i) s = some ((), s') ∧ Ft [6] s s' ∧ (∀ j, j < i → tA s' 6 j = tA s 6 j) ∧ ∀ j, i ≤ j → j < n0 → tA s' 6 j = nB (tA s 246 j) := by
  intro d
  induction d with
  | zero =>
    intro i f s hi hf
    obtain ⟨f, rfl⟩ : ∃ g, f = g + 1 := ⟨f - 1, by omega⟩
    exact ⟨s, by rw [L_letters_101, ifT ((bI_le (by omega) (by omega)).mpr (by omega))], Ft.rf _ _, fun _ _ => rfl, fun j h1 h2 => by omega⟩
  | succ d ih =>
    intro i f s hi hf
    obtain ⟨f, rfl⟩ : ∃ g, f = g + 1 := ⟨f - 1, by omega⟩
    obtain ⟨s1, hs1⟩ : ∃ s1, s1 = tsA s 6 i (nB (tA s 246 i)) := ⟨_, rfl⟩
    have f1 : Ft [6] s s1 := by rw [hs1]; exact (Ft.rf _ s).p_tsA rfl
    have a6 : ∀ j, tA s1 6 j = if j = i then nB (tA s 246 i) else tA s 6 j := fun j => by
      rw [hs1, tA_tsA]
      by_cases q : j = i
      · rw [ifT ⟨rfl, q⟩, ifT q]
      · rw [ifF (fun z => q z.2), ifF q]
    obtain ⟨s', b1, b2, b3, b4⟩ := ih (i + 1) f s1 (by omega) (by omega)
    refine ⟨s', ?_, f1.tr b2, fun j hj => by rw [b3 j (by omega), a6, ifF (by omega)], fun j h1 h2 => ?_⟩
    · rw [L_letters_101, ifF (fun z => by have := (bI_le (by omega) (by omega)).mp z; omega), ifT (inb_nI' (by omega) (by decide)), ifT (inb_nI' (by omega) (by decide)), ix_nI (by omega), nm_eq, nI_addL, nm_eq, ← hs1, b1]
    · by_cases q : j = i
      · rw [q, b3 i (by omega), a6, ifT rfl]
      · rw [b4 j (by omega) h2, (f1 246 rfl).2.2.1]
/-- what is told is put by and back -/
theorem t_letters (hn : n0 ≤ 500) (h9 : tI σ 9 = nI n0) (h6 : ∀ i, i < n0 → nB (tA σ 6 i) = tA σ 6 i) (pv : ∀ s, Ft nmS σ s → F_printVariable x s = tpL L s) (hl : L.length ≤ 180) (hc : ∀ c, c ∈ L → LtC c) : ∃ σ', F_letters x σ = some (nI L.length, σ') ∧ Ft [6, 9, 176, 246, 247] σ σ' ∧ tI σ' 9 = nI n0 ∧ (∀ i, i < n0 → tA σ' 6 i = tA σ 6 i) ∧ ∀ i, i < L.length → tA σ' 247 i = L.getD i 0 := by
  have fu := FUb
  obtain ⟨s1, hs1⟩ : ∃ s1, s1 = tsI σ 9 0 := ⟨_, rfl⟩
  have f1 : Ft [6, 9, 176, 246, 247] σ s1 := by rw [hs1]; exact (Ft.rf _ σ).p_tsI rfl
  obtain ⟨s2, a1, a2, -, a4⟩ := t_l15 (x := x) hn n0 0 FU s1 (by omega) (by omega)
  obtain ⟨s3, hs3⟩ : ∃ s3, s3 = tsI s2 176 0 := ⟨_, rfl⟩
  have f3 : Ft [6, 9, 176, 246, 247] σ s3 := by rw [hs3]; exact (f1.tr (a2.mono (by decide))).p_tsI rfl
  have n3 : tI s3 9 = nI 0 := by rw [hs3]; show tI s2 9 = _; rw [(a2 9 rfl).1, hs1]; rfl
  obtain ⟨s4, b1, b2, b3, -, b5⟩ := tpL_ef L s3 0 n3 (by omega) hc
  rw [Nat.zero_add] at b2
  obtain ⟨s5, c1, c2, -, c4⟩ := t_l67 (x := nI n0) (n0 := L.length) (by omega) L.length 0 FU s4 (by omega) (by omega)
  obtain ⟨s6, hs6⟩ : ∃ s6, s6 = tsI s5 9 (nI n0) := ⟨_, rfl⟩
  obtain ⟨s7, d1, d2, -, d4⟩ := t_l101 (x := nI L.length) hn n0 0 FU s6 (by omega) (by omega)
  have f6 : Ft [6, 9, 176, 246, 247] s3 s6 := by rw [hs6]; exact ((b3.mono (by decide)).tr (c2.mono (by decide))).p_tsI rfl
  refine ⟨s7, ?_, (f3.tr f6).tr (d2.mono (by decide)), ?_, fun i hi => ?_, fun i hi => ?_⟩
  · unfold F_letters J_letters_49
    rw [h9, nm_eq, nm_eq, ← hs1, show (0 : Int32) = nI 0 from rfl, a1, ob_some, show (nI 0 : Int32) = 0 from rfl, nm_eq, ← hs3, pv s3 (f3.mono (by decide)), b1, ob_some, b2, nm_eq, show (0 : Int32) = nI 0 from rfl, c1, ob_some, nm_eq, ← hs6, d1, ob_some]
  · rw [(d2 9 rfl).1, hs6]; rfl
  · have e : tA s6 246 i = tA s2 246 i := by
      rw [hs6]; show tA s5 246 i = _
      rw [(c2 246 rfl).2.2.1, (b3 246 rfl).2.2.1, hs3]; rfl
    have e2 : tA s1 6 i = tA σ 6 i := by rw [hs1]; rfl
    rw [d4 i (Nat.zero_le _) hi, e, a4 i (Nat.zero_le _) hi, e2, nB_idem, h6 i hi]
  · rw [(d2 247 rfl).2.2.1, hs6]
    show tA s5 247 i = _
    have := b5 i hi
    rw [Nat.zero_add] at this
    rw [c4 i (Nat.zero_le _) hi, this]
    exact (hc _ (getI_mem hi)).nb
/-- comparing -/
theorem t_f0 (h8 : tI σ 8 = nI len) (hl : len ≤ 2000) : ∀ (d i f : Nat), i + d = len → d < f → L_find_43 f x 0 (nI i) σ = some (0, σ) := by
  intro d
  induction d with
  | zero =>
    intro i f hi hf
    obtain ⟨f, rfl⟩ : ∃ g, f = g + 1 := ⟨f - 1, by omega⟩
    rw [L_find_43, h8, ifT ((bI_le (by omega) (by omega)).mpr (by omega))]
  | succ d ih =>
    intro i f hi hf
    obtain ⟨f, rfl⟩ : ∃ g, f = g + 1 := ⟨f - 1, by omega⟩
    rw [L_find_43, h8, ifF (fun z => by have := (bI_le (by omega) (by omega)).mp z; omega), ifT (rfl : (0 : Int32) = 0), nm_eq, nI_addL]
    exact ih (i + 1) f (by omega) (by omega)
theorem t_f1 (h8 : tI σ 8 = nI len) (hl : len ≤ 2000) : ∀ (d i f : Nat), i + d = len → d < f → ∃ r, L_find_43 f x 1 (nI i) σ = some (r, σ) ∧ (r = 0 ∨ r = 1) ∧ (r = 1 ↔ ∀ j, i ≤ j → j < len → tA σ 247 j = tA σ 5 j) := by
  intro d
  induction d with
  | zero =>
    intro i f hi hf
    obtain ⟨f, rfl⟩ : ∃ g, f = g + 1 := ⟨f - 1, by omega⟩
    rw [L_find_43, h8, ifT ((bI_le (by omega) (by omega)).mpr (by omega))]
    exact ⟨_, rfl, Or.inr rfl, fun _ j h1 h2 => by omega, fun _ => rfl⟩
  | succ d ih =>
    intro i f hi hf
    obtain ⟨f, rfl⟩ : ∃ g, f = g + 1 := ⟨f - 1, by omega⟩
    rw [L_find_43, h8, ifF (fun z => by have := (bI_le (by omega) (by omega)).mp z; omega), ifF (by decide : ¬ (1 : Int32) = 0), ifT (inb_nI' (by omega) (by decide)), ifT (inb_nI' (by omega) (by decide)), ix_nI (by omega)]
    by_cases q : tA σ 247 i = tA σ 5 i
    · rw [ifT q, nm_eq, nI_addL]
      obtain ⟨r, r1, r2, r3⟩ := ih (i + 1) f (by omega) (by omega)
      refine ⟨r, r1, r2, fun z j h1 h2 => ?_, fun z => r3.mpr (fun j h1 h2 => z j (by omega) h2)⟩
      by_cases e : j = i
      · rw [e]; exact q
      · exact r3.mp z j (by omega) h2
    · rw [ifF q, nm_eq, nI_addL, t_f0 h8 hl d (i + 1) f (by omega) (by omega)]
      exact ⟨_, rfl, Or.inl rfl, fun z => absurd z (by decide), fun z => absurd (z i (Nat.le_refl _) (by omega)) q⟩
/-- what find leaves -/
def FnL (n0 : Nat) (s1 s : TS) : Prop := Ft [6, 9, 176, 246, 247] s1 s ∧ tI s 9 = nI n0 ∧ ∀ i, i < n0 → tA s 6 i = tA s1 6 i
theorem FnL.rf (h : tI s 9 = nI n0) : FnL n0 s s := ⟨Ft.rf _ _, h, fun _ _ => rfl⟩
theorem FnL.tr (h : FnL n0 s1 s) (k : FnL n0 s σ) : FnL n0 s1 σ := ⟨h.1.tr k.1, k.2.1, fun i hi => (k.2.2 i hi).trans (h.2.2 i hi)⟩
theorem find_lp (W : FW C B P mss fss D M σ0) (X : FlY z7 C P D mss M σ0 V I Bm) (hl : len ≤ 2000) (hn : n0 ≤ 500) (h5 : ∀ i, i < len → tA s1 5 i = mA M 2 i) (h8 : tI s1 8 = nI len) (h6 : ∀ i, i < n0 → nB (tA s1 6 i) = tA s1 6 i) (f1 : Ft nmS σ0 s1) : ∀ (d v kf tf : Nat) (s : TS), v + d = V → d < kf → d < tf → FnL n0 s1 s →
    (∃ s', KL_X0_find_22 kf (nI len) (nI v) M = some (.inl (), M) ∧ L_find_16 tf (nI v) s = some (.inl (), s') ∧ FnL n0 s1 s') ∨ ∃ r s', KL_X0_find_22 kf (nI len) (nI v) M = some (.inr r, M) ∧ L_find_16 tf (nI v) s = some (.inr r, s') ∧ FnL n0 s1 s' := by
  have h15 := X.2.2.2.1.1
  have h107 := X.2.2.1.1
  have V96 := X.2.1.1
  have fu := FUb
  intro d
  induction d with
  | zero =>
    intro v kf tf s hv hk ht o
    obtain ⟨kf, rfl⟩ : ∃ g, kf = g + 1 := ⟨kf - 1, by omega⟩
    obtain ⟨tf, rfl⟩ : ∃ g, tf = g + 1 := ⟨tf - 1, by omega⟩
    have e107 : tI s 107 = nI V := by rw [(o.1 107 rfl).1, (f1 107 rfl).1]; exact h107
    have le : nI V ≤ nI v := (bI_le (by omega) (by omega)).mpr (by omega)
    exact Or.inl ⟨s, by rw [KL_X0_find_22, h15, ifT le], by rw [L_find_16, e107, ifT le], o⟩
  | succ d ih =>
    intro v kf tf s hv hk ht o
    obtain ⟨kf, rfl⟩ : ∃ g, kf = g + 1 := ⟨kf - 1, by omega⟩
    obtain ⟨tf, rfl⟩ : ∃ g, tf = g + 1 := ⟨tf - 1, by omega⟩
    have e107 : tI s 107 = nI V := by rw [(o.1 107 rfl).1, (f1 107 rfl).1]; exact h107
    have le : ¬ nI V ≤ nI v := fun z => by have := (bI_le (by omega) (by omega)).mp z; omega
    obtain ⟨L, l1, l2, l3, l4, l5⟩ := var_nm W X (show v < V by omega)
    obtain ⟨s2, t1, t2, t3, t4, t5⟩ := t_letters (σ := s) (x := nI v) hn o.2.1 (fun i hi => by rw [o.2.2 i hi]; exact h6 i hi) (fun σ fσ => l5 σ ((f1.tr (o.1.mono (by decide))).tr fσ)) l1 l2
    have o2 : FnL n0 s1 s2 := o.tr ⟨t2, t3, t4⟩
    have e8 : tI s2 8 = nI len := by rw [(o2.1 8 rfl).1]; exact h8
    rw [KL_X0_find_22, L_find_16, h15, e107, ifF le, ifF le, l3, ob_some, t1, ob_some, e8]
    by_cases q : nI L.length = nI len
    · have ql : L.length = len := (bI_eq (by omega) (by omega)).mp q
      obtain ⟨r, r1, r2, r3⟩ := l4 len hl
      obtain ⟨r', u1, u2, u3⟩ := t_f1 (σ := s2) (x := nI v) e8 hl len 0 FU (by omega) (by omega)
      have same : r = r' := by
        have : r = 1 ↔ r' = 1 := by
          rw [r3, u3]
          constructor
          · intro ⟨⟨z1, z2⟩, -⟩ j _ hj
            have := z2 j (by omega)
            rw [t5 j (by omega), ← this, (o2.1 5 rfl).2.2.1, h5 j hj]; congr 1; omega
          · intro z
            refine ⟨⟨by omega, fun j hj => ?_⟩, ql.symm⟩
            have := z j (Nat.zero_le _) (by omega)
            rw [t5 j hj, (o2.1 5 rfl).2.2.1, h5 j (by omega)] at this
            rw [this]; congr 1; omega
        rcases r2 with rfl | rfl
        · rcases u2 with rfl | rfl
          · rfl
          · exact absurd (this.mpr rfl) (by decide)
        · exact (this.mp rfl).symm
      subst same
      rw [ifT q, ifT q, r1, ob_some, show (0 : Int32) = nI 0 from rfl, u1, ob_some, show (nI 0 : Int32) = 0 from rfl]
      by_cases z : r = 0
      · rw [ifT z, ifT z, nm_eq, nm_eq, nI_addL]
        exact ih (v + 1) kf tf s2 (by omega) (by omega) (by omega) o2
      · rw [ifF z, ifF z]
        exact Or.inr ⟨nI v, s2, rfl, rfl, o2⟩
    · rw [ifF q, ifF q, nm_eq, nm_eq, nI_addL]
      exact ih (v + 1) kf tf s2 (by omega) (by omega) (by omega) o2
/-- the call find -/
def FndO (M : CM) (σ : TS) : Prop := ∃ r σ', K_X0_find M = some (r, msI M 1 1 0) ∧ F_find σ = some (r, σ') ∧ Ft [5, 6, 7, 8, 9, 176, 246, 247] σ σ' ∧ BtR (msI M 1 1 0) σ' 0 ∧ OuR (msI M 1 1 0) σ'
theorem find_hd (b : BtR M σ len) (o : OuR M σ) : ∃ s1, F_takeTape σ = some ((), s1) ∧ Ft [5, 7, 8] σ s1 ∧ tI s1 7 = 0 ∧ (tI s1 8 = nI len ∧ ∀ i, i < len → tA s1 5 i = mA M 2 i) ∧ ∀ n s, OuR M σ → Ft [6, 9, 176, 246, 247] s1 s → tI σ 9 = nI n → n ≤ 500 → tI s 9 = nI n → (∀ i, i < n → tA s 6 i = tA s1 6 i) → Ft [5, 6, 7, 8, 9, 176, 246, 247] σ s ∧ BtR (msI M 1 1 0) s 0 ∧ OuR (msI M 1 1 0) s := by
  obtain ⟨b1, b2, b3, b4⟩ := b
  obtain ⟨s1, a1, a2, a3, a4⟩ := t_tape (b := mA M 2) b2 b3 (fun i hi => by obtain ⟨c1, c2⟩ := b4 i hi; rw [c1]; exact ⟨c2, c2⟩)
  obtain ⟨c1, c2, c3⟩ := a3
  refine ⟨s1, a1, a2, a4, ⟨c1, fun i hi => (c3 i hi).1⟩, fun n s o f h9 hn e9 e6 => ?_⟩
  refine ⟨(a2.mono (by decide)).tr (f.mono (by decide)), ⟨?_, by rw [(f 7 rfl).1]; exact a4, by decide, fun i hi => absurd hi (Nat.not_lt_zero _)⟩, ?_⟩
  · rw [mI_msI, ifT ⟨rfl, rfl⟩]; rfl
  · obtain ⟨m, m1, m2, m3, m4⟩ := o
    have : n = m := (bI_eq (by omega) (by omega)).mp (h9.symm.trans m3)
    subst this
    refine ⟨n, m1, ?_, e9, fun i hi => ?_⟩
    · rw [mI_msI, ifF (by omega)]; exact m2
    · rw [e6 i hi, (a2 6 rfl).2.2.1]; exact m4 i hi
theorem z_find_n (b : BtR M σ len) (o : OuR M σ) (h : mI M 30 1 = 0 ∧ tI σ 108 = 0) : FndO M σ := by
  obtain ⟨s1, a1, a2, a3, -, a5⟩ := find_hd b o
  obtain ⟨n, n1, n2, n3, n4⟩ := id o
  have h30 : mI (msI M 1 1 0) 30 1 = 0 := h.1
  obtain ⟨g1, g2, g3⟩ := a5 n s1 o (Ft.rf _ _) n3 n1 ((a2 9 rfl).1.trans n3) (fun _ _ => rfl)
  unfold FndO K_X0_find F_find
  rw [nm_eq, nm_eq, ifT h30, a1, ob_some, ifT ((a2 108 rfl).1.trans h.2)]
  exact ⟨_, s1, rfl, rfl, g1, g2, g3⟩
theorem z_find (W : FW C B P mss fss D M σ) (X : FlY z7 C P D mss M σ V I Bm) (b : BtR M σ len) (o : OuR M σ) (h : ¬ mI M 30 1 = 0 ∧ ¬ tI σ 108 = 0) : FndO M σ := by
  obtain ⟨s1, a1, a2, a3, ⟨a4, a4'⟩, a5⟩ := find_hd b o
  obtain ⟨n, n1, n2, n3, n4⟩ := id o
  obtain ⟨M2, hM2⟩ : ∃ M2, M2 = msI M 1 1 0 := ⟨_, rfl⟩
  have k2 : KF D [1] [] [] [] M M2 := by rw [hM2]; exact KF.rf.wI rfl TZ.one
  have W2 := W.kf k2 rfl rfl rfl (Ft.rf [] σ) rfl
  have X2 : FlY z7 C P D mss M2 σ V I Bm := X.kpw W k2.1 (fun t z => z.toV) (fun j hj => ⟨fun f h1 h2 => k2.i (by
    cases e : ([1] : List Nat).contains f with
    | false => rfl
    | true =>
      have : f ∈ ([1] : List Nat) := by simpa using e
      simp only [List.mem_cons, List.not_mem_nil, or_false] at this
      omega) _, fun f _ _ => k2.r rfl _⟩) W2.2 (Dx.rf D M) (Ft.rf [] σ) (by decide) ⟨k2.i rfl 1, k2.i rfl 1⟩
  have h30 : ¬ mI M2 30 1 = 0 := by rw [k2.i rfl 1]; exact h.1
  have V96 := X.2.1.1
  have fu := FUb
  have lp := find_lp (len := len) (n0 := n) (s1 := s1) W2.1 X2 b.2.2.1 n1 (fun i hi => by rw [hM2]; exact a4' i hi) a4 (fun i hi => by rw [(a2 6 rfl).2.2.1]; exact (n4 i hi).1.2) (a2.mono (by decide)) V 0 FU FU s1 (by omega) (by omega) (by omega) (FnL.rf ((a2 9 rfl).1.trans n3))
  unfold FndO K_X0_find F_find
  rw [nm_eq, nm_eq, ← hM2, ifF h30, a1, ob_some, ifF (fun z => h.2 ((a2 108 rfl).1.symm.trans z)), b.1]
  rcases lp with ⟨s, l1, l2, o2⟩ | ⟨r, s, l1, l2, o2⟩
  · obtain ⟨g1, g2, g3⟩ := a5 n s o o2.1 n3 n1 o2.2.1 o2.2.2
    rw [← hM2] at g2 g3
    rw [show (0 : Int32) = nI 0 from rfl, l1, obS_inl, l2, obS_inl]
    exact ⟨_, s, rfl, rfl, g1, g2, g3⟩
  · obtain ⟨g1, g2, g3⟩ := a5 n s o o2.1 n3 n1 o2.2.1 o2.2.2
    rw [← hM2] at g2 g3
    rw [show (0 : Int32) = nI 0 from rfl, l1, obS_inr, l2, obS_inr]
    exact ⟨_, s, rfl, rfl, g1, g2, g3⟩
end FIND
