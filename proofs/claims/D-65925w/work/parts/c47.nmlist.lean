/-! Layer B: names as lists of letters -/
set_option maxRecDepth 100000
/-- L stands in T just before e -/
def Sfx (T : Nat → Int32) (e : Nat) (L : List Int32) : Prop := L.length ≤ e ∧ ∀ i, i < L.length → T (e - L.length + i) = L.getD i 0
/-- what is left before it, or a number below 0 -/
def SfR (T : Nat → Int32) (e : Nat) (L : List Int32) (r : Int32) : Prop := (Sfx T e L ∧ r = nI (e - L.length)) ∨ (¬ Sfx T e L ∧ r < 0)
abbrev LtC (c : Int32) : Prop := ∃ b, b < 128 ∧ c = nI b
/-- the letters of an index -/
def ixL (d : Nat) : List Int32 := if d = 0 then [] else [91, nI (48 + d), 93]
/-- what the twin may have written since -/
abbrev nmS : List Nat := [4, 5, 6, 7, 8, 9, 170, 171, 176, 246, 247]
section NMLIST
variable {C : PC} {P : Nat → Prop} {mss fss : List Nat} {D : FQ} {M : CM} {σ0 σ σ' s : TS} {B w d n k f g V I Bm v e b x m L0 : Nat} {z7 : Nat → Nat} {T : Nat → Int32} {c r r' : Int32} {A L L' S : List Int32} {dp : Nat → Nat}
theorem gI_l {i : Nat} (h : i < A.length) : (A ++ L).getD i 0 = A.getD i 0 := by
  rw [List.getD_eq_getElem?_getD, List.getD_eq_getElem?_getD, List.getElem?_append_left h]
theorem gI_r (A L : List Int32) (i : Nat) : (A ++ L).getD (A.length + i) 0 = L.getD i 0 := by
  rw [List.getD_eq_getElem?_getD, List.getD_eq_getElem?_getD, List.getElem?_append_right (Nat.le_add_right _ _), Nat.add_sub_cancel_left]
theorem Sfx_nil : Sfx T e [] := ⟨Nat.zero_le _, fun i hi => absurd hi (Nat.not_lt_zero _)⟩
theorem Sfx_app : Sfx T e (A ++ L) ↔ Sfx T e L ∧ Sfx T (e - L.length) A := by
  unfold Sfx
  rw [List.length_append]
  constructor
  · intro ⟨h1, h2⟩
    refine ⟨⟨by omega, fun i hi => ?_⟩, by omega, fun i hi => ?_⟩
    · rw [← gI_r A L i, ← h2 (A.length + i) (by omega)]; congr 1; omega
    · rw [← gI_l (L := L) hi, ← h2 i (by omega)]; congr 1; omega
  · intro ⟨⟨h1, h2⟩, h3, h4⟩
    refine ⟨by omega, fun i hi => ?_⟩
    by_cases q : i < A.length
    · rw [gI_l q, ← h4 i q]; congr 1; omega
    · obtain ⟨j, rfl⟩ : ∃ j, i = A.length + j := ⟨i - A.length, by omega⟩
      rw [gI_r, ← h2 j (by omega)]; congr 1; omega
theorem Sfx_one : Sfx T e [c] ↔ 1 ≤ e ∧ T (e - 1) = c := by
  constructor
  · intro ⟨h1, h2⟩; exact ⟨h1, h2 0 (by decide)⟩
  · intro ⟨h1, h2⟩
    refine ⟨h1, fun i hi => ?_⟩
    have : i = 0 := by have : i < 1 := hi; omega
    subst this; exact h2
theorem SfR.app (h1 : SfR T e L r) (h2 : Sfx T e L → SfR T (e - L.length) A r') (h3 : ¬ Sfx T e L → r < 0 → r' < 0) : SfR T e (A ++ L) r' := by
  rcases h1 with ⟨a, -⟩ | ⟨a, b⟩
  · rcases h2 a with ⟨c1, c2⟩ | ⟨c1, c2⟩
    · exact Or.inl ⟨Sfx_app.mpr ⟨a, c1⟩, by rw [c2, List.length_append]; congr 1; omega⟩
    · exact Or.inr ⟨fun z => c1 (Sfx_app.mp z).2, c2⟩
  · exact Or.inr ⟨fun z => a (Sfx_app.mp z).1, h3 a b⟩
theorem wls_get : ∀ (n : Nat), (∀ i, i < n → btx x i ≠ 0 ∧ btx x i < 128) → (wls n x).length = n ∧ (∀ i, i < n → (wls n x).getD i 0 = nI (btx x (n - 1 - i))) ∧ ∀ c, c ∈ wls n x → LtC c
  | 0, _ => ⟨rfl, fun i hi => absurd hi (Nat.not_lt_zero _), fun c hc => absurd hc List.not_mem_nil⟩
  | n + 1, h => by
    obtain ⟨a1, a2, a3⟩ := wls_get n (fun i hi => h i (by omega))
    have e : wls (n + 1) x = nI (btx x n) :: wls n x := by
      show (if btx x n = 0 then wls n x else _) = _
      rw [ifF (h n (by omega)).1]
    rw [e]
    refine ⟨by rw [List.length_cons, a1], fun i hi => ?_, fun c hc => ?_⟩
    · cases i with
      | zero => rfl
      | succ i =>
        show (wls n x).getD i 0 = _
        rw [a2 i (by omega)]; congr 2; omega
    · rcases List.mem_cons.mp hc with q | q
      · exact ⟨_, (h n (by omega)).2, q⟩
      · exact a3 c q
theorem sub_neg8 : ∀ n, n ≤ 8 → ∀ e, e < n → nI e - nI n < 0 := by decide +kernel
/-- a word just before e -/
theorem k_sb75 (H : KeysOK M) (W : WN M m L0) (hk : k < m) (d : WdX (mL M (mR M 201 4) k) x n) (hb : b + n ≤ 2000) : ∀ (dd i f : Nat), i + dd = n → dd < f → (∀ j, j < i → mA M 2 (b + j) = nI (btx x (n - 1 - j))) → (KL_X0_stepBefore_75 f (nI (38 + k)) (nI b) (nI i) M = some (.inl (), M) ∧ ∀ j, j < n → mA M 2 (b + j) = nI (btx x (n - 1 - j))) ∨ (KL_X0_stepBefore_75 f (nI (38 + k)) (nI b) (nI i) M = some (.inr (-1), M) ∧ ¬ ∀ j, j < n → mA M 2 (b + j) = nI (btx x (n - 1 - j))) := by
  have l := k_length H W hk
  rw [d.1.2, d.2.2.2.2.2] at l
  have n8 := d.2.2.1.2
  have nb : ¬ nI b < 0 := n_neg (by omega)
  intro dd
  induction dd with
  | zero =>
    intro i f hi hf g
    obtain ⟨f, rfl⟩ : ∃ g, f = g + 1 := ⟨f - 1, by omega⟩
    obtain rfl : i = n := by omega
    exact Or.inl ⟨by rw [KL_X0_stepBefore_75, ifF nb, l, ob_some, ifT ((bI_le (by omega) (by omega)).mpr (Nat.le_refl _))], g⟩
  | succ dd ih =>
    intro i f hi hf g
    obtain ⟨f, rfl⟩ : ∃ g, f = g + 1 := ⟨f - 1, by omega⟩
    have le : ¬ nI n ≤ nI i := fun z => by have := (bI_le (by omega) (by omega)).mp z; omega
    have hd : KL_X0_stepBefore_75 (f + 1) (nI (38 + k)) (nI b) (nI i) M = if mA M 2 (b + i) = nI (btx x (n - 1 - i)) then KL_X0_stepBefore_75 f (nI (38 + k)) (nI b) (nI (i + 1)) M else some (.inr (-1), M) := by
      rw [KL_X0_stepBefore_75, ifF nb, l, ob_some, ifF le, bI_add, ifT (inb_nI' (by omega) (by decide)), k_letterN H W hk d (by omega), ob_some, ix_nI (by omega), nm_eq, nI_addL]
    by_cases q : mA M 2 (b + i) = nI (btx x (n - 1 - i))
    · rw [hd, ifT q]
      exact ih (i + 1) f (by omega) (by omega) (fun j hj => by
        by_cases z : j = i
        · rw [z]; exact q
        · exact g j (by omega))
    · rw [hd, ifF q]
      exact Or.inr ⟨rfl, fun z => q (z i (by omega))⟩
theorem k_stepB (H : KeysOK M) (W : WN M m L0) (hk : k < m) (d : WdX (mL M (mR M 201 4) k) x n) (he : e ≤ 2000) : ∃ r, KJ_X0_stepBefore_59 (nI (38 + k)) (nI e) M = some (r, M) ∧ SfR (mA M 2) e (wls n x) r := by
  have l := k_length H W hk
  have fu := FUb
  rw [d.1.2, d.2.2.2.2.2] at l
  have n8 := d.2.2.1.2
  obtain ⟨l1, l2, -⟩ := wls_get n d.2.2.2.2.1
  unfold KJ_X0_stepBefore_59
  rw [l, ob_some, nm_eq]
  by_cases q : n ≤ e
  · rw [nI_sub q]
    have sf : (∀ j, j < n → mA M 2 (e - n + j) = nI (btx x (n - 1 - j))) ↔ Sfx (mA M 2) e (wls n x) := by
      unfold Sfx
      rw [l1]
      exact ⟨fun h => ⟨q, fun i hi => (h i hi).trans (l2 i hi).symm⟩, fun h i hi => (h.2 i hi).trans (l2 i hi)⟩
    rcases k_sb75 H W hk d (b := e - n) (by omega) n 0 FU (by omega) (by omega) (fun j hj => absurd hj (Nat.not_lt_zero _)) with ⟨a1, a2⟩ | ⟨a1, a2⟩
    · rw [show (0 : Int32) = nI 0 from rfl, a1, obS_inl]
      exact ⟨_, rfl, Or.inl ⟨sf.mp a2, by rw [l1]⟩⟩
    · rw [show (0 : Int32) = nI 0 from rfl, a1, obS_inr]
      exact ⟨_, rfl, Or.inr ⟨fun z => a2 (sf.mpr z), by decide⟩⟩
  · have ng : nI e - nI n < 0 := sub_neg8 n n8 e (by omega)
    obtain ⟨g, hg⟩ : ∃ g, FU = g + 1 := ⟨FU - 1, by omega⟩
    rw [hg, KL_X0_stepBefore_75, ifT ng, obS_inl]
    exact ⟨_, rfl, Or.inr ⟨fun z => by have := z.1; rw [l1] at this; omega, ng⟩⟩
theorem neg3 : ∀ e, e < 3 → nI e + (-3) < 0 := by decide
theorem i48 : ∀ d, d ≤ 9 → (48 : Int32) + nI d = nI (48 + d) := by decide
theorem tpL_app : ∀ (L : List Int32) (σ : TS), tpL (L ++ L') σ = ob (tpL L σ) fun _ s => tpL L' s
  | [], _ => rfl
  | c :: L, σ => by
    show (ob (F_letter c σ) fun _ s1 => tpL (L ++ L') s1) = ob (ob (F_letter c σ) fun _ s1 => tpL L s1) fun _ s => tpL L' s
    rw [ob_assoc]
    exact ob_cg (fun a s _ => tpL_app L s)
theorem t_pnum (hn : n < 2147483648) (k1 : n < 10 ^ (k + 1)) (k2 : k = 0 ∨ 10 ^ k ≤ n) (k9 : k ≤ 9) (σ : TS) : F_printNumber (nI n) σ = tpL (dgl k n) σ := by
  have fu := FUb
  have nn : (0 : Int32) ≤ nI n := (bI_le (a := 0) (by decide) hn).mpr (Nat.zero_le _)
  unfold F_printNumber J_printNumber_10 J_printNumber_22
  rw [ifT nn, ifT nn, show (nI n).toInt64 = n64 n from by
    apply Int64.toInt_inj.mp
    rw [Int32.toInt_toInt64, bI_toInt hn, n64_toInt (by omega)], show (1 : Int64) = n64 (10 ^ 0) from rfl, t_num26 hn k1 k2 k9 k 0 FU σ (by omega) (by omega), ob_some, t_num48 hn k FU σ k9 (by omega), ob_idu]
/-- a step: its length; whether it stands just before e; what the twin tells -/
theorem step_nm (W : FW C B P mss fss D M s) (hw : 38 ≤ w ∧ w < 38 + cm C) (hd : d ≤ 9) : ∃ L, L.length ≤ 11 ∧ (∀ c, c ∈ L → LtC c) ∧ K_X0_stepLength (nI w) (nI d) M = some (nI L.length, M) ∧ (∀ e, e ≤ 2000 → ∃ r, K_X0_stepBefore (nI w) (nI d) (nI e) M = some (r, M) ∧ SfR (mA M 2) e L r) ∧ ∀ σ, (ob (F_printName (wc M w) σ) fun _ s => F_printIndex (nI d) s) = tpL L σ := by
  obtain ⟨Lx, WN0⟩ := W.1.1.2.1
  have H0 : KeysOK M := W.1.1.1
  obtain ⟨k, rfl⟩ : ∃ k, w = 38 + k := ⟨w - 38, by omega⟩
  have ew : wc M (38 + k) = mL M (mR M 201 4) k := by unfold wc; rw [ifF (by omega), Nat.add_sub_cancel_left]
  obtain ⟨x, n, dd⟩ := nm_wd (WN0.2.2.2.2.2.2.2.2.1 k (by omega))
  have hk : k < cm C := by omega
  have l := k_length H0 WN0 hk
  rw [dd.1.2, dd.2.2.2.2.2] at l
  have n8 := dd.2.2.1.2
  obtain ⟨l1, l2, l3⟩ := wls_get n dd.2.2.2.2.1
  have fu := FUb
  by_cases q : d = 0
  · subst q
    refine ⟨wls n x, by omega, l3, ?_, fun e he => ?_, fun σ => ?_⟩
    · unfold K_X0_stepLength
      rw [l, ob_some, ifT (show nI 0 ≤ 0 by decide), l1, show nI n + 0 = nI n from by rw [Int32.add_zero]]
    · obtain ⟨r, r1, r2⟩ := k_stepB H0 WN0 hk dd he
      unfold K_X0_stepBefore
      rw [ifT (show nI 0 ≤ 0 by decide)]
      exact ⟨r, r1, r2⟩
    · rw [ew, t_wordN dd]
      unfold F_printIndex
      rw [ob_cg (fun a s _ => by rw [ifT (show nI 0 = 0 by decide)]), ob_idu]
  · have nd : ¬ nI d ≤ 0 := fun z => by have := (bI_le (b := 0) (by omega) (by decide)).mp z; omega
    have nd0 : ¬ nI d = 0 := fun z => by have := (bI_eq (b := 0) (by omega) (by decide)).mp z; omega
    have hl : (wls n x ++ [91, nI (48 + d), 93]).length = n + 3 := by rw [List.length_append, l1]; rfl
    refine ⟨wls n x ++ [91, nI (48 + d), 93], by omega, fun c hc => ?_, ?_, fun e he => ?_, fun σ => ?_⟩
    · rcases List.mem_append.mp hc with h | h
      · exact l3 c h
      · simp only [List.mem_cons, List.not_mem_nil, or_false] at h
        rcases h with h | h | h
        · exact ⟨91, by decide, h⟩
        · exact ⟨48 + d, by omega, h⟩
        · exact ⟨93, by decide, h⟩
    · unfold K_X0_stepLength
      rw [l, ob_some, ifF nd, hl, nI_addL]
    · unfold K_X0_stepBefore
      rw [ifF nd, nm_eq]
      have s3 : Sfx (mA M 2) e [91, nI (48 + d), 93] ↔ 3 ≤ e ∧ mA M 2 (e - 3) = 91 ∧ mA M 2 (e - 3 + 1) = nI (48 + d) ∧ mA M 2 (e - 3 + 2) = 93 := by
        constructor
        · intro ⟨h1, h2⟩
          exact ⟨h1, h2 0 (by decide), h2 1 (by decide), h2 2 (by decide)⟩
        · intro ⟨h1, h2, h3, h4⟩
          refine ⟨h1, fun i hi => ?_⟩
          have : i = 0 ∨ i = 1 ∨ i = 2 := by have : i < 3 := hi; omega
          rcases this with rfl | rfl | rfl
          · exact h2
          · exact h3
          · exact h4
      by_cases e3 : e < 3
      · rw [ifT (neg3 e e3)]
        exact ⟨_, rfl, Or.inr ⟨fun z => by have := z.1; omega, by decide⟩⟩
      · have ee : nI e + (-3) = nI (e - 3) := by
          rw [← nI_subL (a := e) 3 (by show 3 ≤ e; omega), Int32.sub_eq_add_neg]
        have nofx : ¬ (mA M 2 (e - 3) = 91 ∧ mA M 2 (e - 3 + 1) = nI (48 + d) ∧ mA M 2 (e - 3 + 2) = 93) → ∃ r, some ((-1 : Int32), M) = some (r, M) ∧ SfR (mA M 2) e (wls n x ++ [91, nI (48 + d), 93]) r := fun z => ⟨_, rfl, Or.inr ⟨fun y => z (s3.mp (Sfx_app.mp y).1).2, by decide⟩⟩
        rw [ee, ifF (n_neg (by omega)), ifT (inb_nI' (by omega) (by decide)), ix_nI (by omega)]
        by_cases c1 : mA M 2 (e - 3) = 91
        · rw [ifT c1, nI_addL, ifT (inb_nI' (by show e - 3 + 1 < 2000; omega) (by decide)), ix_nI (by show e - 3 + 1 < _; omega), i48 d hd]
          by_cases c2 : mA M 2 (e - 3 + 1) = nI (48 + d)
          · rw [ifT c2, nI_addL, ifT (inb_nI' (by show e - 3 + 2 < 2000; omega) (by decide)), ix_nI (by show e - 3 + 2 < _; omega)]
            by_cases c3 : mA M 2 (e - 3 + 2) = 93
            · rw [ifT c3]
              obtain ⟨r, r1, r2⟩ := k_stepB H0 WN0 hk dd (e := e - 3) (by omega)
              refine ⟨r, r1, ?_⟩
              exact SfR.app (r := nI (e - 3)) (Or.inl ⟨s3.mpr ⟨by omega, c1, c2, c3⟩, rfl⟩) (fun _ => r2) (fun z => absurd (s3.mpr ⟨by omega, c1, c2, c3⟩) z)
            · rw [ifF c3]; exact nofx (fun z => c3 z.2.2)
          · rw [ifF c2]; exact nofx (fun z => c2 z.2.1)
        · rw [ifF c1]; exact nofx (fun z => c1 z.1)
    · rw [ew, t_wordN dd, tpL_app]
      refine ob_cg (fun a s _ => ?_)
      unfold F_printIndex
      rw [ifF nd0]
      show _ = ob (F_letter 91 s) fun _ s1 => ob (F_letter (nI (48 + d)) s1) fun _ s2 => ob (F_letter 93 s2) fun _ s3 => some ((), s3)
      refine ob_cg (fun a s _ => ?_)
      rw [t_pnum (k := 0) (by omega) (by show d < 10; omega) (Or.inl rfl) (by decide)]
      show (ob (tpL [nI (48 + d % 10)] s) fun _ s5 => _) = _
      rw [tpL_one, show d % 10 = d by omega]
end NMLIST
