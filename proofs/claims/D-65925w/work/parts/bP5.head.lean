/-! Layer B: the flat model: its head, both sides reset, the root is there -/
set_option maxRecDepth 100000
def kRs : List Nat → CM → CM
  | [], M => M
  | f :: L, M => kRs L (msI M f 1 0)
abbrev rsL : List Nat := [31, 32, 15, 16, 17, 18, 35, 37, 39, 41]
/-- what follows the root's making, the component's side, stage by stage -/
def kS9 (M : CM) : Option ((Unit ⊕ Nat) × CM) :=
  obS (K_X0_workStarts M) (fun w162 M158 => some (.inr w162, M158)) fun _ M158 =>
  some (.inl (), M158)
def kS8 (M : CM) : Option ((Unit ⊕ Nat) × CM) :=
  obS (KL_X0_flatten_298 FU 0 M) (fun r164 M156 => some (r164, M156)) fun _ M156 => kS9 M156
def kS7 (M : CM) : Option ((Unit ⊕ Nat) × CM) :=
  obS (K_X0_lookAtDiscretes M) (fun w135 M131 => some (.inr w135, M131)) fun _ M131 => kS8 M131
def kS6 (M : CM) : Option ((Unit ⊕ Nat) × CM) :=
  obS (K_X0_numberRelations M) (fun w130 M126 => some (.inr w130, M126)) fun _ M126 => kS7 M126
def kS5 (M : CM) : Option ((Unit ⊕ Nat) × CM) :=
  obS (K_X0_connections M) (fun w125 M121 => some (.inr w125, M121)) fun _ M121 => kS6 M121
def kS4 (M : CM) : Option ((Unit ⊕ Nat) × CM) :=
  ob (K_J2_get 99 0 M) fun r112 M111 =>
  if r112 = 0 ∨ mk M111 r112 = 14 then
  obS (K_X0_all r112 M111) (fun w120 M116 => some (.inr w120, M116)) fun _ M116 => kS5 M116
  else none
def kS3 (M : CM) : Option ((Unit ⊕ Nat) × CM) :=
  obS (KL_X0_flatten_193 FU 0 M) (fun r166 M109 => some (r166, M109)) fun _ M109 => kS4 M109
def kS2 (M : CM) : Option ((Unit ⊕ Nat) × CM) :=
  obS (K_X0_workParameters M) (fun w76 M72 => some (.inr w76, M72)) fun _ M72 => kS3 M72
def kF2 (M : CM) : Option ((Unit ⊕ Nat) × CM) :=
  obS (KL_X0_flatten_128 FU 0 M) (fun r168 M70 => some (r168, M70)) fun _ M70 => kS2 M70
def kF1 (x1 r33 : Nat) (M32 : CM) : Option ((Unit ⊕ Nat) × CM) :=
  obS (K_X0_elements r33 x1 0 0 1 M32) (fun w41 M37 => some (.inr w41, M37)) fun _ M37 =>
  obS (K_X0_findOuters M37) (fun w46 M42 => some (.inr w46, M42)) fun _ M42 => kF2 M42
abbrev tfS : List Nat := [74, 75, 76, 77, 78, 79, 82, 88, 89, 93, 107, 113, 114, 117, 126, 127, 129, 132, 133, 137, 138, 140, 143, 148, 152, 154, 161]
def tSI : List (Nat × Int32) → TS → TS
  | [], s => s
  | p :: L, s => tSI L (tsI s p.1 p.2)
def tSA : List (Nat × Int32) → TS → TS
  | [], s => s
  | p :: L, s => tSA L (tsA s p.1 0 p.2)
abbrev tLI : List (Nat × Int32) := [(82, 1), (89, 0), (93, 0), (107, 0), (114, 0), (113, 0), (117, 0), (137, 0), (140, 0), (126, 1), (132, 0), (161, 0), (133, 0), (127, 0), (129, 1), (138, 0), (143, 0), (148, 0), (152, 0), (154, 0)]
abbrev tLA (x1 : Int32) : List (Nat × Int32) := [(75, -1), (76, -1), (77, 0), (74, x1), (78, 0), (79, 0), (88, -1)]
def tF0 (x1 : Int32) (σ : TS) : TS := tSA (tLA x1) (tSI tLI σ)
def tF1 (x1 : Int32) (σ : TS) : Option (Unit × TS) := ob (F_fill 0 x1 1 σ) fun _ s35 => ob (L_makeFlat_158 FU 0 s35) fun _ s55 => J_makeFlat_202 s55
/-- what stands besides while instances are made -/
def HdF (k : Nat) (M : CM) (σ : TS) : Prop := (mI M 32 1 = 0 ∧ mI M 24 1 = 0 ∧ mI M 35 1 = 0 ∧ mI M 37 1 = 0 ∧ mI M 39 1 = 0 ∧ mI M 41 1 = 0) ∧ mR M 27 1 = 105 ∧ (mI M 604 105 = 0 ∧ mI M 605 105 = 0) ∧ (∀ j, j < 400 → mA M 115 j = nI j) ∧ mI M 4202 109 = nI 0 ∧ (∀ k, k ∈ [117, 127, 133, 137, 138, 140, 143, 148, 152, 154, 161, 171] → tI σ k = 0) ∧ (tI σ 126 = 1 ∧ tI σ 129 = 1) ∧ mI M 43 1 = tI σ 156 ∧ tA σ 74 0 = nI k
section HEAD
variable {C : PC} {D D' : FQ} {M M' M1 M2 : CM} {σ σ' s : TS} {mss fss : List Nat} {B V I Bm k g o : Nat} {P : Nat → Prop} {x1 : Int32} {T : Nat → Prop} {S : List Nat}
theorem tSI_i : ∀ (L : List (Nat × Int32)) (s : TS) (k : Nat), tI (tSI L s) k = L.foldl (fun a p => if k = p.1 then p.2 else a) (tI s k)
  | [], _, _ => rfl
  | p :: L, s, k => by
    rw [show tSI (p :: L) s = tSI L (tsI s p.1 p.2) from rfl, tSI_i L, tI_tsI]
    rfl
theorem tSI_f : ∀ (L : List (Nat × Int32)) (s : TS), L.all (fun p => S.contains p.1) = true → Ft S s (tSI L s)
  | [], s, _ => Ft.rf _ s
  | p :: L, s, h => by
    rw [List.all_cons, Bool.and_eq_true] at h
    exact ((Ft.rf S s).p_tsI h.1).tr (tSI_f L _ h.2)
theorem tSA_f : ∀ (L : List (Nat × Int32)) (s : TS), L.all (fun p => S.contains p.1) = true → Ft S s (tSA L s)
  | [], s, _ => Ft.rf _ s
  | p :: L, s, h => by
    rw [List.all_cons, Bool.and_eq_true] at h
    exact ((Ft.rf S s).p_tsA h.1).tr (tSA_f L _ h.2)
theorem tSA_i : ∀ (L : List (Nat × Int32)) (s : TS) (k : Nat), tI (tSA L s) k = tI s k
  | [], _, _ => rfl
  | p :: L, s, k => (tSA_i L _ k).trans rfl
theorem tSA_a : ∀ (L : List (Nat × Int32)) (s : TS) (k : Nat), tA (tSA L s) k 0 = L.foldl (fun a p => if k = p.1 then p.2 else a) (tA s k 0)
  | [], _, _ => rfl
  | p :: L, s, k => by
    rw [show tSA (p :: L) s = tSA L (tsA s p.1 0 p.2) from rfl, tSA_a L, tA_tsA]
    by_cases q : k = p.1
    · rw [ifT ⟨q, rfl⟩, List.foldl_cons, ifT q]
    · rw [ifF (fun z => q z.1), List.foldl_cons, ifF q]
theorem tF0_f : Ft tfS σ (tF0 x1 σ) := (tSI_f tLI σ (by decide)).tr (tSA_f (tLA x1) _ rfl)
theorem tF0_i (k : Nat) : tI (tF0 x1 σ) k = tLI.foldl (fun a p => if k = p.1 then p.2 else a) (tI σ k) := (tSA_i _ _ k).trans (tSI_i _ _ k)
theorem tF0_a (k : Nat) : tA (tF0 x1 σ) k 0 = (tLA x1).foldl (fun a p => if k = p.1 then p.2 else a) (tA (tSI tLI σ) k 0) := tSA_a _ _ k
theorem kRs_i : ∀ (L : List Nat) (M : CM), mI (kRs L M) g o = if o = 1 ∧ L.contains g = true then 0 else mI M g o := by
  intro L
  induction L with
  | nil => intro M; rw [ifF (fun z => by have := z.2; cases this)]; rfl
  | cons f L ih =>
    intro M
    rw [show kRs (f :: L) M = kRs L (msI M f 1 0) from rfl, ih]
    by_cases a : o = 1 ∧ L.contains g = true
    · rw [ifT a, ifT ⟨a.1, by rw [List.contains_cons, a.2, Bool.or_true]⟩]
    · rw [ifF a, mI_msI]
      by_cases b : g = f ∧ o = 1
      · rw [ifT b, ifT ⟨b.2, by rw [List.contains_cons, b.1]; simp⟩]
      · rw [ifF b, ifF (fun z => by
          have z2 := z.2
          rw [List.contains_cons, Bool.or_eq_true] at z2
          rcases z2 with z2 | z2
          · exact b ⟨by simpa using z2, z.1⟩
          · exact a ⟨z.1, z2⟩)]
theorem kRs_o : ∀ (L : List Nat) (M : CM), (∀ g o, mR (kRs L M) g o = mR M g o) ∧ (∀ o, ml (kRs L M) o = ml M o) ∧ mn (kRs L M) = mn M ∧ ms (kRs L M) = ms M := by
  intro L
  induction L with
  | nil => intro M; exact ⟨fun _ _ => rfl, fun _ => rfl, rfl, rfl⟩
  | cons f L ih =>
    intro M
    obtain ⟨a, b, c, d⟩ := ih (msI M f 1 0)
    exact ⟨fun g o => a g o, fun o => b o, c, d⟩
theorem kRs_f : ∀ (L : List Nat) (M0 M : CM), Fz (fun o => o = 1) M0 M → Fz (fun o => o = 1) M0 (kRs L M) := by
  intro L
  induction L with
  | nil => intro M0 M h; exact h
  | cons f L ih => intro M0 M h; exact ih M0 _ (h.msI (fun _ => rfl))
/-- faces stand alone -/
theorem k_86 (x : Nat) : ∀ (d i kf : Nat) (M : CM), i + d = 400 → d < kf → ∃ M', KL_X0_flatten_86 kf x (nI i) M = some ((), M') ∧ Fz (fun o => o = 115) M M' ∧ (mn M' = mn M ∧ ms M' = ms M) ∧ (∀ g o, mR M' g o = mR M g o ∧ mI M' g o = mI M g o) ∧ (∀ o, ml M' o = ml M o) ∧ (∀ j, j < i → mA M' 115 j = mA M 115 j) ∧ ∀ j, i ≤ j → j < 400 → mA M' 115 j = nI j := by
  intro d
  induction d with
  | zero =>
    intro i kf M hi hk
    obtain ⟨kf, rfl⟩ : ∃ g, kf = g + 1 := ⟨kf - 1, by omega⟩
    have e : i = 400 := by omega
    refine ⟨M, ?_, Fz.rf, ⟨rfl, rfl⟩, fun _ _ => ⟨rfl, rfl⟩, fun _ => rfl, fun _ _ => rfl, fun j h1 h2 => by omega⟩
    unfold KL_X0_flatten_86
    rw [e, ifT (show (400 : Int32) ≤ nI 400 by decide)]
  | succ d ih =>
    intro i kf M hi hk
    obtain ⟨kf, rfl⟩ : ∃ g, kf = g + 1 := ⟨kf - 1, by omega⟩
    have nx : nI i + 1 = nI (i + 1) := nI_addL i 1
    have le : ¬ (400 : Int32) ≤ nI i := fun z => by
      rw [show (400 : Int32) = nI 400 from rfl, bI_le (by omega) (by omega)] at z; omega
    obtain ⟨M', a1, a2, a3, a4, a5, a6, a7⟩ := ih (i + 1) kf (mwA M 115 i (nI i)) (by omega) (by omega)
    have F1 : Fz (fun o => o = 115) M (mwA M 115 i (nI i)) := Fz.rf.mwA (fun _ => rfl)
    refine ⟨M', ?_, F1.tr a2, a3, fun g o => a4 g o, fun o => a5 o, fun j hj => ?_, fun j h1 h2 => ?_⟩
    · unfold KL_X0_flatten_86
      rw [ifF le, ifT (inb_nI' (by omega) (by decide)), ix_nI (by omega), nm_eq, nm_eq, nx]
      exact a1
    · rw [a6 j (by omega)]
      exact if_neg (fun z => by have := z.2; omega)
    · by_cases e : j = i
      · rw [a6 j (by omega), e]
        exact if_pos ⟨rfl, rfl⟩
      · exact a7 j (by omega) h2
theorem t_204 : ∀ (d i tf : Nat) (s : TS), i + d = 400 → d < tf → ∃ s', L_makeFlat_204 tf (nI i) s = some ((), s') ∧ Ft [155] s s' ∧ (∀ j, j < i → tA s' 155 j = tA s 155 j) ∧ ∀ j, i ≤ j → j < 400 → tA s' 155 j = nI j := by
  intro d
  induction d with
  | zero =>
    intro i tf s hi hk
    obtain ⟨tf, rfl⟩ : ∃ g, tf = g + 1 := ⟨tf - 1, by omega⟩
    have e : i = 400 := by omega
    refine ⟨s, ?_, Ft.rf _ s, fun _ _ => rfl, fun j h1 h2 => by omega⟩
    unfold L_makeFlat_204
    rw [e, ifT (show (400 : Int32) ≤ nI 400 by decide)]
  | succ d ih =>
    intro i tf s hi hk
    obtain ⟨tf, rfl⟩ : ∃ g, tf = g + 1 := ⟨tf - 1, by omega⟩
    have nx : nI i + 1 = nI (i + 1) := nI_addL i 1
    have le : ¬ (400 : Int32) ≤ nI i := fun z => by
      rw [show (400 : Int32) = nI 400 from rfl, bI_le (by omega) (by omega)] at z; omega
    obtain ⟨s', a1, a2, a6, a7⟩ := ih (i + 1) tf (tsA s 155 i (nI i)) (by omega) (by omega)
    refine ⟨s', ?_, ((Ft.rf _ s).p_tsA rfl).tr a2, fun j hj => ?_, fun j h1 h2 => ?_⟩
    · unfold L_makeFlat_204
      rw [ifF le, ifT (inb_nI' (by omega) (by decide)), ix_nI (by omega), nm_eq, nm_eq, nx]
      exact a1
    · rw [a6 j (by omega), tA_tsA, ifF (fun z => by have := z.2; omega)]
    · by_cases e : j = i
      · rw [a6 j (by omega), e, tA_tsA, ifT ⟨rfl, rfl⟩]
      · exact a7 j (by omega) h2
theorem t_226 (hV : V ≤ 96) : ∀ (d i tf : Nat) (s : TS), i + d = V → tI s 107 = nI V → d < tf → ∃ s', L_makeFlat_226 tf (nI i) s = some ((), s') ∧ Ft [104, 158, 159, 160] s s' ∧ (∀ k, k ∈ [104, 158, 159, 160] → (∀ j, j < i → tA s' k j = tA s k j) ∧ ∀ j, i ≤ j → j < V → tA s' k j = 0) := by
  intro d
  induction d with
  | zero =>
    intro i tf s hi h7 hk
    obtain ⟨tf, rfl⟩ : ∃ g, tf = g + 1 := ⟨tf - 1, by omega⟩
    refine ⟨s, ?_, Ft.rf _ s, fun _ _ => ⟨fun _ _ => rfl, fun j h1 h2 => by omega⟩⟩
    unfold L_makeFlat_226
    rw [h7, ifT ((bI_le (by omega) (by omega)).mpr (by omega))]
  | succ d ih =>
    intro i tf s hi h7 hk
    obtain ⟨tf, rfl⟩ : ∃ g, tf = g + 1 := ⟨tf - 1, by omega⟩
    have nx : nI i + 1 = nI (i + 1) := nI_addL i 1
    have le : ¬ nI V ≤ nI i := fun z => by
      rw [bI_le (by omega) (by omega)] at z; omega
    have i9 : inb (nI i) 96 := inb_nI' (by omega) (by decide)
    have xi : ix (nI i) = i := ix_nI (by omega)
    obtain ⟨s1, hs1⟩ : ∃ q, q = tsA (tsA (tsA (tsA s 160 i 0) 104 i 0) 158 i 0) 159 i 0 := ⟨_, rfl⟩
    have f1 : Ft [104, 158, 159, 160] s s1 := by rw [hs1]; exact ((((Ft.rf _ s).p_tsA rfl).p_tsA rfl).p_tsA rfl).p_tsA rfl
    have v1 : ∀ k, k ∈ [104, 158, 159, 160] → ∀ j, tA s1 k j = if j = i then 0 else tA s k j := fun k hk j => by
      rw [hs1]
      simp only [List.mem_cons, List.not_mem_nil, or_false] at hk
      by_cases q : j = i
      · rw [ifT q]
        rcases hk with rfl | rfl | rfl | rfl
        · rw [tA_tsA, ifF (by omega), tA_tsA, ifF (by omega), tA_tsA, ifT ⟨rfl, q⟩]
        · rw [tA_tsA, ifF (by omega), tA_tsA, ifT ⟨rfl, q⟩]
        · rw [tA_tsA, ifT ⟨rfl, q⟩]
        · rw [tA_tsA, ifF (by omega), tA_tsA, ifF (by omega), tA_tsA, ifF (by omega), tA_tsA, ifT ⟨rfl, q⟩]
      · rw [ifF q, tA_tsA, ifF (fun z => q z.2), tA_tsA, ifF (fun z => q z.2), tA_tsA, ifF (fun z => q z.2), tA_tsA, ifF (fun z => q z.2)]
    obtain ⟨s', a1, a2, a6⟩ := ih (i + 1) tf s1 (by omega) (by rw [(f1 107 rfl).1]; exact h7) (by omega)
    refine ⟨s', ?_, f1.tr a2, fun k hk => ⟨fun j hj => ?_, fun j h1 h2 => ?_⟩⟩
    · unfold L_makeFlat_226
      rw [h7, ifF le, ifT i9, xi, nm_eq, ifT i9, nm_eq, ifT i9, nm_eq, ifT i9, nm_eq, nm_eq, nx, ← hs1]
      exact a1
    · rw [(a6 k hk).1 j (by omega), v1 k hk, ifF (by omega)]
    · by_cases e : j = i
      · rw [(a6 k hk).1 j (by omega), v1 k hk, ifT e]
      · exact (a6 k hk).2 j (by omega) h2
end HEAD
