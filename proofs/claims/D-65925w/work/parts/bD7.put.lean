/-! Layer B: the flat model: the twin's entries -/
set_option maxRecDepth 100000
/-- since σ0, with E there, the entries W have come behind -/
def PutS (σ0 : TS) (E : Nat) (W : List (Nat × Nat × Nat)) (σ : TS) : Prop := Ft [90, 91, 92, 93] σ0 σ ∧ tI σ 93 = nI (E + W.length) ∧ EsR σ E W ∧ ∀ j, j < E → tA σ 90 j = tA σ0 90 j ∧ tA σ 91 j = tA σ0 91 j ∧ tA σ 92 j = tA σ0 92 j
/-- the twin's list of n modifications from k0 on -/
def MlR (σ : TS) (k0 n : Nat) : Prop := (1 ≤ k0 ∧ k0 + n ≤ 2400) ∧ ∀ t, t < n → tA σ 61 (k0 + t) = (if t + 1 < n then nI (k0 + t + 1) else 0) ∧ (tA σ 62 (k0 + t) = 0 → ∃ q, 1 ≤ q ∧ q < 7000 ∧ tA σ 59 (k0 + t) = nI q) ∧ (tA σ 62 (k0 + t) = 0 ∨ tA σ 62 (k0 + t) = 1)
/-- where it goes on behind t of them -/
def ptr (k0 n t : Nat) : Int32 := if t < n then nI (k0 + t) else 0
/-- what an entry's numbers may be -/
def EnB (σ : TS) (a : Nat × Nat × Nat) : Prop := a.1 < 2400 ∧ a.2.2 < 200 ∧ (tA σ 62 a.1 = 0 → ∃ q, q < 7000 ∧ pth σ a.1 a.2.1 = nI q)
/-- the chain of extends: lists of modifications -/
def ChnR (σ : TS) (cb : Nat) (ks : List (Nat × Nat)) : Prop := tI σ 113 = nI cb ∧ tI σ 114 = nI (cb + ks.length) ∧ cb + ks.length ≤ 200 ∧ ∀ j, j < ks.length → tA σ 112 (cb + j) = ptr (ks.getD j (0, 0)).1 (ks.getD j (0, 0)).2 0 ∧ MlR σ (ks.getD j (0, 0)).1 (ks.getD j (0, 0)).2
def wcE (i : Nat) : List (Nat × Nat) → List (Nat × Nat × Nat)
  | [] => []
  | p :: ks => msE p.1 p.2 i ++ wcE i ks
section PUT
variable {σ σ' σ0 σ2 : TS} {B l k n o m u w E E' i k0 fr e cb : Nat} {S S' : List Nat} {a : Nat × Nat × Nat} {W W1 W2 : List (Nat × Nat × Nat)} {x : Int64} {x1 x2 x3 x4 x5 x6 x7 x8 x9 x10 : Int32} {cf : Int32 → Int32 → Int32 → TS → Option (Unit × TS)} {ks : List (Nat × Nat)}
theorem PutS.nil (h : tI σ 93 = nI E) : PutS σ E [] σ := ⟨Ft.rf _ _, h, fun j hj => absurd hj (Nat.not_lt_zero _), fun _ _ => ⟨rfl, rfl, rfl⟩⟩
theorem PutS.snoc {y : Int32} (h : PutS σ0 E W σ) (hy : y = if tA σ0 62 a.1 = 0 then pth σ0 a.1 a.2.1 else -1) : PutS σ0 E (W ++ [a]) (putT σ (E + W.length) (nI a.1) y (nI a.2.2)) := by
  obtain ⟨h1, h2, h3, h4⟩ := h
  have f := putT_f (σ := σ) (E := E + W.length) (x := nI a.1) (y := y) (z := nI a.2.2)
  have f0 : Ft [90, 91, 92, 93] σ0 (putT σ (E + W.length) (nI a.1) y (nI a.2.2)) := h1.tr f
  obtain ⟨v1, v2, v3⟩ := putT_v (σ := σ) (E := E + W.length) (x := nI a.1) (y := y) (z := nI a.2.2)
  refine ⟨f0, ?_, EsR.app (h3.mv (f.fi (by decide)) (fun j _ hj => putT_o (by omega))) (fun j hj => ?_), fun j hj => ?_⟩
  · rw [List.length_append]
    show nI (E + W.length + 1) = nI (E + (W.length + 1))
    rw [Nat.add_assoc]
  · have hj0 : j = 0 := by have : j < 1 := hj; omega
    subst hj0
    show EvR (putT σ (E + W.length) (nI a.1) y (nI a.2.2)) (E + W.length) a
    refine ⟨v1, v3, ?_⟩
    rw [v2, (f0 62 rfl).2.2.1, pth_ft f0 rfl rfl]; exact hy
  · obtain ⟨o1, o2, o3⟩ := putT_o (σ := σ) (E := E + W.length) (x := nI a.1) (y := y) (z := nI a.2.2) (j := j) (by omega)
    rw [o1, o2, o3]; exact h4 j hj
theorem msE_succ : msE k0 (n + 1) i = (k0, 0, i) :: msE (k0 + 1) n i := by
  unfold msE
  rw [List.range_succ_eq_map, List.map_cons, List.map_map]
  refine congrArg (List.cons (k0, 0, i)) (List.map_congr_left fun j _ => ?_)
  show (k0 + (j + 1), 0, i) = (k0 + 1 + j, 0, i)
  rw [show k0 + (j + 1) = k0 + 1 + j by omega]
theorem adv_ft (f : Ft S σ σ') (h : S.all fiS.contains = true) (W : List (Nat × Nat × Nat)) : adv σ' x W = adv σ x W := by
  have f2 := f.mono (S' := fiS) h
  induction W with
  | nil => rfl
  | cons a W ih =>
    have e : ldB σ' x a = ldB σ x a := by
      unfold ldB
      rw [(f2 62 rfl).2.2.1, (f2 63 rfl).2.2.2, pth_ft f2 rfl rfl, (f2 29 rfl).2.2.2]
    show (if ldB σ' x a = true ∧ tA σ' 62 a.1 = 0 then _ :: adv σ' x W else adv σ' x W) = (if ldB σ x a = true ∧ tA σ 62 a.1 = 0 then _ :: adv σ x W else adv σ x W)
    rw [e, (f2 62 rfl).2.2.1, ih]
/-- entries of an instance that lead to a name -/
theorem t_inherit : ∀ (W : List (Nat × Nat × Nat)) (j f : Nat) (σ : TS) (W2 : List (Nat × Nat × Nat)), fr + j + W.length = fr + n → W.length < f → EsR σ0 (fr + j) W → (∀ a, a ∈ W → EnB σ0 a) → PutS σ0 E W2 σ → fr + n ≤ E → E + W2.length + W.length ≤ 40000 → ∃ σ', L_inherit_3 f (nI fr) (nI n) x (nI (fr + j)) σ = some ((), σ') ∧ PutS σ0 E (W2 ++ adv σ0 x W) σ'
  | [], j, f, σ, W2, hj, hf, hE, hB, hP, h1, h2 => by
    obtain ⟨f, rfl⟩ : ∃ g, f = g + 1 := ⟨f - 1, by omega⟩
    have hj : fr + j = fr + n := hj
    refine ⟨σ, ?_, by show PutS σ0 E (W2 ++ []) σ; rw [List.append_nil]; exact hP⟩
    rw [L_inherit_3, bI_add, ifT ((bI_le (by omega) (by omega)).mpr (by omega))]
  | a :: W, j, f, σ, W2, hj, hf, hE, hB, hP, h1, h2 => by
    obtain ⟨f, rfl⟩ : ∃ g, f = g + 1 := ⟨f - 1, by omega⟩
    have hlen : (a :: W).length = W.length + 1 := rfl
    rw [hlen] at hj hf h2
    obtain ⟨e1, e2, e3⟩ : EvR σ0 (fr + j) a := by have := hE 0 (by rw [hlen]; omega); exact this
    obtain ⟨b1, b2, b3⟩ := hB a List.mem_cons_self
    obtain ⟨p1, p2, p3, p4⟩ := hP
    obtain ⟨o1, o2, o3⟩ := p4 (fr + j) (by omega)
    have hin : inb (nI (fr + j)) 40000 := inb_nI' (by omega) (by decide)
    have hix : ix (nI (fr + j)) = fr + j := ix_nI (by omega)
    have hE' : EsR σ0 (fr + (j + 1)) W := fun c hc => by
      have := hE (c + 1) (by rw [hlen]; omega)
      rw [show fr + j + (c + 1) = fr + (j + 1) + c by omega] at this
      exact this
    have next : ∀ (σ1 : TS) (W3 : List (Nat × Nat × Nat)), PutS σ0 E W3 σ1 → W3.length ≤ W2.length + 1 → ∃ σ', L_inherit_3 f (nI fr) (nI n) x (nI (fr + j + 1)) σ1 = some ((), σ') ∧ PutS σ0 E (W3 ++ adv σ0 x W) σ' := fun σ1 W3 h hl => t_inherit W (j + 1) f σ1 W3 (by omega) (by omega) hE' (fun a ha => hB a (List.mem_cons_of_mem _ ha)) h h1 (by omega)
    rw [L_inherit_3, bI_add, ifF (fun z => by have := (bI_le (by omega) (by omega)).mp z; omega), ifT hin, hix, o2, o1, o3, e1, e2, e3]
    by_cases r62 : tA σ0 62 a.1 = 0
    · obtain ⟨q, q1, q2⟩ := b3 r62
      rw [ifT r62, q2]
      by_cases q0 : q = 0
      · have nl : ¬ (ldB σ0 x a = true ∧ tA σ0 62 a.1 = 0) := fun z => by
          rcases ldB_iff.mp z.1 with ⟨y, _⟩ | ⟨_, y, _⟩
          · exact y r62
          · rw [q2, q0] at y; exact absurd y (by decide)
        rw [ifT (show nI q ≤ 0 from by rw [q0]; decide), nI_addL, nm_eq]
        rw [show adv σ0 x (a :: W) = adv σ0 x W from ifF nl]
        exact next σ W2 ⟨p1, p2, p3, p4⟩ (by omega)
      · have qin : inb (nI q) 7000 := inb_nI' q1 (by decide)
        have qix : ix (nI q) = q := ix_nI (by omega)
        rw [ifF (show ¬ nI q ≤ 0 from by rw [show (0 : Int32) = nI 0 from rfl, bI_le (by omega) (by decide)]; omega), ifT hin, ifT qin, qix, (p1 29 rfl).2.2.2]
        have qpos : (0 : Int32) < nI q := by rw [show (0 : Int32) = nI 0 from rfl, bI_lt (by decide) (by omega)]; omega
        by_cases hx : tB σ0 29 q = x
        · have yl : ldB σ0 x a = true ∧ tA σ0 62 a.1 = 0 := ⟨ldB_iff.mpr (Or.inr ⟨r62, by rw [q2]; exact qpos, by rw [q2, qix]; exact hx⟩), r62⟩
          rw [ifT (lg_eq.mpr hx), ifT hin, ifT hin, ifT qin, ifT hin, (p1 33 rfl).2.2.1, t_putE p2 (by omega), ob_some, nI_addL, nm_eq]
          rw [show adv σ0 x (a :: W) = (a.1, a.2.1 + 1, a.2.2) :: adv σ0 x W from ifT yl]
          have hs := PutS.snoc (a := (a.1, a.2.1 + 1, a.2.2)) (y := tA σ0 33 q) ⟨p1, p2, p3, p4⟩ (by
            rw [ifT r62]
            show tA σ0 33 q = tA σ0 33 (ix (pth σ0 a.1 a.2.1))
            rw [q2, qix])
          obtain ⟨σ', g1, g2⟩ := next _ _ hs (by rw [List.length_append]; exact Nat.le_refl _)
          exact ⟨σ', g1, by rw [List.append_assoc] at g2; exact g2⟩
        · have nl : ¬ (ldB σ0 x a = true ∧ tA σ0 62 a.1 = 0) := fun z => by
            rcases ldB_iff.mp z.1 with ⟨y, _⟩ | ⟨_, _, y⟩
            · exact y r62
            · rw [q2, qix] at y; exact hx y
          rw [ifF (fun z => hx (lg_eq.mp z)), nI_addL, nm_eq]
          rw [show adv σ0 x (a :: W) = adv σ0 x W from ifF nl]
          exact next σ W2 ⟨p1, p2, p3, p4⟩ (by omega)
    · have nl : ¬ (ldB σ0 x a = true ∧ tA σ0 62 a.1 = 0) := fun z => r62 z.2
      rw [ifF r62, ifT (show (-1 : Int32) ≤ 0 by decide), nI_addL, nm_eq]
      rw [show adv σ0 x (a :: W) = adv σ0 x W from ifF nl]
      exact next σ W2 ⟨p1, p2, p3, p4⟩ (by omega)
theorem MlR.ft (h : MlR σ k0 n) (f : Ft S σ σ') (hS : S.all fiS.contains = true) : MlR σ' k0 n := by
  have f2 := f.mono (S' := fiS) hS
  refine ⟨h.1, fun t ht => ?_⟩
  rw [(f2 61 rfl).2.2.1, (f2 62 rfl).2.2.1, (f2 59 rfl).2.2.1]
  exact h.2 t ht
theorem ptr_ne (h : k < n) (hk : 1 ≤ k0 ∧ k0 + n ≤ 2400) : ptr k0 n k = nI (k0 + k) ∧ ¬ ptr k0 n k = 0 ∧ inb (ptr k0 n k) 2500 ∧ ix (ptr k0 n k) = k0 + k := by
  have e : ptr k0 n k = nI (k0 + k) := ifT h
  rw [e]
  refine ⟨rfl, ?_, inb_nI' (by omega) (by decide), ix_nI (by omega)⟩
  rw [show (0 : Int32) = nI 0 from rfl, bI_eq (by omega) (by decide)]
  omega
theorem ptr_next (h : MlR σ k0 n) (hk : k < n) : tA σ 61 (k0 + k) = ptr k0 n (k + 1) := (h.2 k hk).1
/-- modifications of an extends that lead to an element -/
theorem t_chain1 (hM : MlR σ0 k0 n) (he : e < 481) (hx : tB σ0 50 e = x) (hi : i < 200) : ∀ (d t f : Nat) (σ : TS) (W2 : List (Nat × Nat × Nat)), t + d = n → d < f → PutS σ0 E W2 σ → E + W2.length + d ≤ 40000 → ∃ σ', L_makeMember_306 cf f (nI i) (nI e) x3 x4 x5 x6 x7 x8 x9 x10 (ptr k0 n t) σ = some ((), σ') ∧ PutS σ0 E (W2 ++ adv σ0 x (msE (k0 + t) d i)) σ' := by
  intro d
  induction d with
  | zero =>
    intro t f σ W2 hd hf hP h2
    obtain ⟨f, rfl⟩ : ∃ g, f = g + 1 := ⟨f - 1, by omega⟩
    refine ⟨σ, ?_, by show PutS σ0 E (W2 ++ []) σ; rw [List.append_nil]; exact hP⟩
    rw [L_makeMember_306, ifT (show ptr k0 n t = 0 from ifF (by omega))]
  | succ d ih =>
    intro t f σ W2 hd hf hP h2
    obtain ⟨f, rfl⟩ : ∃ g, f = g + 1 := ⟨f - 1, by omega⟩
    obtain ⟨p1, p2, p3, p4⟩ := hP
    obtain ⟨_, n0, hin, hix⟩ := ptr_ne (k := t) (n := n) (k0 := k0) (by omega) hM.1
    obtain ⟨m1, m2, _⟩ := hM.2 t (by omega)
    have m1' := ptr_next hM (k := t) (by omega)
    have ein : inb (nI e) 481 := inb_nI' he (by decide)
    have eix : ix (nI e) = e := ix_nI (by omega)
    have next : ∀ (σ1 : TS) (W3 : List (Nat × Nat × Nat)), PutS σ0 E W3 σ1 → W3.length ≤ W2.length + 1 → ∃ σ', L_makeMember_306 cf f (nI i) (nI e) x3 x4 x5 x6 x7 x8 x9 x10 (ptr k0 n (t + 1)) σ1 = some ((), σ') ∧ PutS σ0 E (W3 ++ adv σ0 x (msE (k0 + t + 1) d i)) σ' := fun σ1 W3 h hl => ih (t + 1) f σ1 W3 (by omega) (by omega) h (by omega)
    rw [L_makeMember_306, ifF n0, ifT hin, hix, (p1 62 rfl).2.2.1, (p1 59 rfl).2.2.1, (p1 61 rfl).2.2.1, m1', (p1 50 rfl).2.2.2, msE_succ]
    by_cases r62 : tA σ0 62 (k0 + t) = 0
    · obtain ⟨q, q0, q1, q2⟩ := m2 r62
      have qin : inb (nI q) 7000 := inb_nI' q1 (by decide)
      have qix : ix (nI q) = q := ix_nI (by omega)
      have qpos : (0 : Int32) < nI q := by rw [show (0 : Int32) = nI 0 from rfl, bI_lt (by decide) (by omega)]; omega
      rw [ifT r62, ifT hin, q2, ifT qin, ifT ein, qix, (p1 29 rfl).2.2.2, eix, hx]
      by_cases hq : tB σ0 29 q = x
      · have yl : ldB σ0 x (k0 + t, 0, i) = true ∧ tA σ0 62 (k0 + t, 0, i).1 = 0 := ⟨ldB_iff.mpr (Or.inr ⟨r62, by show 0 < tA σ0 59 (k0 + t); rw [q2]; exact qpos, by show tB σ0 29 (ix (tA σ0 59 (k0 + t))) = x; rw [q2, qix]; exact hq⟩), r62⟩
        rw [ifT (lg_eq.mpr hq), ifT hin, ifT qin, (p1 33 rfl).2.2.1, (ptr_ne (k := t) (n := n) (k0 := k0) (by omega) hM.1).1, t_putE p2 (by omega), ob_some]
        have hs := PutS.snoc (a := (k0 + t, 1, i)) (y := tA σ0 33 q) ⟨p1, p2, p3, p4⟩ (by
          rw [ifT r62]
          show tA σ0 33 q = tA σ0 33 (ix (tA σ0 59 (k0 + t)))
          rw [q2, qix])
        have hin2 : inb (nI (k0 + t)) 2500 := by rw [← (ptr_ne (k := t) (n := n) (k0 := k0) (by omega) hM.1).1]; exact hin
        obtain ⟨σ', g1, g2⟩ := next _ _ hs (by rw [List.length_append]; exact Nat.le_refl _)
        refine ⟨σ', ?_, ?_⟩
        · rw [ifT hin2, nm_eq]
          have e61 : tA (putT σ (E + W2.length) (nI (k0 + t)) (tA σ0 33 q) (nI i)) 61 (k0 + t) = ptr k0 n (t + 1) := by
            rw [(putT_f 61 rfl).2.2.1, (p1 61 rfl).2.2.1, m1']
          rw [e61]
          exact g1
        · rw [show adv σ0 x ((k0 + t, 0, i) :: msE (k0 + t + 1) d i) = (k0 + t, 1, i) :: adv σ0 x (msE (k0 + t + 1) d i) from ifT yl]
          rw [List.append_assoc] at g2; exact g2
      · have nl : ¬ (ldB σ0 x (k0 + t, 0, i) = true ∧ tA σ0 62 (k0 + t, 0, i).1 = 0) := fun z => by
          rcases ldB_iff.mp z.1 with ⟨y, _⟩ | ⟨_, _, y⟩
          · exact y r62
          · have y : tB σ0 29 (ix (tA σ0 59 (k0 + t))) = x := y
            rw [q2, qix] at y; exact hq y
        rw [ifF (fun z => hq (lg_eq.mp z)), ifT hin, nm_eq]
        rw [show adv σ0 x ((k0 + t, 0, i) :: msE (k0 + t + 1) d i) = adv σ0 x (msE (k0 + t + 1) d i) from ifF nl]
        exact next σ W2 ⟨p1, p2, p3, p4⟩ (by omega)
    · have nl : ¬ (ldB σ0 x (k0 + t, 0, i) = true ∧ tA σ0 62 (k0 + t, 0, i).1 = 0) := fun z => r62 z.2
      rw [ifF r62, ifT hin, nm_eq]
      rw [show adv σ0 x ((k0 + t, 0, i) :: msE (k0 + t + 1) d i) = adv σ0 x (msE (k0 + t + 1) d i) from ifF nl]
      exact next σ W2 ⟨p1, p2, p3, p4⟩ (by omega)
end PUT
