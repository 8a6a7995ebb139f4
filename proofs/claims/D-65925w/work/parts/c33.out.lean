/-! Layer B: printing: what is told, letter by letter, both sides -/
set_option maxRecDepth 100000
/-- a letter is one of 128 -/
abbrev LtO (c : Int32) : Prop := nB (nB c) &&& 255 = nB (nB c)
/-- what is told is the same -/
def OuR (M : CM) (σ : TS) : Prop := ∃ n, n ≤ 500 ∧ mI M 3 1 = nI n ∧ tI σ 9 = nI n ∧ ∀ i, i < n → (mA M 3 i = tA σ 6 i ∧ nB (tA σ 6 i) = tA σ 6 i) ∧ tA σ 6 i &&& 255 = tA σ 6 i
/-- the component writes nothing else -/
def OuK (M M' : CM) : Prop := (∀ g o, ¬ (g = 3 ∧ o = 1) → mI M' g o = mI M g o) ∧ (∀ g o, mR M' g o = mR M g o) ∧ (∀ a j, a ≠ 3 → mA M' a j = mA M a j) ∧ (∀ a j, mX M' a j = mX M a j) ∧ (∀ a j, mL M' a j = mL M a j) ∧ (∀ o, mk M' o = mk M o ∧ ml M' o = ml M o) ∧ (mn M' = mn M ∧ ms M' = ms M) ∧ Fz (fun o => o = 1 ∨ o = 3) M M'
/-- the twin: what was told stays, its stack stands as it stood -/
def OuT (σ σ' : TS) : Prop := Ft [6, 9, 170, 171] σ σ' ∧ (tI σ' 171 = tI σ 171 ∧ ∀ d j, d < 2147483648 → tI σ 171 = nI d → j < d → tA σ' 170 j = tA σ 170 j) ∧ ∀ n, tI σ 9 = nI n → n ≤ 500 → ∃ n', n ≤ n' ∧ n' ≤ 500 ∧ tI σ' 9 = nI n' ∧ ∀ i, i < n → tA σ' 6 i = tA σ 6 i
/-- both print alike -/
def PrJ (M : CM) (σ : TS) (kr : Option (Unit × CM)) (tq : Option (Unit × TS)) : Prop := ∃ M' σ', kr = some ((), M') ∧ tq = some ((), σ') ∧ OuR M' σ' ∧ OuK M M' ∧ OuT σ σ'
/-- letters, one by one -/
def kpL : List Int32 → CM → Option (Unit × CM)
  | [], M => some ((), M)
  | c :: L, M => ob (K_X0_put c M) fun _ M1 => kpL L M1
def tpL : List Int32 → TS → Option (Unit × TS)
  | [], σ => some ((), σ)
  | c :: L, σ => ob (F_letter c σ) fun _ s1 => tpL L s1
section OUT
variable {M M' M1 M2 : CM} {σ σ' σ1 σ2 : TS} {c : Int32} {L L' : List Int32} {kr : Option (Unit × CM)} {tq : Option (Unit × TS)} {kf : CM → Option (Unit × CM)} {tf : TS → Option (Unit × TS)} {n k f g : Nat}
theorem OuK.rf : OuK M M := ⟨fun _ _ _ => rfl, fun _ _ => rfl, fun _ _ _ => rfl, fun _ _ => rfl, fun _ _ => rfl, fun _ => ⟨rfl, rfl⟩, ⟨rfl, rfl⟩, Fz.rf⟩
theorem OuK.tr (h : OuK M M1) (k : OuK M1 M2) : OuK M M2 := ⟨fun g o z => (k.1 g o z).trans (h.1 g o z), fun g o => (k.2.1 g o).trans (h.2.1 g o), fun a j z => (k.2.2.1 a j z).trans (h.2.2.1 a j z), fun a j => (k.2.2.2.1 a j).trans (h.2.2.2.1 a j), fun a j => (k.2.2.2.2.1 a j).trans (h.2.2.2.2.1 a j), fun o => ⟨(k.2.2.2.2.2.1 o).1.trans (h.2.2.2.2.2.1 o).1, (k.2.2.2.2.2.1 o).2.trans (h.2.2.2.2.2.1 o).2⟩, ⟨k.2.2.2.2.2.2.1.1.trans h.2.2.2.2.2.2.1.1, k.2.2.2.2.2.2.1.2.trans h.2.2.2.2.2.2.1.2⟩, Fz.tr h.2.2.2.2.2.2.2 k.2.2.2.2.2.2.2⟩
theorem OuT.rf : OuT σ σ := ⟨Ft.rf _ _, ⟨rfl, fun _ _ _ _ _ => rfl⟩, fun n e h => ⟨n, Nat.le_refl _, h, e, fun _ _ => rfl⟩⟩
theorem OuT.tr (h : OuT σ σ1) (k : OuT σ1 σ2) : OuT σ σ2 := ⟨h.1.tr k.1, ⟨k.2.1.1.trans h.2.1.1, fun d j hd e hj => (k.2.1.2 d j hd (h.2.1.1.trans e) hj).trans (h.2.1.2 d j hd e hj)⟩, fun n e hn => by
  obtain ⟨n1, a1, a2, a3, a4⟩ := h.2.2 n e hn
  obtain ⟨n2, b1, b2, b3, b4⟩ := k.2.2 n1 a3 a2
  exact ⟨n2, by omega, b2, b3, fun i hi => (b4 i (by omega)).trans (a4 i hi)⟩⟩
theorem PrJ.mk (h : OuR M' σ') (k : OuK M M') (t : OuT σ σ') : PrJ M σ (some ((), M')) (some ((), σ')) := ⟨M', σ', rfl, rfl, h, k, t⟩
theorem PrJ.rf (h : OuR M σ) : PrJ M σ (some ((), M)) (some ((), σ)) := PrJ.mk h OuK.rf OuT.rf
theorem PrJ.seq (h : PrJ M σ kr tq) (g : ∀ M1 σ1, OuR M1 σ1 → OuK M M1 → OuT σ σ1 → PrJ M1 σ1 (kf M1) (tf σ1)) : PrJ M σ (ob kr fun _ M1 => kf M1) (ob tq fun _ s1 => tf s1) := by
  obtain ⟨M1, σ1, rfl, rfl, r, k, t⟩ := h
  obtain ⟨M2, σ2, e1, e2, r2, k2, t2⟩ := g M1 σ1 r k t
  exact ⟨M2, σ2, e1, e2, r2, k.tr k2, t.tr t2⟩
/-- one letter -/
theorem z_letter (h : OuR M σ) (c : Int32) (hc : LtO c := by decide) : PrJ M σ (K_X0_put c M) (F_letter c σ) := by
  obtain ⟨n, n1, n2, n3, n4⟩ := h
  unfold K_X0_put F_letter
  by_cases q : n = 500
  · subst q
    rw [n2, n3, ifT (show (500 : Int32) ≤ nI 500 by decide), ifT (show (500 : Int32) ≤ nI 500 by decide)]
    exact PrJ.rf ⟨500, n1, n2, n3, n4⟩
  · have nl : ¬ (500 : Int32) ≤ nI n := fun z => by
      have := (bI_le (a := 500) (b := n) (by decide) (by omega)).mp z
      omega
    have x : ix (nI n) = n := ix_nI (by omega)
    rw [n2, n3, ifF nl, ifF nl, ifT (inb_nI' (by omega) (by decide)), ifT (inb_nI' (by omega) (by decide)), x, nm_eq, nm_eq, nm_eq, nm_eq]
    have e1 : mI (mwA M 3 n (nB (nB c))) 3 1 = nI n := n2
    have e2 : tI (tsA σ 6 n (nB (nB c))) 9 = nI n := n3
    rw [e1, e2, nI_addL]
    refine PrJ.mk ⟨n + 1, by omega, ?_, rfl, fun i hi => ?_⟩ ⟨fun g o z => ?_, fun _ _ => rfl, fun a j z => ?_, fun _ _ => rfl, fun _ _ => rfl, fun _ => ⟨rfl, rfl⟩, ⟨rfl, rfl⟩, ?_⟩ ⟨?_, ⟨rfl, fun _ _ _ _ _ => rfl⟩, fun m e hm => ?_⟩
    · rw [mI_msI, ifT ⟨rfl, rfl⟩]
    · show (mA (mwA M 3 n (nB (nB c))) 3 i = tA (tsA σ 6 n (nB (nB c))) 6 i ∧ nB (tA (tsA σ 6 n (nB (nB c))) 6 i) = tA (tsA σ 6 n (nB (nB c))) 6 i) ∧ tA (tsA σ 6 n (nB (nB c))) 6 i &&& 255 = tA (tsA σ 6 n (nB (nB c))) 6 i
      rw [mA_mwA, tA_tsA]
      by_cases z : i = n
      · rw [ifT ⟨rfl, z⟩, ifT ⟨rfl, z⟩]; exact ⟨⟨rfl, nB_idem _⟩, hc⟩
      · rw [ifF (fun y => z y.2), ifF (fun y => z y.2)]; exact n4 i (by omega)
    · rw [mI_msI, ifF z]; rfl
    · show mA (mwA M 3 n (nB (nB c))) a j = mA M a j
      rw [mA_mwA, ifF (fun y => z y.1)]
    · exact ((Fz.rf (X := fun o => o = 1 ∨ o = 3)).mwA (fun _ => Or.inr rfl)).msI (fun _ => Or.inl rfl)
    · exact ((Ft.rf _ σ).p_tsA rfl).p_tsI rfl
    · have : m = n := (bI_eq (by omega) (by omega)).mp (e.symm.trans n3)
      subst this
      refine ⟨m + 1, by omega, by omega, rfl, fun i hi => ?_⟩
      show tA (tsA σ 6 m (nB (nB c))) 6 i = tA σ 6 i
      rw [tA_tsA, ifF (fun y => by have := y.2; omega)]
theorem z_list : ∀ (L : List Int32) (M : CM) (σ : TS), (∀ c, c ∈ L → LtO c) → OuR M σ → PrJ M σ (kpL L M) (tpL L σ)
  | [], M, σ, _, h => PrJ.rf h
  | c :: L, M, σ, hL, h => (z_letter h c (hL c List.mem_cons_self)).seq (fun M1 σ1 r _ _ => z_list L M1 σ1 (fun c hc => hL c (List.mem_cons_of_mem _ hc)) r)
theorem kpL_app : ∀ (L : List Int32) (M : CM), kpL (L ++ L') M = ob (kpL L M) fun _ M1 => kpL L' M1
  | [], _ => rfl
  | c :: L, M => by
    show (ob (K_X0_put c M) fun _ M1 => kpL (L ++ L') M1) = ob (ob (K_X0_put c M) fun _ M1 => kpL L M1) fun _ M1 => kpL L' M1
    cases e : K_X0_put c M with
    | none => rfl
    | some p => obtain ⟨a, b⟩ := p; exact kpL_app L b
theorem kpL_one : kpL [c] M = K_X0_put c M := by
  show (ob (K_X0_put c M) fun _ M1 => some ((), M1)) = _
  cases e : K_X0_put c M with
  | none => rfl
  | some p => rfl
theorem tpL_one : tpL [c] σ = F_letter c σ := by
  show (ob (F_letter c σ) fun _ M1 => some ((), M1)) = _
  cases e : F_letter c σ with
  | none => rfl
  | some p => rfl
-- texts
theorem csB_ok : ∀ j, j < 34 → ∀ c, c ∈ csB_.getD j [] → c &&& 255 = c := by decide +kernel
theorem tsB_ok : ∀ j, j < 26 → ∀ c, c ∈ tsB_.getD j [] → c &&& 255 = c := by decide +kernel
theorem csB_lt : ∀ j, j < 34 → ∀ c, c ∈ csB_.getD j [] → LtO c := by decide +kernel
theorem csB_len : ∀ j, j < 34 → (csB_.getD j []).length < 1000 := by decide +kernel
theorem tsB_len : ∀ j, j < 26 → (tsB_.getD j []).length < 1000 := by decide +kernel
theorem drop_get {L : List Int32} {i : Nat} (h : i < L.length) : L.drop i = L.getD i 0 :: L.drop (i + 1) := by
  rw [List.drop_eq_getElem_cons h, List.getD_eq_getElem?_getD, List.getElem?_eq_getElem h]; rfl
theorem getI_mem {L : List Int32} {i : Nat} (h : i < L.length) : L.getD i 0 ∈ L := by
  rw [List.getD_eq_getElem?_getD, List.getElem?_eq_getElem h]
  exact List.getElem_mem h
theorem k_text {j : Nat} (hj : j < 34) (M : CM) : K_X0_put_3 (2199023255552 + j) M = kpL (csB_.getD j []) M := by
  have hl := csB_len j hj
  have hv : ∀ M : CM, sVal M (2199023255552 + j) = 8796093022208 + j := fun M => by unfold sVal; rw [ifT (by omega)]; omega
  have hs : ∀ M : CM, isStr M (2199023255552 + j) := fun M => Or.inl ⟨by omega, by show _ < 2199023255552 + 34; omega⟩
  have hL : ∀ M : CM, sLen M (2199023255552 + j) = (csB_.getD j []).length := fun M => by
    unfold sLen bLen; rw [hv, ifT (by omega), Nat.add_sub_cancel_left]
  have hc : ∀ (M : CM) i, i < (csB_.getD j []).length → sChr M (2199023255552 + j) i = (csB_.getD j []).getD i 0 := fun M i hi => by
    unfold sChr bAt; rw [hv, ifT (by omega), Nat.add_sub_cancel_left]
    refine csB_ok j hj _ ?_
    exact getI_mem hi
  have loop : ∀ (d i f : Nat) (M : CM), i + d = (csB_.getD j []).length → d < f → KL_X0_put_3_2 f (2199023255552 + j) (nI i) M = kpL ((csB_.getD j []).drop i) M := by
    intro d
    induction d with
    | zero =>
      intro i f M hi hf
      obtain ⟨f, rfl⟩ : ∃ g, f = g + 1 := ⟨f - 1, by omega⟩
      rw [KL_X0_put_3_2, ifT (hs M), hL, ifT ((bI_le (by omega) (by omega)).mpr (by omega)), List.drop_eq_nil_of_le (by omega)]; rfl
    | succ d ih =>
      intro i f M hi hf
      obtain ⟨f, rfl⟩ : ∃ g, f = g + 1 := ⟨f - 1, by omega⟩
      rw [KL_X0_put_3_2, ifT (hs M), hL, ifF (fun z => by have := (bI_le (by omega) (by omega)).mp z; omega), ifT ⟨hs M, inb_nI' (by omega) (by omega)⟩, ix_nI (by omega), hc M i (by omega), drop_get (show i < _ by omega)]
      show _ = ob (K_X0_put ((csB_.getD j []).getD i 0) M) fun _ M1 => kpL ((csB_.getD j []).drop (i + 1)) M1
      congr 1
      funext _ M1
      rw [nm_eq, nI_addL]
      exact ih (i + 1) f M1 (by omega) (by omega)
  have fu := FUb
  unfold K_X0_put_3
  rw [show (0 : Int32) = nI 0 from rfl, loop (csB_.getD j []).length 0 FU M (by omega) (by omega)]
  show (ob (kpL (csB_.getD j []) M) fun _ M1 => some ((), M1)) = _
  cases e : kpL (csB_.getD j []) M with
  | none => rfl
  | some p => rfl
theorem t_text {j : Nat} (hj : j < 26) (σ : TS) : F_tellText j σ = tpL (tsB_.getD j []) σ := by
  have hl := tsB_len j hj
  have hs : j < tsN := hj
  have hc : ∀ i, i < (tsB_.getD j []).length → tsch j i = (tsB_.getD j []).getD i 0 := fun i hi => by
    unfold tsch
    refine tsB_ok j hj _ ?_
    exact getI_mem hi
  have loop : ∀ (d i f : Nat) (σ : TS), i + d = (tsB_.getD j []).length → d < f → L_tellText_2 f j (nI i) σ = tpL ((tsB_.getD j []).drop i) σ := by
    intro d
    induction d with
    | zero =>
      intro i f M hi hf
      obtain ⟨f, rfl⟩ : ∃ g, f = g + 1 := ⟨f - 1, by omega⟩
      rw [L_tellText_2, ifT hs, show tslen j = (tsB_.getD j []).length from rfl, ifT ((bI_le (by omega) (by omega)).mpr (by omega)), List.drop_eq_nil_of_le (by omega)]; rfl
    | succ d ih =>
      intro i f M hi hf
      obtain ⟨f, rfl⟩ : ∃ g, f = g + 1 := ⟨f - 1, by omega⟩
      rw [L_tellText_2, ifT hs, show tslen j = (tsB_.getD j []).length from rfl, ifF (fun z => by have := (bI_le (by omega) (by omega)).mp z; omega), ifT ⟨hs, inb_nI' (by omega) (by omega)⟩, ix_nI (by omega), hc i (by omega), drop_get (show i < _ by omega)]
      show _ = ob (F_letter ((tsB_.getD j []).getD i 0) M) fun _ M1 => tpL ((tsB_.getD j []).drop (i + 1)) M1
      congr 1
      funext _ M1
      rw [nm_eq, nI_addL]
      exact ih (i + 1) f M1 (by omega) (by omega)
  have fu := FUb
  unfold F_tellText
  rw [show (0 : Int32) = nI 0 from rfl, loop (tsB_.getD j []).length 0 FU σ (by omega) (by omega)]
  show (ob (tpL (tsB_.getD j []) σ) fun _ M1 => some ((), M1)) = _
  cases e : tpL (tsB_.getD j []) σ with
  | none => rfl
  | some p => rfl
/-- the same text -/
theorem z_text {j j' : Nat} (h : OuR M σ) (hj : j < 34 ∧ j' < 26 ∧ csB_.getD j [] = tsB_.getD j' []) : PrJ M σ (K_X0_put_3 (2199023255552 + j) M) (F_tellText j' σ) := by
  rw [k_text hj.1, t_text hj.2.1, ← hj.2.2]
  exact z_list _ M σ (csB_lt j hj.1) h
end OUT
