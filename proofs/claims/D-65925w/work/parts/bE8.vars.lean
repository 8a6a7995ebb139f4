/-! Layer B: the flat model: the twin makes the variables of an element -/
set_option maxRecDepth 100000
/-- what the twin's modifications of an element are -/
def MxT (σ : TS) (e k0 n : Nat) : Prop := MlR σ k0 n ∧ tA σ 55 e = ptr k0 n 0 ∧ ∀ t, t < n → tA σ 62 (k0 + t) = 0 → tA σ 60 (k0 + t) ≠ 0
/-- where the twin is: instance i with its entries, the chain -/
def CvT (σ : TS) (E i tf cb : Nat) (W : List (Nat × Nat × Nat)) (ks : List (Nat × Nat)) : Prop := (i < 200 ∧ tA σ 78 i = nI tf ∧ tA σ 79 i = nI W.length ∧ tf + W.length ≤ E) ∧ EsR σ tf W ∧ (∀ a, a ∈ W → EnB σ a) ∧ ChnR σ cb ks ∧ E + W.length + (wcE i ks).length ≤ 40000
section VARS
variable {C C' : PC} {D D' D2 : FQ} {M M' M1 M2 : CM} {σ σ' σ0 σ2 : TS} {mss fss xs bs qs os : List Nat} {B l k n o m u w Q I I' L V V' Bm Bm' b v r R E E' cr i k0 fr e eo fl z env kk tf cb : Nat} {P P' X T : Nat → Prop} {S S' : List Nat} {a : Nat × Nat × Nat} {W W1 W2 : List (Nat × Nat × Nat)} {ks : List (Nat × Nat)} {x : Int64} {x3 x4 x5 x6 x7 x8 : Int32} {cf : Int32 → Int32 → Int32 → TS → Option (Unit × TS)}
theorem pth_own (h : MlR σ k0 n) (hk : k < n) (h62 : tA σ 62 (k0 + k) = 0) : ¬ pth σ (k0 + k) 0 = 0 := by
  obtain ⟨q, q1, q2, q3⟩ := (h.2 k hk).2.1 h62
  show ¬ tA σ 59 (k0 + k) = 0
  rw [q3, show (0 : Int32) = nI 0 from rfl]
  exact fun z => by have := (bI_eq (by omega) (by decide)).mp z; omega
theorem vE_app (hn : ∀ a, a ∈ W2 → ¬ pth σ a.1 a.2.1 = 0) : ∀ W1 : List (Nat × Nat × Nat), vE σ (W1 ++ W2) = vE σ W1
  | [] => by
    show vE σ W2 = (0, 0)
    induction W2 with
    | nil => rfl
    | cons a W ih =>
      show (if pth σ a.1 a.2.1 = 0 then _ else vE σ W) = _
      rw [ifF (hn a List.mem_cons_self)]
      exact ih (fun b hb => hn b (List.mem_cons_of_mem _ hb))
  | a :: W1 => by
    show (if pth σ a.1 a.2.1 = 0 then _ else vE σ (W1 ++ W2)) = (if pth σ a.1 a.2.1 = 0 then _ else vE σ W1)
    rw [vE_app hn W1]
theorem sE_app : ∀ W1 : List (Nat × Nat × Nat), (∀ a, a ∈ W1 → tA σ 60 a.1 ≠ 0) → sE σ (W1 ++ W2) = pick (sE σ W1) (sE σ W2)
  | [], _ => rfl
  | a :: W1, h => by
    show (if pth σ a.1 a.2.1 = 0 then sE σ (W1 ++ W2) else _) = pick (if pth σ a.1 a.2.1 = 0 then sE σ W1 else _) _
    by_cases q : pth σ a.1 a.2.1 = 0
    · rw [ifT q, ifT q]
      exact sE_app W1 (fun b hb => h b (List.mem_cons_of_mem _ hb))
    · rw [ifF q, ifF q]
      exact (ifF (h a List.mem_cons_self)).symm
theorem MxT.ft (h : MxT σ e k0 n) (f : Ft S σ σ') (hS : S.all fiS.contains = true) : MxT σ' e k0 n := by
  have f2 := f.mono (S' := fiS) hS
  refine ⟨h.1.ft f hS, by rw [(f2 55 rfl).2.2.1]; exact h.2.1, fun t ht q => ?_⟩
  rw [(f2 62 rfl).2.2.1] at q
  rw [(f2 60 rfl).2.2.1]
  exact h.2.2 t ht q
theorem ChnR.ft (h : ChnR σ cb ks) (f : Ft S σ σ') (hS : S.all fiS.contains = true) (h2 : S.all (fun k => !([112, 113, 114] : List Nat).contains k) = true) : ChnR σ' cb ks := by
  have hc : ∀ k, k ∈ [112, 113, 114] → S.contains k = false := fun k hk => by
    cases e : S.contains k with
    | false => rfl
    | true =>
      have := List.all_eq_true.mp h2 k (by simpa using e)
      simp only [List.contains_eq_mem, decide_not, Bool.not_eq_true', decide_eq_false_iff_not] at this
      simp_all
  obtain ⟨h1, h2, h3, h4⟩ := h
  refine ⟨by rw [(f 113 (hc 113 (by decide))).1]; exact h1, by rw [(f 114 (hc 114 (by decide))).1]; exact h2, h3, fun j hj => ⟨?_, (h4 j hj).2.ft f hS⟩⟩
  rw [(f 112 (hc 112 (by decide))).2.2.1]
  exact (h4 j hj).1
theorem CvT.ft (h : CvT σ E i tf cb W ks) (f : Ft S σ σ') (hS : S.all fiS.contains = true) (h2 : S.all (fun k => !([112, 113, 114] : List Nat).contains k) = true) (h78 : tA σ' 78 i = tA σ 78 i ∧ tA σ' 79 i = tA σ 79 i) (hj : ∀ j, j < E → tA σ' 90 j = tA σ 90 j ∧ tA σ' 91 j = tA σ 91 j ∧ tA σ' 92 j = tA σ 92 j) : CvT σ' E i tf cb W ks := by
  obtain ⟨⟨a1, a2, a3, a4⟩, h2', h3, h4, h5⟩ := h
  exact ⟨⟨a1, by rw [h78.1]; exact a2, by rw [h78.2]; exact a3, a4⟩, h2'.mv (f.fi hS) (fun j _ h => hj j (by omega)), fun a ha => (h3 a ha).ft f hS, h4.ft f hS h2, h5⟩
/-- the entries of an element come: the environment's, the chain's -/
theorem t_envs (h : CvT σ E i tf cb W ks) (he : e < 481) (hx : tB σ 50 e = x) (h93 : tI σ 93 = nI E) : ∃ σ2, (∀ (α : Type) (g : TS → Option (α × TS)), (ob (F_inherit (tA σ 78 (ix (nI i))) (tA σ 79 (ix (nI i))) (tB σ 50 (ix (nI e))) σ) fun _ s44 => nm (tI s44 113) fun v48 => ob (L_makeMember_288 cf FU (nI i) (nI e) x3 x4 x5 x6 x7 x8 (nI E) v48 s44) fun _ s78 => g s78) = g σ2) ∧ PutS σ E (adv σ x (W ++ wcE i ks)) σ2 := by
  obtain ⟨⟨a1, a2, a3, a4⟩, h2, h3, ⟨c1, c2, c3, c4⟩, h5⟩ := h
  have fu := FUb
  have e78 : ix (nI i) = i := ix_nI (by omega)
  obtain ⟨σ1, g1, g2⟩ := t_inherit (x := x) (E := E) (n := W.length) W 0 FU σ [] (by omega) (by omega) h2 h3 (PutS.nil h93) a4 (by show E + 0 + W.length ≤ 40000; omega)
  have g2 : PutS σ E (adv σ x W) σ1 := g2
  have g1 : L_inherit_3 FU (nI tf) (nI W.length) x (nI tf) σ = some ((), σ1) := g1
  have al := adv_len (σ := σ) (x := x) (W := W)
  obtain ⟨σ2, g3, g4⟩ := t_chain (cf := cf) (x3 := x3) (x4 := x4) (x5 := x5) (x6 := x6) (x7 := x7) (x8 := x8) (x9 := nI E) a1 he hx ks cb FU σ1 (adv σ x W) c2 c3 c4 (by omega) g2 (by omega)
  refine ⟨σ2, fun α g => ?_, by rw [adv_app]; exact g4⟩
  unfold F_inherit
  rw [e78, a2, a3, ix_nI (by omega : e < 2147483648), hx, g1, ob_some, ob_some, nm_eq, (g2.1 113 rfl).1, c1, g3, ob_some]
end VARS
