/-! Layer B: faults of both while a text is read; the twin goes on with a fault -/
set_option maxRecDepth 100000
/-- the twin has a fault -/
def Bd (C : PC) (σ : TS) : Prop := tI σ 0 ≠ 0 ∧ TapeT σ (cb C) (cl C) ∧ (∃ q, q ≤ cl C ∧ tI σ 10 = nI q) ∧ (∃ N, tI σ 28 = nI N ∧ 1 ≤ N ∧ N ≤ 9000) ∧ ∃ Q, tI σ 34 = nI Q ∧ 1 ≤ Q ∧ Q ≤ 7000
def Br (C : PC) (σ σ' : TS) : Prop := tI σ' 0 = tI σ 0 ∧ tI σ' 1 = tI σ 1 ∧ Bd C σ' ∧ Tz σ σ' ∧ Ft sF_txt σ σ'
def BW (C : PC) {α : Type} (σ : TS) (o : Option (α × TS)) : Prop := ∃ r σ', o = some (r, σ') ∧ Br C σ σ'
/-- a fault of both -/
def FB (C : PC) (M : CM) (σ : TS) (M' : CM) (w : Nat) (σ' : TS) : Prop := Flt M' w σ' ∧ Es M σ M' σ' ∧ (mn M' ≤ cN C ∧ ms M' ≤ cS C) ∧ Bd C σ'
def Ko (C : PC) (M : CM) (σ : TS) {α β : Type} (o : Option ((α ⊕ Nat) × CM)) (p : Option (β × TS)) : Prop := ∃ w M' y σ', o = some (.inr w, M') ∧ p = some (y, σ') ∧ FB C M σ M' w σ'
section BAD
variable {C : PC} {M M' : CM} {σ s : TS} {α β γ : Type}
theorem Br.rf (h : Bd C σ) : Br C σ σ := ⟨rfl, rfl, h, Tz.rf σ, Ft.rf _ σ⟩
theorem Br.tr {σ1 σ2 σ3 : TS} (h : Br C σ1 σ2) (g : Br C σ2 σ3) : Br C σ1 σ3 := ⟨g.1.trans h.1, g.2.1.trans h.2.1, g.2.2.1, h.2.2.2.1.tr g.2.2.2.1, h.2.2.2.2.tr g.2.2.2.2⟩
theorem Br.b (h : Br C σ s) : tI s 0 ≠ 0 := h.2.2.1.1
theorem BW.sm {r : α} (h : Br C σ s) : BW C σ (some (r, s)) := ⟨r, s, rfl, h⟩
theorem BW.bo {o : Option (α × TS)} {k : α → TS → Option (β × TS)} (h : BW C σ o) (g : ∀ r s, Br C σ s → BW C σ (k r s)) : BW C σ (ob o k) := by
  obtain ⟨r, s, rfl, hs⟩ := h
  exact g r s hs
theorem BW.ite {c : Prop} [Decidable c] {a b : Option (α × TS)} (h1 : BW C σ a) (h2 : BW C σ b) : BW C σ (if c then a else b) := by
  split
  · exact h1
  · exact h2
theorem BW.nmV {x : α} {f : α → Option (β × TS)} (h : ∀ v, BW C σ (f v)) : BW C σ (nm x f) := h x
theorem BW.isBad {A B : TS → Option (β × TS)} (h : Br C σ s) (g : BW C σ (B s)) : BW C σ (ob (F_isBad s) fun r s1 => if r = 0 then A s1 else B s1) := by
  rw [t_isBad1 h.b, ob_some, ifF (by decide)]; exact g
theorem Br.set20 {v : Int32} (h : Br C σ s) : Br C σ (tsI s 20 v) := by
  obtain ⟨h1, h2, ⟨b1, b2, b3, b4, b5⟩, h3, h4⟩ := h
  exact ⟨h1, h2, ⟨b1, b2, b3, b4, b5⟩, h3, h4.p_tsI rfl⟩
theorem BW.nm20 {v : Int32} {f : TS → Option (β × TS)} (h : Br C σ s) (g : ∀ s', Br C σ s' → BW C σ (f s')) : BW C σ (nm (tsI s 20 v) f) := g _ h.set20
/-- a step with frame that keeps nodes, parts, faults -/
theorem Br.st {S : List Nat} {s' : TS} (h : Br C σ s) (f : Ft S s s') (hS : S.all sF_txt.contains = true) (h2 : [0, 1, 24, 25, 26, 27, 28, 29, 30, 31, 32, 33, 34].all (fun k => !S.contains k) = true) (hq : ∃ q, q ≤ cl C ∧ tI s' 10 = nI q) : Br C σ s' := by
  have hf : ∀ k, k ∈ [0, 1, 24, 25, 26, 27, 28, 29, 30, 31, 32, 33, 34] → S.contains k = false := fun k hk => by
    have := List.all_eq_true.mp h2 k hk
    simpa using this
  have h8 : ∀ k, sF_txt.contains k = false → S.contains k = false := fun k hk => by
    cases e : S.contains k with
    | false => rfl
    | true =>
      have e2 : k ∈ S := by simpa using e
      have e3 := List.all_eq_true.mp hS k e2
      rw [e3] at hk; cases hk
  obtain ⟨h1, h2', ⟨b1, b2, b3, b4, b5⟩, h3, h4⟩ := h
  refine ⟨by rw [(f 0 (hf 0 (by decide))).1]; exact h1, by rw [(f 1 (hf 1 (by decide))).1]; exact h2', ⟨by rw [(f 0 (hf 0 (by decide))).1]; exact b1, b2.kp f (h8 8 rfl) (h8 5 rfl), hq, by rw [(f 28 (hf 28 (by decide))).1]; exact b4, by rw [(f 34 (hf 34 (by decide))).1]; exact b5⟩, h3.tr (Tz.ft f ?_), h4.tr (f.mono hS)⟩
  rw [List.all_eq_true]
  intro k hk
  rw [hf k (List.mem_cons_of_mem _ (List.mem_cons_of_mem _ hk))]
  rfl
theorem bw_next (h : Br C σ s) : BW C σ (F_next s) := by
  obtain ⟨q, hq, h10⟩ := h.2.2.1.2.2.1
  obtain ⟨s', e, T, hq'⟩ := b_next h.2.2.1.2.1 hq h10
  exact ⟨(), s', e, h.st (fS_F_next _ _ _ e) (by decide) (by decide) hq'⟩
theorem bw_isSign (h : Br C σ s) (c : Int32) : BW C σ (F_isSign c s) := by
  unfold F_isSign
  exact BW.ite (BW.ite (BW.sm h) (BW.sm h)) (BW.sm h)
theorem bw_isWord (h : Br C σ s) (c : Int64) : BW C σ (F_isWord c s) := by
  unfold F_isWord
  exact BW.ite (BW.ite (BW.sm h) (BW.sm h)) (BW.sm h)
theorem bw_pass (h : Br C σ s) (c : Int32) : BW C σ (F_pass c s) := BW.isBad h (BW.sm h)
theorem bw_passWord (h : Br C σ s) (c : Int64) : BW C σ (F_passWord c s) := BW.isBad h (BW.sm h)
theorem bw_passName (h : Br C σ s) : BW C σ (F_passName s) := BW.isBad h (BW.sm h)
theorem bw_passWhole (h : Br C σ s) (c : Int32) : BW C σ (F_passWhole c s) := BW.isBad h (BW.sm h)
theorem bw_sampleNumber (h : Br C σ s) (c : Int32) : BW C σ (F_sampleNumber c s) := BW.isBad h (BW.sm h)
theorem bw_index (h : Br C σ s) (p : Int32) : BW C σ (F_index p s) := BW.isBad h (BW.sm h)
theorem bw_ref (h : Br C σ s) : BW C σ (F_ref s) := by
  unfold F_ref
  exact BW.bo (bw_passName h) (fun r s hs => BW.isBad hs (BW.sm hs))
theorem bw_node (h : Br C σ s) (k a b d : Int32) : BW C σ (F_node k a b d s) := by
  obtain ⟨N, n1, n2, n3⟩ := h.2.2.1.2.2.2.1
  by_cases c : N < 9000
  · obtain ⟨s', e1, e2, e3, e4, e5, e6, e7⟩ := t_node n1 c k a b d
    have fr := fS_F_node _ _ _ _ _ _ _ e1
    obtain ⟨h1, h2', ⟨b1, b2, b3, b4, b5⟩, h3, h4⟩ := h
    have hN : tN s = N := by unfold tN; rw [n1, ix_nI (by omega)]
    refine ⟨_, s', e1, by rw [(fr 0 rfl).1]; exact h1, by rw [(fr 1 rfl).1]; exact h2', ⟨by rw [(fr 0 rfl).1]; exact b1, b2.kp fr rfl rfl, by rw [(fr 10 rfl).1]; exact b3, ⟨N + 1, e2, by omega, by omega⟩, by rw [(fr 34 rfl).1]; exact b5⟩, h3.tr ⟨⟨?_, ?_⟩, fun k' hk j hj => e7 k' j (by omega), fun k' hk j hj => ?_, fun k' hk j hj => ?_⟩, h4.tr (fr.mono (by decide))⟩
    · rw [hN]; unfold tN; rw [e2, ix_nI (by omega)]; omega
    · unfold tQ; rw [(fr 34 rfl).1]; exact Nat.le_refl _
    · exact (fr k' (by rcases hk with rfl | rfl | rfl <;> rfl)).2.2.1 j
    · exact (fr k' (by rcases hk with rfl | rfl <;> rfl)).2.2.2 j
  · unfold F_node
    rw [n1, ifT (by rw [show N = 9000 by omega]; rfl)]
    exact BW.sm h
theorem bw_newPart (h : Br C σ s) (hq : tQ s < 7000) (v : Int64) : ∃ s', F_newPart v s = some (nI (tQ s), s') ∧ Br C σ s' ∧ tQ s' = tQ s + 1 := by
  obtain ⟨Q, q1, q2, q3⟩ := h.2.2.1.2.2.2.2
  have hQ : tQ s = Q := by unfold tQ; rw [q1, ix_nI (by omega)]
  obtain ⟨s', e1, e2, e3, e4, e5, e6, e7, e8⟩ := t_newPart q1 (by omega) v
  have fr := fS_F_newPart _ _ _ _ e1
  obtain ⟨h1, h2', ⟨b1, b2, b3, b4, b5⟩, h3, h4⟩ := h
  have hQ' : tQ s' = Q + 1 := by unfold tQ; rw [e2, ix_nI (by omega)]
  rw [hQ]
  refine ⟨s', e1, ⟨by rw [(fr 0 rfl).1]; exact h1, by rw [(fr 1 rfl).1]; exact h2', ⟨by rw [(fr 0 rfl).1]; exact b1, b2.kp fr rfl rfl, by rw [(fr 10 rfl).1]; exact b3, by rw [(fr 28 rfl).1]; exact b4, Q + 1, e2, by omega, by omega⟩, h3.tr ⟨⟨?_, by omega⟩, fun k' hk j hj => ?_, fun k' hk j hj => e7 k' j (by omega), fun k' hk j hj => e8 k' j (by omega)⟩, h4.tr (fr.mono (by decide))⟩, hQ'⟩
  · unfold tN; rw [(fr 28 rfl).1]; exact Nat.le_refl _
  · exact (fr k' (by rcases hk with rfl | rfl | rfl | rfl <;> rfl)).2.2.1 j
/-- the group of expressions, with a fault -/
theorem bw_factor (h : Br C σ s) (d : Nat) : BW C σ ((G_ands (d + 1)).2.2.2.2.1 s) := by
  show BW C σ (B_factor _ _ _ s)
  unfold B_factor
  exact BW.isBad h (BW.sm h)
theorem bw_expression (h : Br C σ s) (d : Nat) : BW C σ ((G_ands (d + 1)).2.2.2.1 s) := by
  show BW C σ (B_expression _ _ _ s)
  unfold B_expression
  exact BW.isBad h (BW.sm h)
theorem bw_sum (h : Br C σ s) (d : Nat) : BW C σ ((G_ands (d + 1)).2.2.2.2.2.2.1 s) := by
  show BW C σ (B_sum _ s)
  unfold B_sum
  exact BW.isBad h (BW.sm h)
theorem bw_test (h : Br C σ s) (d : Nat) : BW C σ ((G_ands (d + 1)).2.2.2.2.2.2.2.2 s) := by
  show BW C σ (B_test _ _ _ s)
  unfold B_test
  exact BW.isBad h (BW.sm h)
theorem bw_Lterm {cf : TS → Option (Int32 × TS)} (h : Br C σ s) (n : Nat) (x : Int32) : BW C σ (L_term_5 cf (n + 1) x s) := by
  rw [L_term_5]; exact BW.isBad h (BW.sm h)
theorem bw_Lsum {cf : TS → Option (Int32 × TS)} (h : Br C σ s) (n : Nat) (x : Int32) : BW C σ (L_sum_43 cf (n + 1) x s) := by
  rw [L_sum_43]; exact BW.isBad h (BW.sm h)
theorem bw_Lands {cf : TS → Option (Int32 × TS)} (h : Br C σ s) (n : Nat) (x : Int32) : BW C σ (L_ands_5 cf (n + 1) x s) := by
  rw [L_ands_5]; exact BW.isBad h (BW.sm h)
theorem bw_Lcond {cf : TS → Option (Int32 × TS)} (h : Br C σ s) (n : Nat) (x : Int32) : BW C σ (L_condition_5 cf (n + 1) x s) := by
  rw [L_condition_5]; exact BW.isBad h (BW.sm h)
theorem bw_term (h : Br C σ s) (d : Nat) : BW C σ ((G_ands (d + 2)).2.2.2.2.2.2.2.1 s) := by
  show BW C σ (B_term (G_ands (d + 1)).2.2.2.2.1 s)
  unfold B_term
  exact BW.bo (bw_factor h d) (fun r s hs => BW.bo (bw_Lterm hs (FU - 1) r) (fun r s hs => BW.sm hs))
theorem bw_ands (h : Br C σ s) (d : Nat) : BW C σ ((G_ands (d + 2)).1 s) := by
  show BW C σ (B_ands (G_ands (d + 1)).2.2.2.2.2.2.2.2 s)
  unfold B_ands
  exact BW.bo (bw_test h d) (fun r s hs => BW.bo (bw_Lands hs (FU - 1) r) (fun r s hs => BW.sm hs))
theorem bw_condition (h : Br C σ s) (d : Nat) : BW C σ ((G_ands (d + 3)).2.2.1 s) := by
  show BW C σ (B_condition (G_ands (d + 2)).1 s)
  unfold B_condition
  exact BW.bo (bw_ands h d) (fun r s hs => BW.bo (bw_Lcond hs (FU - 1) r) (fun r s hs => BW.sm hs))
theorem FB.tr {M0 : CM} {σ0 σ' : TS} {w : Nat} (e : Es M0 σ0 M σ) (h : FB C M σ M' w σ') : FB C M0 σ0 M' w σ' := ⟨h.1, e.tr h.2.1, h.2.2⟩
theorem FB.br {σ1 σ2 : TS} {w : Nat} (h : FB C M σ M' w σ1) (g : Br C σ1 σ2) : FB C M σ M' w σ2 := by
  obtain ⟨⟨a1, a2, a3, a4, a5⟩, e, c, b⟩ := h
  exact ⟨⟨a1, a2, by rw [g.1]; exact a3, by rw [g.2.1]; exact a4, by rw [g.1]; exact a5⟩, ⟨e.1, e.2.1, e.2.2.1, e.2.2.2.1.tr g.2.2.2.1, e.2.2.2.2.tr g.2.2.2.2⟩, c, g.2.2.1⟩
theorem FB.bd {σ1 : TS} {w : Nat} (h : FB C M σ M' w σ1) : Br C σ1 σ1 := Br.rf h.2.2.2
/-- the component ends with a fault, the twin comes to its end with it -/
theorem FB.ko {σ1 : TS} {w : Nat} {p : Option (β × TS)} (h : FB C M σ M' w σ1) (g : BW C σ1 p) : Ko C M σ (some ((.inr w : α ⊕ Nat), M')) p := by
  obtain ⟨y, σ2, rfl, g⟩ := g
  exact ⟨w, M', y, σ2, rfl, rfl, h.br g⟩
theorem FB.ko0 {σ1 : TS} {w : Nat} {y : β} (h : FB C M σ M' w σ1) : Ko C M σ (some ((.inr w : α ⊕ Nat), M')) (some (y, σ1)) := ⟨w, M', y, σ1, rfl, rfl, h⟩
theorem Ko.tr {M0 : CM} {σ0 : TS} {o : Option ((α ⊕ Nat) × CM)} {p : Option (β × TS)} (e : Es M0 σ0 M σ) (h : Ko C M σ o p) : Ko C M0 σ0 o p := by
  obtain ⟨w, M', y, σ', h1, h2, h3⟩ := h
  exact ⟨w, M', y, σ', h1, h2, h3.tr e⟩
end BAD
section ST
variable {C : PC} {M M' : CM} {σ σ' : TS} {i dep c s n : Nat}
theorem Pe.bd0 (P : Pe C M σ i dep c s n) {r q : Int32} (hr : r ≠ 0) : Bd C (tsI (tsI σ 0 r) 1 q) := by
  obtain ⟨a1, a2, a3, a4, N, Q, ⟨a8, a9, a10⟩, a11, a12, a13⟩ := P
  obtain ⟨q', b1, b2, _⟩ := a1.2.2.2.2.2
  exact ⟨hr, a1.2.2.2.1.1, ⟨q', b1, b2⟩, ⟨N, a8, a9.1, by omega⟩, Q, a11, a12, by omega⟩
/-- a fault here -/
theorem Pe.fb (P : Pe C M σ i dep c s n) (h1 : 1 ≤ c) (h2 : 8 ≤ s) {r q : Int32} (hr : r ≠ 0) : FB C M σ (wM M r q) (mn M) (tsI (tsI σ 0 r) 1 q) := by
  have P0 := P
  obtain ⟨a1, a2, a3, ⟨a4, a5, a6, a7⟩, -⟩ := P
  obtain ⟨w1, w2⟩ := wM_n M r q
  have fr : Ft [0, 1] σ (tsI (tsI σ 0 r) 1 q) := ((Ft.rf _ σ).p_tsI rfl).p_tsI rfl
  refine ⟨flt_w hr, (Es.al (wM_f M r q) P0.n167).tr (Es.tw fr (by decide) (Tz.ft fr (by decide))), ⟨by omega, by omega⟩, P0.bd0 hr⟩
/-- one step of both, or a fault -/
def St (C : PC) (M : CM) (σ : TS) (i dep c s n : Nat) {α β : Type} (o : Option ((α ⊕ Nat) × CM)) (p : Option (β × TS)) (Q : α → β → Prop) : Prop := (∃ x y σ', o = some (.inl x, msI M 405 90 (nI (i + 1))) ∧ p = some (y, σ') ∧ Pe C (msI M 405 90 (nI (i + 1))) σ' (i + 1) dep (c + 16) (s + 2048) (n + 4) ∧ Es M σ (msI M 405 90 (nI (i + 1))) σ' ∧ i < ct C ∧ Q x y ∧ F_next σ = some ((), σ')) ∨ ∃ w M' y σ', o = some (.inr w, M') ∧ p = some (y, σ') ∧ FB C M σ M' w σ'
theorem Stq.st {α β : Type} {o : Option ((α ⊕ Nat) × CM)} {p : Option (β × TS)} {Q : α → β → Prop} (P : Pe C M σ i dep c s n) (h1 : 1 ≤ c) (h2 : 8 ≤ s) (h : Stq M σ (cb C) (cl C) (cm C) (ct C) (cp C) i o p Q) : St C M σ i dep c s n o p Q := by
  rcases h with ⟨x, y, σ', a1, a2, a3, a4, a5, a6⟩ | ⟨r, q, y, a1, a2, a3⟩
  · obtain ⟨b1, b2⟩ := P.nx a3 a4 a5
    exact Or.inl ⟨x, y, σ', a1, a2, b1, b2, a5, a6, a3⟩
  · exact Or.inr ⟨mn M, wM M r q, y, _, a2, a3, P.fb h1 h2 (by rcases a1 with rfl | rfl <;> decide)⟩
theorem z_name (P : Pe C M σ i dep c s n) (h1 : 1 ≤ c) (h2 : 8 ≤ s) : St C M σ i dep c s n (K_X2_name M) (F_passName σ) (fun x y => ∃ w, x = nI w ∧ 38 ≤ w ∧ w < 38 + cm C ∧ y = wc M w) := Stq.st P h1 h2 (y_name P.px (P.cap h2))
theorem z_pass (P : Pe C M σ i dep c s n) (h1 : 1 ≤ c) (h2 : 8 ≤ s) {x : Int32} (h : x ≠ 1 ∧ x ≠ 2 ∧ x ≠ 3 ∧ x ≠ 4) : St C M σ i dep c s n (K_X2_sign x M) (F_pass x σ) (fun _ _ => True) := Stq.st P h1 h2 (y_pass P.px (P.cap h2) h)
theorem z_passKey (P : Pe C M σ i dep c s n) (h1 : 1 ≤ c) (h2 : 8 ≤ s) {j : Nat} {x : Int32} {y : Int64} (hx : x = nI j) (hj : j < 38) (hc : y = kco j) : St C M σ i dep c s n (K_X2_key x M) (F_passWord y σ) (fun _ _ => True) := Stq.st P h1 h2 (y_passKey P.px (P.cap h2) hx hj hc)
theorem z_number (P : Pe C M σ i dep c s n) (h1 : 1 ≤ c) (h2 : 8 ≤ s) {hi : Nat} {x2 : Int32} (hx : x2 = nI hi) (hh : hi < 2147483648) : St C M σ i dep c s n (K_X2_number 0 x2 M) (F_passWhole x2 σ) (fun x y => ∃ k, x = nI k ∧ y = nI k ∧ k ≤ hi) := Stq.st P h1 h2 (y_number P.px (P.cap h2) hx hh)
theorem z_take (P : Pe C M σ i dep c s n) {x : Int32} (h : x ≠ 1 ∧ x ≠ 2 ∧ x ≠ 3 ∧ x ≠ 4) : (∃ σ', K_X2_take x M = some (1, msI M 405 90 (nI (i + 1))) ∧ F_isSign x σ = some (1, σ) ∧ F_next σ = some ((), σ') ∧ Pe C (msI M 405 90 (nI (i + 1))) σ' (i + 1) dep (c + 16) (s + 2048) (n + 4) ∧ Es M σ (msI M 405 90 (nI (i + 1))) σ' ∧ i < ct C) ∨ (K_X2_take x M = some (0, M) ∧ F_isSign x σ = some (0, σ)) := by
  rcases y_take P.px h with ⟨σ', a1, a2, a3, a4, a5⟩ | h
  · obtain ⟨b1, b2⟩ := P.nx a3 a4 a5
    exact Or.inl ⟨σ', a1, a2, a3, b1, b2, a5⟩
  · exact Or.inr h
theorem z_takeKey (P : Pe C M σ i dep c s n) {j : Nat} {x : Int32} {y : Int64} (hx : x = nI j) (hj : j < 38) (hc : y = kco j) : (∃ σ', K_X2_takeKey x M = some (1, msI M 405 90 (nI (i + 1))) ∧ F_isWord y σ = some (1, σ) ∧ F_next σ = some ((), σ') ∧ Pe C (msI M 405 90 (nI (i + 1))) σ' (i + 1) dep (c + 16) (s + 2048) (n + 4) ∧ Es M σ (msI M 405 90 (nI (i + 1))) σ' ∧ i < ct C) ∨ (K_X2_takeKey x M = some (0, M) ∧ F_isWord y σ = some (0, σ)) := by
  rcases y_takeKey P.px hx hj hc with ⟨σ', a1, a2, a3, a4, a5⟩ | ⟨h1, h2, -⟩
  · obtain ⟨b1, b2⟩ := P.nx a3 a4 a5
    exact Or.inl ⟨σ', a1, a2, a3, b1, b2, a5⟩
  · exact Or.inr ⟨h1, h2⟩
/-- the component's i goes on, the twin reads on -/
theorem z_step (P : Pe C M σ i dep c s n) (hi : i < ct C) : ∃ σ', F_next σ = some ((), σ') ∧ Pe C (msI M 405 90 (nI (i + 1))) σ' (i + 1) dep (c + 16) (s + 2048) (n + 4) ∧ Es M σ (msI M 405 90 (nI (i + 1))) σ' := by
  obtain ⟨σ', a1, a2⟩ := y_next P.px hi
  obtain ⟨b1, b2⟩ := P.nx a1 a2 hi
  exact ⟨σ', a1, b1, b2⟩
/-- deeper, both, at a place -/
theorem z_deeper (P : Pe C M σ i dep c s n) (h1 : 1 ≤ c) (h2 : 8 ≤ s) {x : Int32} (hx : tI σ 12 = x) : (dep < 16 ∧ K_X2_deeper x M = some (.inl (), msI M 406 90 (nI (dep + 1))) ∧ F_deeper σ = some ((), tsI σ 20 (nI (dep + 1))) ∧ Pe C (msI M 406 90 (nI (dep + 1))) (tsI σ 20 (nI (dep + 1))) i (dep + 1) c s n ∧ Es M σ (msI M 406 90 (nI (dep + 1))) (tsI σ 20 (nI (dep + 1)))) ∨ (dep = 16 ∧ ∃ w M' σ', K_X2_deeper x M = some (.inr w, M') ∧ F_deeper σ = some ((), σ') ∧ FB C M σ M' w σ') := by
  have h406 := P.2.2.1.1
  have h20 := P.2.2.1.2.1
  have hd := P.2.2.1.2.2
  unfold K_X2_deeper F_deeper
  have e : mI (msI M 406 90 (nI (dep + 1))) 406 90 = nI (dep + 1) := by rw [mI_msI, ifT ⟨rfl, rfl⟩]
  rw [nm_eq, h406, nI_addL, e, h20, nI_addL]
  by_cases c16 : dep < 16
  · rw [ifT ((nI_leL (by omega) (by decide)).mpr (by show dep + 1 ≤ 16; omega)), ifF (fun z => by rw [nI_eqL (by omega) (by decide)] at z; have z : dep = 16 := z; omega), nm_eq]
    obtain ⟨b1, b2⟩ := P.dp (d := dep + 1) (by omega)
    exact Or.inl ⟨c16, rfl, rfl, b1, b2⟩
  · have hd16 : dep = 16 := by omega
    subst hd16
    have F : Fz (fun o => o = 90) M (msI M 406 90 (nI (16 + 1))) := Fz.rf.msI (fun _ => rfl)
    have cap := P.cap h2
    rw [ifF (by decide), ifT (show nI 16 = (16 : Int32) from rfl), k_wrong (M := msI M 406 90 (nI (16 + 1))) cap (by have := P.n167; show mn M ≠ 0; omega), ob_some, ifT (wM_k _ _ _), hx, t_bad P.g0, ob_some, nm_eq]
    have fb := P.fb h1 h2 (r := 7) (q := x) (by decide)
    have Fw : Fz none_ (msI M 406 90 (nI (16 + 1))) (wM (msI M 406 90 (nI (16 + 1))) 7 x) := wM_f _ _ _
    refine Or.inr ⟨rfl, _, _, _, rfl, rfl, flt_w (σ := σ) (by decide), ⟨F.tr2 Fw (fun _ _ z => absurd z (fun q => q)), fun g => ?_, fun g g1 g2 => ?_, ?_, ?_⟩, ⟨?_, ?_⟩, ?_⟩
    · rw [(Fw.so (by have := P.n167; show 90 < mn M; omega) (fun q => q)).r]; rfl
    · rw [(Fw.so (by have := P.n167; show 90 < mn M; omega) (fun q => q)).i, mI_msI, ifF (fun z => g2 z.1)]
    · exact Tz.ft ((((Ft.rf [0, 1, 20] σ).p_tsI rfl).p_tsI rfl).p_tsI rfl) (by decide)
    · exact ((((Ft.rf [0, 1, 20] σ).p_tsI rfl).p_tsI rfl).p_tsI rfl).mono (by decide)
    · have := fb.2.2.1.1; exact this
    · have := fb.2.2.1.2; exact this
    · exact fb.2.2.2
/-- a parenthesis opens: K_X2_opens against isSign, deeper, pass -/
theorem z_opens (P : Pe C M σ i dep c s n) (h1 : 1 ≤ c) (h2 : 8 ≤ s) : (∃ M' σ', K_X2_opens M = some (.inl (), M') ∧ F_isSign 40 σ = some (1, σ) ∧ F_deeper σ = some ((), tsI σ 20 (nI (dep + 1))) ∧ F_pass 40 (tsI σ 20 (nI (dep + 1))) = some ((), σ') ∧ Pe C M' σ' (i + 1) (dep + 1) (c + 16) (s + 2048) (n + 4) ∧ Es M σ M' σ' ∧ dep < 16 ∧ i < ct C ∧ mn M' = mn M) ∨ (∃ w M' σ', K_X2_opens M = some (.inr w, M') ∧ F_isSign 40 σ = some (0, σ) ∧ F_pass 40 σ = some ((), σ') ∧ FB C M σ M' w σ') ∨ ∃ w M' σ', K_X2_opens M = some (.inr w, M') ∧ F_isSign 40 σ = some (1, σ) ∧ F_deeper σ = some ((), σ') ∧ FB C M σ M' w σ' := by
  obtain ⟨g1, g2⟩ := P.px.in1
  have h12 : tI σ 12 = mA M 94 i := by
    obtain ⟨kd, s, ⟨b1, b2, b3, _⟩, _⟩ := P.1.2.2.2.2.1
    rw [b3, b1]
  unfold K_X2_opens
  rw [ifT g1, nm_eq, g2]
  rcases z_pass P h1 h2 (x := 40) (by decide) with ⟨_, _, σ1, a1, a2, a3, a4, a5, _⟩ | ⟨w, M', y, σ', a1, a2, a3⟩
  · -- the sign stands here
    rw [a1, obS_inl]
    have hs : F_isSign 40 σ = some (1, σ) := by
      rcases y_sign P.px (c := 40) (by decide) with ⟨_, e, _⟩ | ⟨e1, e2, _⟩
      · exact e
      · exfalso
        unfold K_X2_sign K_X2_take at a1
        rw [e1, ob_some, ifT rfl, ob_some, ifT rfl] at a1
        obtain ⟨r, s, q1, q2⟩ := obE a1
        obtain ⟨_, q3⟩ := ifg q2
        cases q3
    rcases z_deeper P h1 h2 (x := mA M 94 i) h12 with ⟨d1, d2, d3, d4, d5⟩ | ⟨d1, w, M', σ', d2, d3, d4⟩
    · obtain ⟨s1, t1, b1, b2⟩ : ∃ σ', F_next (tsI σ 20 (nI (dep + 1))) = some ((), σ') ∧ Pe C (msI (msI M 406 90 (nI (dep + 1))) 405 90 (nI (i + 1))) σ' (i + 1) (dep + 1) (c + 16) (s + 2048) (n + 4) ∧ Es (msI M 406 90 (nI (dep + 1))) (tsI σ 20 (nI (dep + 1))) (msI (msI M 406 90 (nI (dep + 1))) 405 90 (nI (i + 1))) σ' := z_step d4 a5
      have comm : msI (msI M 406 90 (nI (dep + 1))) 405 90 (nI (i + 1)) = msI (msI M 405 90 (nI (i + 1))) 406 90 (nI (dep + 1)) := by
        unfold msI
        refine Prod.ext ?_ rfl
        funext g o
        show (if g = 405 ∧ o = 90 then _ else if g = 406 ∧ o = 90 then _ else _) = (if g = 406 ∧ o = 90 then _ else if g = 405 ∧ o = 90 then _ else _)
        by_cases q1 : g = 405 ∧ o = 90
        · rw [if_pos q1, if_neg (fun z => by omega), if_pos q1]
        · rw [if_neg q1]
          by_cases q2 : g = 406 ∧ o = 90
          · rw [if_pos q2, if_pos q2]
          · rw [if_neg q2, if_neg q2, if_neg q1]
      have hk : K_X2_deeper (mA M 94 i) (msI M 405 90 (nI (i + 1))) = some (.inl (), msI (msI M 405 90 (nI (i + 1))) 406 90 (nI (dep + 1))) := by
        unfold K_X2_deeper
        have e0 : mI (msI M 405 90 (nI (i + 1))) 406 90 = nI dep := by rw [mI_msI, ifF (by omega)]; exact P.2.2.1.1
        rw [nm_eq, e0, nI_addL, show mI (msI (msI M 405 90 (nI (i + 1))) 406 90 (nI (dep + 1))) 406 90 = nI (dep + 1) from by rw [mI_msI, ifT ⟨rfl, rfl⟩], ifT ((nI_leL (by omega) (by decide)).mpr (by show dep + 1 ≤ 16; omega))]
      rw [hk, obS_inl]
      have hp : F_pass 40 (tsI σ 20 (nI (dep + 1))) = some ((), s1) := by
        unfold F_pass
        have e1 : F_isSign 40 (tsI σ 20 (nI (dep + 1))) = some (1, tsI σ 20 (nI (dep + 1))) := by
          unfold F_isSign at hs ⊢
          show (if tI σ 11 = 3 then (if tI σ 14 = 40 then some ((1 : Int32), tsI σ 20 (nI (dep + 1))) else some (0, tsI σ 20 (nI (dep + 1)))) else some (0, tsI σ 20 (nI (dep + 1)))) = _
          by_cases c1 : tI σ 11 = 3
          · rw [ifT c1] at hs ⊢
            by_cases c2 : tI σ 14 = 40
            · rw [ifT c2]
            · rw [ifF c2] at hs; injection hs with hs; injection hs with hs _; exact absurd hs (by decide)
          · rw [ifF c1] at hs; injection hs with hs; injection hs with hs _; exact absurd hs (by decide)
        rw [t_isBad0 (show tI (tsI σ 20 (nI (dep + 1))) 0 = 0 from P.g0), ob_some, ifT rfl, e1, ob_some, ifF (by decide), t1, ob_some]
      rw [← comm]
      exact Or.inl ⟨_, s1, rfl, hs, d3, hp, b1, d5.tr b2, d1, a5, rfl⟩
    · subst d1
      right; right
      have cap := a3.cap (k := 8) (by omega)
      have hk : K_X2_deeper (mA M 94 i) (msI M 405 90 (nI (i + 1))) = some (.inr (mn M), wM (msI (msI M 405 90 (nI (i + 1))) 406 90 (nI (16 + 1))) 7 (mA M 94 i)) := by
        unfold K_X2_deeper
        have e0 : mI (msI M 405 90 (nI (i + 1))) 406 90 = nI 16 := by rw [mI_msI, ifF (by omega)]; exact P.2.2.1.1
        rw [nm_eq, e0, nI_addL, show mI (msI (msI M 405 90 (nI (i + 1))) 406 90 (nI (16 + 1))) 406 90 = nI (16 + 1) from by rw [mI_msI, ifT ⟨rfl, rfl⟩], ifF (by decide), k_wrong (M := msI (msI M 405 90 (nI (i + 1))) 406 90 (nI (16 + 1))) cap (by have := P.n167; show mn M ≠ 0; omega), ob_some, ifT (wM_k _ _ _)]
        rfl
      rw [hk, obS_inr]
      have hd : F_deeper σ = some ((), tsI (tsI (tsI σ 0 7) 1 (mA M 94 i)) 20 (nI (16 + 1))) := by
        unfold F_deeper
        rw [P.2.2.1.2.1, ifT (show nI 16 = (16 : Int32) from rfl), h12, t_bad P.g0, ob_some, nm_eq, show tI (tsI (tsI σ 0 7) 1 (mA M 94 i)) 20 = nI 16 from P.2.2.1.2.1, nI_addL]
      have fb := P.fb h1 h2 (r := 7) (q := mA M 94 i) (by decide)
      have F : Fz (fun o => o = 90) M (msI (msI M 405 90 (nI (i + 1))) 406 90 (nI (16 + 1))) := ((Fz.rf (X := fun o => o = 90)).msI (fun _ => rfl)).msI (fun _ => rfl)
      have Fw : Fz none_ (msI (msI M 405 90 (nI (i + 1))) 406 90 (nI (16 + 1))) (wM (msI (msI M 405 90 (nI (i + 1))) 406 90 (nI (16 + 1))) 7 (mA M 94 i)) := wM_f _ _ _
      refine ⟨mn M, _, _, rfl, hs, hd, flt_w (M := msI (msI M 405 90 (nI (i + 1))) 406 90 (nI (16 + 1))) (σ := σ) (by decide), ⟨F.tr2 Fw (fun _ _ z => absurd z (fun q => q)), fun g => ?_, fun g g1 g2 => ?_, ?_, ?_⟩, fb.2.2.1, ?_⟩
      · rw [(Fw.so (by have := P.n167; show 90 < mn M; omega) (fun q => q)).r]; rfl
      · rw [(Fw.so (by have := P.n167; show 90 < mn M; omega) (fun q => q)).i, mI_msI, ifF (fun z => g2 z.1), mI_msI, ifF (fun z => g1 z.1)]
      · exact Tz.ft ((((Ft.rf [0, 1, 20] σ).p_tsI rfl).p_tsI rfl).p_tsI rfl) (by decide)
      · exact ((((Ft.rf [0, 1, 20] σ).p_tsI rfl).p_tsI rfl).p_tsI rfl).mono (by decide)
      · exact fb.2.2.2
  · -- it doesn't
    rw [a1, obS_inr]
    right; left
    refine ⟨w, M', σ', rfl, ?_, a2, a3⟩
    rcases y_sign P.px (c := 40) (by decide) with ⟨e1, e, hi, _⟩ | ⟨e1, e2, _⟩
    · exfalso
      unfold K_X2_sign K_X2_take at a1
      rw [e1, ob_some, ifF (by decide), nm_eq, ob_some, ifF (by decide)] at a1
      injection a1 with a1; injection a1 with a1 _; cases a1
    · exact e2
/-- a parenthesis closes -/
theorem z_closes (P : Pe C M σ i (dep + 1) c s n) (h1 : 1 ≤ c) (h2 : 8 ≤ s) : (∃ M' σ1 σ', K_X2_closes M = some (.inl (), M') ∧ F_pass 41 σ = some ((), σ1) ∧ σ' = tsI σ1 20 (tI σ1 20 - 1) ∧ Pe C M' σ' (i + 1) dep (c + 16) (s + 2048) (n + 4) ∧ Es M σ M' σ' ∧ i < ct C ∧ mn M' = mn M) ∨ ∃ w M' σ', K_X2_closes M = some (.inr w, M') ∧ F_pass 41 σ = some ((), σ') ∧ FB C M σ M' w σ' := by
  unfold K_X2_closes
  rcases z_pass P h1 h2 (x := 41) (by decide) with ⟨_, _, σ1, a1, a2, a3, a4, a5, _⟩ | ⟨w, M', y, σ', a1, a2, a3⟩
  · rw [a1, obS_inl, nm_eq, a3.2.2.1.1]
    have e1 : nI (dep + 1) - 1 = nI dep := by rw [show (1 : Int32) = nI 1 from rfl, nI_sub (by omega), show dep + 1 - 1 = dep by omega]
    have hd := P.2.2.1.2.2
    obtain ⟨b1, b2⟩ := a3.dp (d := dep) (by omega)
    rw [e1]
    exact Or.inl ⟨_, σ1, _, rfl, a2, rfl, by rw [a3.2.2.1.2.1, e1]; exact b1, by rw [a3.2.2.1.2.1, e1]; exact a4.tr b2, a5, rfl⟩
  · rw [a1, obS_inr]
    exact Or.inr ⟨w, M', σ', rfl, a2, a3⟩
end ST
