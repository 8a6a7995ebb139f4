/-! Layer B: the twin writes elements and modifications at new places alone (with a fault too) -/
set_option maxRecDepth 100000
def Km (σ : TS) : Prop := ∃ K, tI σ 65 = nI K ∧ 1 ≤ K ∧ K ≤ 2499
def Hm (e : Nat) (σ0 σ : TS) : Prop := Km σ ∧ Mz σ0 σ ∧ Eo e σ0 σ
def HW (e : Nat) (σ0 : TS) {α : Type} (o : Option (α × TS)) : Prop := ∀ r σ', o = some (r, σ') → Hm e σ0 σ'
abbrev eTb : List Nat := [50, 51, 52, 53, 54, 55, 56, 57, 59, 60, 61, 62, 63, 64, 65]
section FREL
variable {e : Nat} {σ0 s : TS} {α β γ : Type}
theorem Hm.ft {S : List Nat} {s' : TS} (hb : Hm e σ0 s) (f : Ft S s s') (hS : eTb.all (fun k => !S.contains k) = true) : Hm e σ0 s' := by
  have hf : ∀ k, k ∈ eTb → S.contains k = false := fun k hk => by
    have := List.all_eq_true.mp hS k hk
    simpa using this
  obtain ⟨⟨K, k1, k2, k3⟩, h2, h3⟩ := hb
  refine ⟨⟨K, by rw [(f 65 (hf 65 (by decide))).1]; exact k1, k2, k3⟩, h2.tr (Mz.ft f ?_), h3.tr (Eo.ft f ?_)⟩
  · rw [List.all_eq_true]
    intro k hk
    rw [hf k (by revert hk; simp only [List.mem_cons, List.not_mem_nil, or_false]; omega)]; rfl
  · rw [List.all_eq_true]
    intro k hk
    rw [hf k (by revert hk; simp only [List.mem_cons, List.not_mem_nil, or_false]; omega)]; rfl
theorem HW.sm {r : α} (hb : Hm e σ0 s) : HW e σ0 (some (r, s)) := fun _ _ h => by cases h; exact hb
theorem HW.no : HW e σ0 (none : Option (α × TS)) := fun _ _ h => by cases h
theorem HW.oF {S : List Nat} {o : Option (α × TS)} {k : α → TS → Option (β × TS)} (f : FS S s o) (hb : Hm e σ0 s) (hS : eTb.all (fun k => !S.contains k) = true) (g : ∀ r s', Hm e σ0 s' → HW e σ0 (k r s')) : HW e σ0 (ob o k) := fun r σ' h => by
  obtain ⟨a, t, e1, e2⟩ := obE h
  exact g a t (hb.ft (f a t e1) hS) r σ' e2
theorem HW.tl {S : List Nat} {o : Option (α × TS)} (f : FS S s o) (hb : Hm e σ0 s) (hS : eTb.all (fun k => !S.contains k) = true) : HW e σ0 o := fun r σ' h => hb.ft (f r σ' h) hS
theorem HW.oH {o : Option (α × TS)} {k : α → TS → Option (β × TS)} (f : HW e σ0 o) (g : ∀ r s', Hm e σ0 s' → HW e σ0 (k r s')) : HW e σ0 (ob o k) := fun r σ' h => by
  obtain ⟨a, t, e1, e2⟩ := obE h
  exact g a t (f a t e1) r σ' e2
theorem HW.ite {c : Prop} [Decidable c] {a b : Option (α × TS)} (h1 : HW e σ0 a) (h2 : HW e σ0 b) : HW e σ0 (if c then a else b) := by
  split
  · exact h1
  · exact h2
theorem HW.nmV {x : α} {f : α → Option (β × TS)} (h : HW e σ0 (f x)) : HW e σ0 (nm x f) := h
theorem Hm.eA {f : Nat} {u : Int32} (hb : Hm e σ0 s) (hf : f = 52 ∨ f = 53 ∨ f = 54 ∨ f = 55 ∨ f = 56 ∨ f = 57) : Hm e σ0 (tsA s f e u) := by
  obtain ⟨h1, h2, h3⟩ := hb
  have fr : Ft [f] s (tsA s f e u) := (Ft.rf [f] s).p_tsA (by simp)
  exact ⟨h1, h2.tr (Mz.ft fr (by rcases hf with rfl | rfl | rfl | rfl | rfl | rfl <;> decide)), h3.tr Eo.sA⟩
theorem Hm.eB {f : Nat} {u : Int64} (hb : Hm e σ0 s) (hf : f = 50 ∨ f = 51) : Hm e σ0 (tsB s f e u) := by
  obtain ⟨h1, h2, h3⟩ := hb
  have fr : Ft [f] s (tsB s f e u) := (Ft.rf [f] s).p_tsB (by simp)
  exact ⟨h1, h2.tr (Mz.ft fr (by rcases hf with rfl | rfl <;> decide)), h3.tr Eo.sB⟩
theorem HW.eA {f : Nat} {u : Int32} {g : TS → Option (β × TS)} (he : e < 481) (hb : Hm e σ0 s) (hf : f = 52 ∨ f = 53 ∨ f = 54 ∨ f = 55 ∨ f = 56 ∨ f = 57) (h : ∀ s', Hm e σ0 s' → HW e σ0 (g s')) : HW e σ0 (nm (tsA s f (ix (nI e)) u) g) := by
  rw [ix_nI (by omega)]; exact h _ (hb.eA hf)
theorem HW.eB {f : Nat} {u : Int64} {g : TS → Option (β × TS)} (he : e < 481) (hb : Hm e σ0 s) (hf : f = 50 ∨ f = 51) (h : ∀ s', Hm e σ0 s' → HW e σ0 (g s')) : HW e σ0 (nm (tsB s f (ix (nI e)) u) g) := by
  rw [ix_nI (by omega)]; exact h _ (hb.eB hf)
theorem Hm.mA {f j : Nat} {u : Int32} (hb : Hm e σ0 s) (hj : tM σ0 ≤ j) (hf : f = 59 ∨ f = 60 ∨ f = 61 ∨ f = 62) : Hm e σ0 (tsA s f j u) := by
  obtain ⟨h1, h2, h3⟩ := hb
  have fr : Ft [f] s (tsA s f j u) := (Ft.rf [f] s).p_tsA (by simp)
  refine ⟨h1, ⟨h2.1, fun n hn => ⟨fun g hg => ?_, (h2.2 n hn).2⟩⟩, h3.tr (Eo.ft fr (by rcases hf with rfl | rfl | rfl | rfl <;> decide))⟩
  rw [tA_tsA, ifF (by omega)]
  exact (h2.2 n hn).1 g hg
theorem Hm.mB {f j : Nat} {u : Int64} (hb : Hm e σ0 s) (hj : tM σ0 ≤ j) (hf : f = 63 ∨ f = 64) : Hm e σ0 (tsB s f j u) := by
  obtain ⟨h1, h2, h3⟩ := hb
  have fr : Ft [f] s (tsB s f j u) := (Ft.rf [f] s).p_tsB (by simp)
  refine ⟨h1, ⟨h2.1, fun n hn => ⟨(h2.2 n hn).1, fun g hg => ?_⟩⟩, h3.tr (Eo.ft fr (by rcases hf with rfl | rfl <;> decide))⟩
  rw [tB_tsB, ifF (by omega)]
  exact (h2.2 n hn).2 g hg
theorem HW.mA {f j : Nat} {u : Int32} {g : TS → Option (β × TS)} (h25 : j < 2500) (hb : Hm e σ0 s) (hj : tM σ0 ≤ j) (hf : f = 59 ∨ f = 60 ∨ f = 61 ∨ f = 62) (h : ∀ s', Hm e σ0 s' → HW e σ0 (g s')) : HW e σ0 (nm (tsA s f (ix (nI j)) u) g) := by
  rw [ix_nI (by omega)]; exact h _ (hb.mA hj hf)
theorem HW.mB {f j : Nat} {u : Int64} {g : TS → Option (β × TS)} (h25 : j < 2500) (hb : Hm e σ0 s) (hj : tM σ0 ≤ j) (hf : f = 63 ∨ f = 64) (h : ∀ s', Hm e σ0 s' → HW e σ0 (g s')) : HW e σ0 (nm (tsB s f (ix (nI j)) u) g) := by
  rw [ix_nI (by omega)]; exact h _ (hb.mB hj hf)
/-- where the last modification stands -/
def Lm (σ0 : TS) (x1 x2 : Int32) : Prop := x1 = 0 ∨ ∃ j, x2 = nI j ∧ tM σ0 ≤ j ∧ j < 2500
theorem hw_mods : ∀ (n : Nat) (x1 x2 : Int32) (s : TS), Hm e σ0 s → Lm σ0 x1 x2 → HW e σ0 (L_modsOf_26 n x1 x2 s) := by
  intro n
  induction n with
  | zero => intro x1 x2 s hb hl; exact HW.no
  | succ n ih =>
    intro x1 x2 s hb hl
    have j58 : ∀ (j : Nat) (s : TS), Hm e σ0 s → j < 2500 → tM σ0 ≤ j → HW e σ0 (J_modsOf_58_26 (L_modsOf_26 n) x1 x2 (nI j) s) := fun j s hb h25 hj => by
      have j146 : ∀ s, Hm e σ0 s → HW e σ0 (J_modsOf_146_26 (L_modsOf_26 n) x1 x2 (nI j) s) := fun s hb => by
        unfold J_modsOf_146_26
        by_cases h0 : x1 = 0
        · rw [ifT h0]
          exact HW.oF (fS_F_isSign _ _) hb (by decide) fun r s hb => HW.ite (HW.sm hb) (HW.oF (fS_F_next _) hb (by decide) fun r s hb => ih _ _ _ hb (Or.inr ⟨j, rfl, hj, h25⟩))
        · rw [ifF h0]
          rcases hl with h | ⟨j2, rfl, h2, h3⟩
          · exact absurd h h0
          · exact HW.ite (HW.mA h3 hb h2 (by decide) fun s hb => HW.oF (fS_F_isSign _ _) hb (by decide) fun r s hb => HW.ite (HW.sm hb) (HW.oF (fS_F_next _) hb (by decide) fun r s hb => ih _ _ _ hb (Or.inr ⟨j, rfl, hj, h25⟩))) HW.no
      unfold J_modsOf_58_26
      refine HW.ite (HW.mA h25 hb hj (by decide) fun s hb => HW.oF (fS_F_isWord _ _) hb (by decide) fun r s hb => HW.ite (HW.mA h25 hb hj (by decide) fun s hb => HW.ite (HW.ite ?_ ?_) HW.no) HW.no) HW.no
      · exact HW.oF (fS_F_path _) hb (by decide) fun r s hb => HW.ite (HW.mA h25 hb hj (by decide) fun s hb => HW.oF (fS_F_pass _ _) hb (by decide) fun r s hb => HW.oF (fS_F_expression _) hb (by decide) fun r s hb => HW.ite (HW.mA h25 hb hj (by decide) fun s hb => j146 s hb) HW.no) HW.no
      · exact HW.oF (fS_F_next _) hb (by decide) fun r s hb => HW.oF (fS_F_passName _) hb (by decide) fun r s hb => HW.ite (HW.mB h25 hb hj (by decide) fun s hb => HW.oF (fS_F_pass _ _) hb (by decide) fun r s hb => HW.oF (fS_F_passName _) hb (by decide) fun r s hb => HW.ite (HW.mB h25 hb hj (by decide) fun s hb => j146 s hb) HW.no) HW.no
    rw [L_modsOf_26]
    refine HW.oF (fS_F_isBad _) hb (by decide) fun r s hb => HW.ite ?_ (HW.sm hb)
    obtain ⟨⟨K, k1, k2, k3⟩, h2, h3⟩ := id hb
    have hK : tM σ0 ≤ K := by
      have := h2.1
      unfold tM at this ⊢
      rw [k1, ix_nI (by omega)] at this
      exact this
    refine HW.nmV ?_
    rw [k1]
    by_cases hc : (2499 : Int32) ≤ nI K
    · rw [ifT hc]
      exact j58 K s hb (by omega) hK
    · rw [ifF hc, nI_addL]
      have hlt : K < 2499 := by
        rw [show (2499 : Int32) = nI 2499 from rfl, bI_le (by decide) (by omega)] at hc
        omega
      refine HW.nmV (j58 K _ ?_ (by omega) hK)
      have fr : Ft [65] s (tsI s 65 (nI (K + 1))) := (Ft.rf [65] s).p_tsI rfl
      refine ⟨⟨K + 1, rfl, by omega, by omega⟩, ⟨?_, fun n hn => ⟨fun f hf => ?_, fun f hf => ?_⟩⟩, h3.tr (Eo.ft fr (by decide))⟩
      · show tM σ0 ≤ ix (nI (K + 1))
        rw [ix_nI (by omega)]; omega
      · exact (h2.2 n hn).1 f hf
      · exact (h2.2 n hn).2 f hf
theorem hw_modsOf (hb : Hm e σ0 s) : HW e σ0 (F_modsOf s) := by
  unfold F_modsOf
  exact HW.oF (fS_F_isBad _) hb (by decide) fun r s hb => HW.ite (HW.oF (fS_F_isSign _ _) hb (by decide) fun r s hb => HW.ite (HW.sm hb) (HW.oF (fS_F_next _) hb (by decide) fun r s hb => HW.oH (hw_mods _ _ _ _ hb (Or.inl rfl)) fun r s hb => HW.oF (fS_F_pass _ _) hb (by decide) fun r s hb => HW.sm hb)) (HW.sm hb)
theorem hw_218 (he : e < 481) (a b c d : Int32) (hb : Hm e σ0 s) : HW e σ0 (J_component_218 a (nI e) b c d s) := by
  unfold J_component_218
  exact HW.ite (HW.tl (fS_J_component_239 _ _ _ _ _ _) hb (by decide)) (HW.oF (fS_F_next _) hb (by decide) fun r s hb => HW.oF (fS_F_expression _) hb (by decide) fun r s hb => HW.ite (HW.eA he hb (by decide) fun s hb => HW.tl (fS_J_component_239 _ _ _ _ _ _) hb (by decide)) HW.no)
theorem hw_187 (he : e < 481) (a b c : Int32) (hb : Hm e σ0 s) : HW e σ0 (J_component_187 a (nI e) b c s) := by
  unfold J_component_187 J_component_217
  exact HW.oH (hw_modsOf hb) fun r s hb => HW.ite (HW.eA he hb (by decide) fun s hb => HW.oF (fS_F_isBad _) hb (by decide) fun r s hb => HW.ite (HW.oF (fS_F_isSign _ _) hb (by decide) fun r s hb => HW.ite (hw_218 he _ _ _ _ hb) (hw_218 he _ _ _ _ hb)) (hw_218 he _ _ _ _ hb)) HW.no
theorem hw_169 (he : e < 481) (a b c : Int32) (hb : Hm e σ0 s) : HW e σ0 (J_component_169 a (nI e) b c s) := by
  unfold J_component_169
  exact HW.oF (fS_F_passWhole _ _) hb (by decide) fun r s hb => HW.ite (HW.eA he hb (by decide) fun s hb => HW.oF (fS_F_pass _ _) hb (by decide) fun r s hb => hw_187 he _ _ _ hb) HW.no
theorem hw_110 (he : e < 481) (a b : Int32) (hb : Hm e σ0 s) : HW e σ0 (J_component_110 a (nI e) b s) := by
  unfold J_component_110
  exact HW.nmV (HW.oF (fS_F_passName _) hb (by decide) fun r s hb => HW.ite (HW.eB he hb (by decide) fun s hb => HW.oF (fS_F_isBad _) hb (by decide) fun r s hb => HW.ite (HW.oF (fS_F_isSign _ _) hb (by decide) fun r s hb => HW.ite (hw_187 he _ _ _ hb) (HW.oF (fS_F_next _) hb (by decide) fun r s hb => HW.ite (HW.ite (hw_169 he _ _ _ hb) (HW.oF (fS_F_cantStand _) hb (by decide) fun r s hb => hw_169 he _ _ _ hb)) (hw_169 he _ _ _ hb))) (HW.sm hb)) HW.no)
theorem hw_u6 (he : e < 481) : ∀ (n : Nat) (x2 : Int32) (s : TS), Hm e σ0 s → HW e σ0 (L_readUnit_6 n (nI e) x2 s) := by
  intro n
  induction n with
  | zero => intro x2 s hb; exact HW.no
  | succ n ih =>
    intro x2 s hb
    have j51 : ∀ (x y : Int32) (s : TS), Hm e σ0 s → HW e σ0 (J_readUnit_51_6 (L_readUnit_6 n) (nI e) x y s) := fun x y s hb => by
      unfold J_readUnit_51_6
      exact HW.oF (fS_F_passWhole _ _) hb (by decide) fun r s hb => HW.ite (HW.ite (HW.ite (HW.eA he hb (by decide) fun s hb => HW.nmV (ih _ _ hb)) HW.no) (HW.ite (HW.eA he hb (by decide) fun s hb => HW.nmV (ih _ _ hb)) HW.no)) HW.no
    have j42 : ∀ (x y : Int32) (s : TS), Hm e σ0 s → HW e σ0 (J_readUnit_42_6 (L_readUnit_6 n) (nI e) x y s) := fun x y s hb => by
      unfold J_readUnit_42_6
      exact HW.ite (j51 _ _ _ hb) (HW.oF (fS_F_next _) hb (by decide) fun r s hb => j51 _ _ _ hb)
    have j21 : ∀ (x : Int32) (s : TS), Hm e σ0 s → HW e σ0 (J_readUnit_21_6 (L_readUnit_6 n) (nI e) x s) := fun x s hb => by
      unfold J_readUnit_21_6 J_readUnit_41_6
      exact HW.oF (fS_F_isBad _) hb (by decide) fun r s hb => HW.ite (HW.oF (fS_F_isSign _ _) hb (by decide) fun r s hb => HW.ite (j42 _ _ _ hb) (j42 _ _ _ hb)) (j42 _ _ _ hb)
    rw [L_readUnit_6]
    exact HW.ite (HW.sm hb) (HW.ite (j21 _ _ hb) (HW.oF (fS_F_pass _ _) hb (by decide) fun r s hb => j21 _ _ hb))
theorem hw_unit (he : e < 481) (hb : Hm e σ0 s) : HW e σ0 (F_readUnit (nI e) s) := by
  unfold F_readUnit
  exact HW.oF (fS_F_next _) hb (by decide) fun r s hb => HW.oH (hw_u6 he _ _ _ hb) fun r s hb => HW.oF (fS_L_readUnit_97 _ _ _ _ _) hb (by decide) fun r s hb => HW.ite (HW.ite (HW.ite (HW.eA he hb (by decide) fun s hb => HW.oF (fS_F_pass _ _) hb (by decide) fun r s hb => HW.sm hb) HW.no) HW.no) (HW.ite (HW.eA he hb (by decide) fun s hb => HW.oF (fS_F_pass _ _) hb (by decide) fun r s hb => HW.sm hb) HW.no)
theorem hw_52 (he : e < 481) (a : Int32) (hb : Hm e σ0 s) : HW e σ0 (J_component_52 a (nI e) s) := by
  unfold J_component_52
  exact HW.oF (fS_F_isBad _) hb (by decide) fun r s hb => HW.ite (HW.oF (fS_F_isWord _ _) hb (by decide) fun r s hb => HW.ite (HW.oF (fS_F_passName _) hb (by decide) fun r s hb => HW.ite (HW.eB he hb (by decide) fun s hb => hw_110 he _ _ hb) HW.no) (HW.oF (fS_F_next _) hb (by decide) fun r s hb => HW.ite (HW.eB he hb (by decide) fun s hb => HW.oF (fS_F_isSign _ _) hb (by decide) fun r s hb => HW.ite (hw_110 he _ _ hb) (HW.oH (hw_unit he hb) fun r s hb => hw_110 he _ _ hb)) HW.no)) (HW.sm hb)
theorem hw_c0 (he : e < 481) (a : Int32) : ∀ (n : Nat) (s : TS), Hm e σ0 s → HW e σ0 (L_component_0 n a (nI e) s) := by
  intro n
  induction n with
  | zero => intro s hb; exact HW.no
  | succ n ih =>
    intro s hb
    rw [L_component_0]
    exact HW.oF (fS_F_isBad _) hb (by decide) fun r s hb => HW.ite (HW.oF (fS_F_flag _) hb (by decide) fun r s hb => HW.ite (HW.sm hb) (HW.oF (fS_F_flag _) hb (by decide) fun r s hb => HW.ite (HW.ite (HW.ite (HW.ite (HW.eA he hb (by decide) fun s hb => HW.oF (fS_F_next _) hb (by decide) fun r s hb => ih _ hb) HW.no) HW.no) (HW.oF (fS_F_cantStand _) hb (by decide) fun r s hb => HW.sm hb)) HW.no)) (HW.sm hb)
theorem hw_comp (he : e < 481) (a : Int32) (hb : Hm e σ0 s) : HW e σ0 (F_component a (nI e) s) := by
  unfold F_component
  intro r σ' h
  rcases obSE h with ⟨x, t, e1, e2⟩ | ⟨x, t, e1, e2⟩
  · exact hw_52 he a (hw_c0 he a _ _ hb _ _ e1) r σ' e2
  · cases e2
    exact hw_c0 he a _ _ hb _ _ e1
/-- an element: it's written at its place, and the class counts it -/
theorem fr_element {c E : Nat} {x : Unit} {σ' : TS} (hc : c < 24) (h58 : tI s 58 = nI E) (hE : E < 481) (hK : Km s) (h : F_element (nI c) s = some (x, σ')) : Km σ' ∧ Mz s σ' ∧ Ez s σ' ∧ ∀ k, k ≠ c → tA σ' 46 k = tA s 46 k := by
  have hin : inb (nI c) 24 := inb_nI' hc (by decide)
  have hie : inb (nI E) 481 := inb_nI' hE (by decide)
  have he := hE
  have h0 : Hm E s s := ⟨hK, Mz.rf s, Eo.rf⟩
  have fin : ∀ t, Hm E s t → (∀ k, k ≠ c → tA t 46 k = tA s 46 k) → tI t 58 = nI E ∨ tI t 58 = nI (E + 1) → Km t ∧ Mz s t ∧ Ez s t ∧ ∀ k, k ≠ c → tA t 46 k = tA s 46 k := fun t hb h46 h5 => by
    refine ⟨hb.1, hb.2.1, ⟨?_, fun e he => ⟨fun f hf => hb.2.2.1 f hf e ?_, fun f hf => hb.2.2.2 f hf e ?_⟩⟩, h46⟩
    · rw [h58]
      rw [ix_nI (by omega)]
      rcases h5 with q | q <;> rw [q, ix_nI (by omega)] <;> omega
    · rw [h58, ix_nI (by omega)] at he; omega
    · rw [h58, ix_nI (by omega)] at he; omega
  unfold F_element at h
  rw [ifT hin] at h
  by_cases h20 : tA s 46 (ix (nI c)) = 20
  · rw [ifT h20] at h
    have ft : ∀ t, Ft [0, 1] s t → Km t ∧ Mz s t ∧ Ez s t ∧ ∀ k, k ≠ c → tA t 46 k = tA s 46 k := fun t f => fin t (h0.ft f (by decide)) (fun k _ => (f 46 rfl).2.2.1 k) (Or.inl (by rw [(f 58 rfl).1]; exact h58))
    have hcs : ∀ (t : TS) (r : Unit) (σ'' : TS), Ft [0, 1] s t → F_cantStand t = some (r, σ'') → Ft [0, 1] s σ'' := fun t r σ'' f e => f.tr ((fS_F_cantStand _ _ _ e).mono (by decide))
    by_cases a0 : tI s 11 = 0
    · rw [ifT a0] at h
      obtain ⟨r, t, e1, e2⟩ := obE h
      cases e2
      exact ft _ (hcs _ _ _ (Ft.rf _ _) e1)
    rw [ifF a0] at h
    by_cases a4 : tI s 11 = 4
    · rw [ifT a4] at h
      obtain ⟨r, t, e1, e2⟩ := obE h
      cases e2
      exact ft _ (hcs _ _ _ (Ft.rf _ _) e1)
    rw [ifF a4] at h
    obtain ⟨r, t, e1, e2⟩ := obE h
    have f1 : Ft [0, 1] s t := (fS_F_isWord _ _ _ _ e1).mono (by decide)
    by_cases b0 : r = 0
    · rw [ifT b0] at e2
      obtain ⟨r2, t2, e3, e4⟩ := obE e2
      cases e4
      exact ft _ (f1.tr ((fS_F_bad _ _ _ _ _ e3).mono (by decide)))
    · rw [ifF b0] at e2
      obtain ⟨r2, t2, e3, e4⟩ := obE e2
      cases e4
      exact ft _ (hcs _ _ _ f1 e3)
  · rw [ifF h20, nm_eq, h58] at h
    have hJ : ∀ (t : TS), Hm E s t → (∀ k, tA t 46 k = tA s 46 k) → tI t 58 = nI E → ∀ r, J_element_162 (nI c) t = some (r, σ') → Km σ' ∧ Mz s σ' ∧ Ez s σ' ∧ ∀ k, k ≠ c → tA σ' 46 k = tA s 46 k := fun t hb h46 h5 r hj => by
      unfold J_element_162 at hj
      obtain ⟨rb, tb, e1, e2⟩ := obE hj
      have fb : Ft [] t tb := (fS_F_isBad _ _ _ e1).mono (by decide)
      have hb2 := hb.ft fb (by decide)
      by_cases b0 : rb = 0
      · rw [ifT b0, nm_eq, ifT hin, ifT hin, nm_eq, ix_nI (by omega)] at e2
        cases e2
        have fx : Ft [58, 46] tb (tsA (tsI tb 58 (tI tb 58 + 1)) 46 c (tA (tsI tb 58 (tI tb 58 + 1)) 46 c + 1)) := ((Ft.rf [58, 46] tb).p_tsI rfl).p_tsA rfl
        refine fin _ (hb2.ft fx (by decide)) (fun k hk => ?_) (Or.inr ?_)
        · rw [tA_tsA, ifF (by omega)]
          show tA tb 46 k = _
          rw [(fb 46 rfl).2.2.1, h46]
        · show tI tb 58 + 1 = _
          rw [(fb 58 rfl).1, h5, nI_addL]
      · rw [ifF b0] at e2
        cases e2
        exact fin _ hb2 (fun k _ => by rw [(fb 46 rfl).2.2.1, h46]) (Or.inl (by rw [(fb 58 rfl).1, h5]))
    -- up to the end: what has been written, and that 46 and 58 stand
    have go : ∀ {α : Type} {S : List Nat} {o : Option (α × TS)} {t : TS} {r : α} {t' : TS}, FS S t o → o = some (r, t') → (∀ k, tA t 46 k = tA s 46 k) ∧ tI t 58 = nI E → S.contains 46 = false → S.contains 58 = false → (∀ k, tA t' 46 k = tA s 46 k) ∧ tI t' 58 = nI E := fun f e h1 h2 h3 => ⟨fun k => by rw [(f _ _ e 46 h2).2.2.1]; exact h1.1 k, by rw [(f _ _ e 58 h3).1]; exact h1.2⟩
    simp only [ifT hie, nm_eq, ix_nI (show E < 2147483648 by omega)] at h
    have hb1 : Hm E s (tsA (tsA (tsA (tsA (tsA s 52 E 0) 53 E 0) 54 E 0) 55 E 0) 56 E 0) := ((((h0.eA (by decide)).eA (by decide)).eA (by decide)).eA (by decide)).eA (by decide)
    have g1 : (∀ k, tA (tsA (tsA (tsA (tsA (tsA s 52 E 0) 53 E 0) 54 E 0) 55 E 0) 56 E 0) 46 k = tA s 46 k) ∧ tI (tsA (tsA (tsA (tsA (tsA s 52 E 0) 53 E 0) 54 E 0) 55 E 0) 56 E 0) 58 = nI E := ⟨fun k => by simp [tA_tsA], h58⟩
    generalize tsA (tsA (tsA (tsA (tsA s 52 E 0) 53 E 0) 54 E 0) 55 E 0) 56 E 0 = t1 at h hb1 g1
    obtain ⟨r2, t2, e2, h⟩ := obE h
    have hb2 := hb1.ft (fS_F_isWord _ _ _ _ e2) (by decide)
    have g2 := go (fS_F_isWord _ _) e2 g1 (by decide) (by decide)
    have hb3 : Hm E s (tsA t2 57 E (nZ r2)) := hb2.eA (by decide)
    have g3 : (∀ k, tA (tsA t2 57 E (nZ r2)) 46 k = tA s 46 k) ∧ tI (tsA t2 57 E (nZ r2)) 58 = nI E := ⟨fun k => by rw [tA_tsA, ifF (by omega)]; exact g2.1 k, g2.2⟩
    generalize tsA t2 57 E (nZ r2) = t3 at h hb3 g3
    by_cases c0 : tA t3 57 E = 0
    · rw [ifT c0] at h
      obtain ⟨r4, t4, e4, h⟩ := obE h
      have g4 := go (fS_F_component _ _ _) e4 g3 (by decide) (by decide)
      exact hJ t4 (hw_comp he _ hb3 _ _ e4) g4.1 g4.2 _ h
    · rw [ifF c0] at h
      obtain ⟨r4, t4, e4, h⟩ := obE h
      have hb4 := hb3.ft (fS_F_next _ _ _ e4) (by decide)
      have g4 := go (fS_F_next _) e4 g3 (by decide) (by decide)
      obtain ⟨r5, t5, e5, h⟩ := obE h
      have hb5 := hb4.ft (fS_F_passName _ _ _ e5) (by decide)
      have g5 := go (fS_F_passName _) e5 g4 (by decide) (by decide)
      have hb6 : Hm E s (tsB (tsB t5 51 E r5) 50 E 0) := (hb5.eB (by decide)).eB (by decide)
      have g6 : (∀ k, tA (tsB (tsB t5 51 E r5) 50 E 0) 46 k = tA s 46 k) ∧ tI (tsB (tsB t5 51 E r5) 50 E 0) 58 = nI E := g5
      generalize tsB (tsB t5 51 E r5) 50 E 0 = t6 at h hb6 g6
      obtain ⟨r7, t7, e7, h⟩ := obE h
      have hb7 := hw_modsOf hb6 _ _ e7
      have g7 := go (fS_F_modsOf _) e7 g6 (by decide) (by decide)
      have hb8 : Hm E s (tsA t7 55 E r7) := hb7.eA (by decide)
      have g8 : (∀ k, tA (tsA t7 55 E r7) 46 k = tA s 46 k) ∧ tI (tsA t7 55 E r7) 58 = nI E := ⟨fun k => by rw [tA_tsA, ifF (by omega)]; exact g7.1 k, g7.2⟩
      generalize tsA t7 55 E r7 = t8 at h hb8 g8
      obtain ⟨r9, t9, e9, h⟩ := obE h
      have hb9 := hb8.ft (fS_F_pass _ _ _ _ e9) (by decide)
      have g9 := go (fS_F_pass _ _) e9 g8 (by decide) (by decide)
      exact hJ t9 hb9 g9.1 g9.2 _ h
end FREL
