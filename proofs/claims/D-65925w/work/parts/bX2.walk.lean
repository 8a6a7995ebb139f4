/-! Layer B: blocks: the walk, in plain terms -/
set_option maxRecDepth 100000
/-- numbers, lowest, blocks (one more), stack, how many walked, how many blocks, where blocks begin, the first that is too large -/
abbrev TjS := (Nat → Nat) × (Nat → Nat) × (Nat → Nat) × List Nat × Nat × Nat × (Nat → Nat) × Option Nat
def sN (f : Nat → Nat) (i v : Nat) : Nat → Nat := fun j => if j = i then v else f j
def wkT (P : TjS) : Nat → Nat := P.1
def loT (P : TjS) : Nat → Nat := P.2.1
def blT (P : TjS) : Nat → Nat := P.2.2.1
def stT (P : TjS) : List Nat := P.2.2.2.1
def wsT (P : TjS) : Nat := P.2.2.2.2.1
def bkT (P : TjS) : Nat := P.2.2.2.2.2.1
def bfT (P : TjS) : Nat → Nat := P.2.2.2.2.2.2.1
def ftT (P : TjS) : Option Nat := P.2.2.2.2.2.2.2
def lowT (P : TjS) (e v : Nat) : TjS := (wkT P, sN (loT P) e (min (loT P e) v), blT P, stT P, wsT P, bkT P, bfT P, ftT P)
def pushT (e : Nat) (P : TjS) : TjS := (sN (wkT P) e (wsT P + 1), sN (loT P) e (wsT P + 1), blT P, stT P ++ [e], wsT P + 1, bkT P, bfT P, ftT P)
def endT (k : Nat) (P : TjS) : TjS := (wkT P, loT P, (fun j => if j ∈ (stT P).drop k then bkT P + 1 else blT P j), (stT P).take k, wsT P, bkT P + 1, sN (bfT P) (bkT P + 1) (bfT P (bkT P) + ((stT P).length - k)), if ftT P = none ∧ 12 < (stT P).length - k then some (bkT P) else ftT P)
def tjl (U : Nat) (ins : Nat → Nat → Bool) (gv : Nat → Nat) (rc : Nat → TjS → TjS) (e : Nat) : Nat → TjS → TjS
  | 0, P => P
  | d + 1, P => if ins e (U - (d + 1)) = true then
      (if wkT P (gv (U - (d + 1))) = 0 then tjl U ins gv rc e d (lowT (rc (gv (U - (d + 1))) P) e (loT (rc (gv (U - (d + 1))) P) (gv (U - (d + 1)))))
       else if blT P (gv (U - (d + 1))) = 0 then tjl U ins gv rc e d (lowT P e (wkT P (gv (U - (d + 1))))) else tjl U ins gv rc e d P)
    else tjl U ins gv rc e d P
def tjF (k e : Nat) (P : TjS) : TjS := if loT P e = wkT P e then endT k P else P
def tj (U : Nat) (ins : Nat → Nat → Bool) (gv : Nat → Nat) : Nat → Nat → TjS → TjS
  | 0, _, P => P
  | f + 1, e, P => tjF (stT P).length e (tjl U ins gv (tj U ins gv f) e U (pushT e P))
/-- what holds on the way -/
def TjI (S : Nat) (c : Nat → Bool) (P : TjS) : Prop :=
  (∀ f, wkT P f ≠ 0 → (f < S ∧ c f = true) ∧ wkT P f ≤ wsT P ∧ 1 ≤ loT P f ∧ loT P f ≤ wkT P f) ∧
  ((stT P).Nodup ∧ ∀ f, f ∈ stT P ↔ (wkT P f ≠ 0 ∧ blT P f = 0)) ∧
  (∀ f, blT P f ≠ 0 → wkT P f ≠ 0 ∧ blT P f ≤ bkT P) ∧
  (bfT P 0 = 0 ∧ ∀ b, b < bkT P → bfT P (b + 1) = bfT P b + cnB (fun f => decide (blT P f = b + 1)) S ∧ 1 ≤ cnB (fun f => decide (blT P f = b + 1)) S) ∧
  cnB (fun f => decide (wkT P f ≠ 0)) S = wsT P ∧ (ftT P = none → ∀ b, b < bkT P → cnB (fun f => decide (blT P f = b + 1)) S ≤ 12)
/-- a later state -/
def TjL (P Q : TjS) : Prop := (∀ f, wkT P f ≠ 0 → wkT Q f = wkT P f) ∧ (∀ f, blT P f ≠ 0 → blT Q f = blT P f) ∧ (∃ x, stT Q = stT P ++ x) ∧ (ftT P ≠ none → ftT Q = ftT P) ∧ bkT P ≤ bkT Q ∧ ∀ b, b ≤ bkT P → bfT Q b = bfT P b
section TARJAN
variable {U S d e f n u k m v : Nat} {ins : Nat → Nat → Bool} {gv : Nat → Nat} {rc : Nat → TjS → TjS} {c p q : Nat → Bool} {P Q R : TjS} {x : List Nat}
theorem sN_eq (f : Nat → Nat) (i v : Nat) : sN f i v i = v := if_pos rfl
theorem sN_ne (f : Nat → Nat) {i j : Nat} (v : Nat) (h : j ≠ i) : sN f i v j = f j := if_neg h
-- counting
theorem cnB_inj : ∀ (U : Nat) (p : Nat → Bool), (∀ u, u < U → q u = true → gv u < S ∧ p (gv u) = true) → (∀ u u', u < U → u' < U → q u = true → q u' = true → gv u = gv u' → u = u') → cnB q U ≤ cnB p S
  | 0, _, _, _ => Nat.zero_le _
  | U + 1, p, h, hi => by
    rw [cnB_step]
    by_cases z : q U = true
    · rw [ifT z]
      obtain ⟨h1, h2⟩ := h U (by omega) z
      have fl : cnB (fun f => p f && decide (f ≠ gv U)) S + 1 = cnB p S := cnB_flip (i := gv U) (fun u hu hne => by
        show (p u && decide (u ≠ gv U)) = p u
        rw [decide_eq_true hne, Bool.and_true]) h1 h2 (by
        show (p (gv U) && decide (gv U ≠ gv U)) = false
        rw [decide_eq_false (fun y => y rfl), Bool.and_false])
      have := cnB_inj U (fun f => p f && decide (f ≠ gv U)) (fun u hu hq => by
        obtain ⟨a, b⟩ := h u (by omega) hq
        refine ⟨a, ?_⟩
        show (p (gv u) && decide (gv u ≠ gv U)) = true
        have ne : gv u ≠ gv U := fun y => by have := hi u U (by omega) (by omega) hq z y; omega
        rw [b, Bool.true_and]; exact decide_eq_true ne) (fun u u' a b => hi u u' (by omega) (by omega))
      omega
    · rw [ifF z]
      have := cnB_inj U p (fun u hu => h u (by omega)) (fun u u' a b => hi u u' (by omega) (by omega))
      omega
/-- as many: what is given to a part is as many as the part -/
theorem cnB_bij (h : ∀ u, u < U → q u = true → gv u < S ∧ c (gv u) = true) (hi : ∀ u u', u < U → u' < U → q u = true → q u' = true → gv u = gv u' → u = u') (e : cnB q U = cnB c S) (hp : ∀ f, f < S → p f = true → c f = true) : cnB (fun u => q u && p (gv u)) U = cnB p S := by
  have a1 := cnB_inj (gv := gv) (S := S) (q := fun u => q u && p (gv u)) U p (fun u hu z => by
    have z : (q u && p (gv u)) = true := z
    rw [Bool.and_eq_true] at z
    exact ⟨(h u hu z.1).1, z.2⟩) (fun u u' a b z z' => hi u u' a b (by
    have z : (q u && p (gv u)) = true := z
    rw [Bool.and_eq_true] at z; exact z.1) (by
    have z' : (q u' && p (gv u')) = true := z'
    rw [Bool.and_eq_true] at z'; exact z'.1))
  have a2 := cnB_inj (gv := gv) (S := S) (q := fun u => q u && !p (gv u)) U (fun f => c f && !p f) (fun u hu z => by
    have z : (q u && !p (gv u)) = true := z
    rw [Bool.and_eq_true] at z
    refine ⟨(h u hu z.1).1, ?_⟩
    show (c (gv u) && !p (gv u)) = true
    rw [(h u hu z.1).2, z.2]; rfl) (fun u u' a b z z' => hi u u' a b (by
    have z : (q u && !p (gv u)) = true := z
    rw [Bool.and_eq_true] at z; exact z.1) (by
    have z' : (q u' && !p (gv u')) = true := z'
    rw [Bool.and_eq_true] at z'; exact z'.1))
  have b1 : cnB q U = cnB (fun u => q u && p (gv u)) U + cnB (fun u => q u && !p (gv u)) U := by
    rw [← cnB_add _ _ (fun u hu z => by
      have z1 : (q u && p (gv u)) = true := z.1
      have z2 : (q u && !p (gv u)) = true := z.2
      rw [Bool.and_eq_true] at z1 z2
      rw [z1.2] at z2; exact absurd z2.2 (by decide))]
    exact cnB_eq (fun u hu => by
      show q u = ((q u && p (gv u)) || (q u && !p (gv u)))
      cases q u <;> cases p (gv u) <;> rfl)
  have b2 : cnB c S = cnB p S + cnB (fun f => c f && !p f) S := by
    rw [← cnB_add _ _ (fun u hu z => by
      have z2 : (c u && !p u) = true := z.2
      rw [Bool.and_eq_true, z.1] at z2
      exact absurd z2.2 (by decide))]
    exact cnB_eq (fun u hu => by
      show c u = (p u || (c u && !p u))
      cases y : p u with
      | true => rw [hp u hu y]; rfl
      | false => cases c u <;> rfl)
  omega
theorem cnB_list : ∀ (x : List Nat), x.Nodup → (∀ f, f ∈ x → f < S) → cnB (fun f => decide (f ∈ x)) S = x.length
  | [], _, _ => by
    have : ∀ n, cnB (fun f => decide (f ∈ ([] : List Nat))) n = 0 := fun n => by
      induction n with
      | zero => rfl
      | succ n ih => rw [cnB_step, ih, ifF (by simp)]
    rw [this]; rfl
  | a :: x, hn, hl => by
    have hn := List.nodup_cons.mp hn
    have ih := cnB_list x hn.2 (fun f hf => hl f (List.mem_cons_of_mem _ hf))
    have fl : cnB (fun f => decide (f ∈ x)) S + 1 = cnB (fun f => decide (f ∈ a :: x)) S := cnB_flip (i := a) (fun u hu hne => by
      show decide (u ∈ x) = decide (u ∈ a :: x)
      refine decide_eq_decide.mpr ?_
      rw [List.mem_cons]
      exact ⟨Or.inr, fun z => z.resolve_left hne⟩) (hl a (List.mem_cons_self ..)) (decide_eq_true (List.mem_cons_self ..)) (decide_eq_false hn.1)
    rw [← fl, ih]; rfl
-- steps
theorem TjL.rf : TjL P P := ⟨fun _ _ => rfl, fun _ _ => rfl, ⟨[], (List.append_nil _).symm⟩, fun _ => rfl, Nat.le_refl _, fun _ _ => rfl⟩
theorem TjL.tr (h : TjL P Q) (g : TjL Q R) : TjL P R := by
  obtain ⟨h1, h2, ⟨x, h3⟩, h4, h5, h6⟩ := h
  obtain ⟨g1, g2, ⟨y, g3⟩, g4, g5, g6⟩ := g
  refine ⟨fun f hf => ?_, fun f hf => ?_, ⟨x ++ y, by rw [g3, h3, List.append_assoc]⟩, fun z => ?_, Nat.le_trans h5 g5, fun b hb => (g6 b (by omega)).trans (h6 b hb)⟩
  · have e := h1 f hf
    exact (g1 f (by rw [e]; exact hf)).trans e
  · have e := h2 f hf
    exact (g2 f (by rw [e]; exact hf)).trans e
  · have e := h4 z
    exact (g4 (by rw [e]; exact z)).trans e
theorem TjL.ws (h : TjL P Q) (i : TjI S c P) (j : TjI S c Q) : wsT P ≤ wsT Q := by
  rw [← i.2.2.2.2.1, ← j.2.2.2.2.1]
  exact cnB_mono (fun u hu z => decide_eq_true (by
    have z := of_decide_eq_true z
    rw [h.1 u z]; exact z))
theorem TjL.on (h : TjL P Q) (i : TjI S c P) (j : TjI S c Q) (he : wkT P e ≠ 0) (hb : blT P e = 0) : blT Q e = 0 := by
  obtain ⟨x, hx⟩ := h.2.2.1
  exact ((j.2.1.2 e).mp (by rw [hx]; exact List.mem_append_left _ ((i.2.1.2 e).mpr ⟨he, hb⟩))).2
theorem TjI.low (i : TjI S c P) (hv : 1 ≤ v) : TjI S c (lowT P e v) ∧ TjL P (lowT P e v) ∧ ∀ g, g ≠ e → loT (lowT P e v) g = loT P g := by
  obtain ⟨h1, h2, h3, h4, h5, h6⟩ := i
  refine ⟨⟨fun f hf => ?_, h2, h3, h4, h5, h6⟩, ⟨fun _ _ => rfl, fun _ _ => rfl, ⟨[], (List.append_nil _).symm⟩, fun _ => rfl, Nat.le_refl _, fun _ _ => rfl⟩, fun g hg => sN_ne _ _ hg⟩
  obtain ⟨a, b, d1, d2⟩ := h1 f hf
  refine ⟨a, b, ?_⟩
  show 1 ≤ sN (loT P) e (min (loT P e) v) f ∧ sN (loT P) e (min (loT P e) v) f ≤ wkT P f
  by_cases y : f = e
  · subst y; rw [sN_eq]; omega
  · rw [sN_ne _ _ y]; exact ⟨d1, d2⟩
theorem TjI.push (i : TjI S c P) (he : e < S) (hc : c e = true) (h0 : wkT P e = 0) : TjI S c (pushT e P) ∧ TjL P (pushT e P) ∧ (∀ g, wkT P g ≠ 0 → loT (pushT e P) g = loT P g) ∧ wkT (pushT e P) e ≠ 0 ∧ blT (pushT e P) e = 0 ∧ wsT (pushT e P) = wsT P + 1 := by
  obtain ⟨h1, ⟨h2, h2'⟩, h3, h4, h5, h6⟩ := i
  have w : ∀ f, wkT (pushT e P) f = if f = e then wsT P + 1 else wkT P f := fun f => rfl
  have l : ∀ f, loT (pushT e P) f = if f = e then wsT P + 1 else loT P f := fun f => rfl
  have ne : ∀ g, wkT P g ≠ 0 → g ≠ e := fun g hg z => hg (by rw [z]; exact h0)
  have b0 : blT P e = 0 := by
    by_cases z : blT P e = 0
    · exact z
    · exact absurd h0 (h3 e z).1
  refine ⟨⟨fun f hf => ?_, ⟨?_, fun f => ?_⟩, fun f hf => ?_, h4, ?_, h6⟩, ⟨fun f hf => by rw [w, ifF (ne f hf)], fun _ _ => rfl, ⟨[e], rfl⟩, fun _ => rfl, Nat.le_refl _, fun _ _ => rfl⟩, fun g hg => by rw [l, ifF (ne g hg)], by rw [w, ifT rfl]; omega, b0, rfl⟩
  · rw [w, l]
    rw [w] at hf
    by_cases y : f = e
    · rw [ifT y, ifT y]
      have : wsT (pushT e P) = wsT P + 1 := rfl
      exact ⟨⟨by omega, by rw [y]; exact hc⟩, by omega, by omega, by omega⟩
    · rw [ifF y] at hf ⊢
      rw [ifF y]
      obtain ⟨a, b, d⟩ := h1 f hf
      have : wsT (pushT e P) = wsT P + 1 := rfl
      exact ⟨a, by omega, d⟩
  · show (stT P ++ [e]).Nodup
    refine List.nodup_append.mpr ⟨h2, by simp, fun a ha b hb => ?_⟩
    rw [List.mem_singleton] at hb
    rw [hb]
    exact ne a ((h2' a).mp ha).1
  · show f ∈ stT P ++ [e] ↔ _
    rw [List.mem_append, List.mem_singleton, h2', w]
    show _ ↔ _ ∧ blT P f = 0
    by_cases y : f = e
    · rw [ifT y]
      exact ⟨fun _ => ⟨by omega, by rw [y]; exact b0⟩, fun _ => Or.inr y⟩
    · rw [ifF y]
      exact ⟨fun z => z.resolve_right y, Or.inl⟩
  · obtain ⟨a, b⟩ := h3 f hf
    refine ⟨?_, b⟩
    rw [w]; split
    · omega
    · exact a
  · have := cnB_flip (n := S) (i := e) (p := fun f => decide (wkT (pushT e P) f ≠ 0)) (q := fun f => decide (wkT P f ≠ 0)) (fun u hu hne => by
      show decide (wkT P u ≠ 0) = decide (wkT (pushT e P) u ≠ 0)
      rw [w, ifF hne]) he (decide_eq_true (by rw [w, ifT rfl]; omega)) (decide_eq_false (fun z => z h0))
    have e2 : wsT (pushT e P) = wsT P + 1 := rfl
    omega
theorem TjI.fin {k' : List Nat} (i : TjI S c Q) (hx : stT Q = x ++ e :: k') : TjI S c (endT x.length Q) ∧ (∀ f, wkT (endT x.length Q) f = wkT Q f) ∧ (∀ f, loT (endT x.length Q) f = loT Q f) ∧ (∀ f, blT (endT x.length Q) f = if f ∈ e :: k' then bkT Q + 1 else blT Q f) ∧ stT (endT x.length Q) = x := by
  obtain ⟨h1, ⟨h2, h2'⟩, h3, ⟨h4, h4'⟩, h5, h6⟩ := i
  have dr : (stT Q).drop x.length = e :: k' := by rw [hx, List.drop_left]
  have tk : (stT Q).take x.length = x := by rw [hx, List.take_left]
  have ln : (stT Q).length - x.length = (e :: k').length := by rw [hx, List.length_append]; omega
  have nd := List.nodup_append.mp (by rw [hx] at h2; exact h2)
  have bl : ∀ f, blT (endT x.length Q) f = if f ∈ e :: k' then bkT Q + 1 else blT Q f := fun f => by
    show (if f ∈ (stT Q).drop x.length then bkT Q + 1 else blT Q f) = _
    rw [dr]
  have on : ∀ f, f ∈ e :: k' → wkT Q f ≠ 0 ∧ blT Q f = 0 := fun f hf => (h2' f).mp (by rw [hx]; exact List.mem_append_right _ hf)
  have st : stT (endT x.length Q) = x := tk
  have bk : bkT (endT x.length Q) = bkT Q + 1 := rfl
  have bf : ∀ b, bfT (endT x.length Q) b = if b = bkT Q + 1 then bfT Q (bkT Q) + (e :: k').length else bfT Q b := fun b => by
    show sN (bfT Q) (bkT Q + 1) (bfT Q (bkT Q) + ((stT Q).length - x.length)) b = _
    rw [ln]; rfl
  have old : ∀ b, b < bkT Q → cnB (fun f => decide (blT (endT x.length Q) f = b + 1)) S = cnB (fun f => decide (blT Q f = b + 1)) S := fun b hb => cnB_eq (fun f hf => by
    show decide (blT (endT x.length Q) f = b + 1) = decide (blT Q f = b + 1)
    rw [bl]
    by_cases y : f ∈ e :: k'
    · rw [ifT y, (on f y).2, decide_eq_false (by omega), decide_eq_false (by omega)]
    · rw [ifF y])
  have new : cnB (fun f => decide (blT (endT x.length Q) f = bkT Q + 1)) S = (e :: k').length := by
    rw [← cnB_list (S := S) (e :: k') nd.2.1 (fun f hf => (h1 f (on f hf).1).1.1)]
    exact cnB_eq (fun f hf => by
      show decide (blT (endT x.length Q) f = bkT Q + 1) = decide (f ∈ e :: k')
      rw [bl]
      by_cases y : f ∈ e :: k'
      · rw [ifT y, decide_eq_true rfl, decide_eq_true y]
      · rw [ifF y, decide_eq_false y, decide_eq_false]
        intro z
        have := (h3 f (by omega)).2
        omega)
  refine ⟨⟨h1, ⟨?_, fun f => ?_⟩, fun f hf => ?_, ⟨?_, fun b hb => ?_⟩, h5, fun hn b hb => ?_⟩, fun _ => rfl, fun _ => rfl, bl, st⟩
  · rw [st]; exact nd.1
  · rw [st, bl]
    show _ ↔ wkT Q f ≠ 0 ∧ _
    constructor
    · intro hf
      have o := (h2' f).mp (by rw [hx]; exact List.mem_append_left _ hf)
      have nin : f ∉ e :: k' := fun y => nd.2.2 f hf f y rfl
      rw [ifF nin]; exact o
    · intro ⟨a, b⟩
      by_cases y : f ∈ e :: k'
      · rw [ifT y] at b; omega
      · rw [ifF y] at b
        have := (h2' f).mpr ⟨a, b⟩
        rw [hx] at this
        exact (List.mem_append.mp this).resolve_right y
  · rw [bl] at hf ⊢
    by_cases y : f ∈ e :: k'
    · rw [ifT y]; exact ⟨(on f y).1, Nat.le_refl _⟩
    · rw [ifF y] at hf ⊢
      obtain ⟨a, b⟩ := h3 f hf
      exact ⟨a, by rw [bk]; omega⟩
  · rw [bf, ifF (by omega)]; exact h4
  · rw [bk] at hb
    by_cases y : b = bkT Q
    · subst y
      rw [bf, ifT rfl, bf, ifF (by omega), new]
      exact ⟨rfl, by simp⟩
    · rw [old b (by omega), bf, ifF (by omega), bf, ifF (by omega)]
      exact h4' b (by omega)
  · have hn : (if ftT Q = none ∧ 12 < (stT Q).length - x.length then some (bkT Q) else ftT Q) = none := hn
    rw [ln] at hn
    rw [bk] at hb
    by_cases z : ftT Q = none ∧ 12 < (e :: k').length
    · rw [ifT z] at hn; cases hn
    · rw [ifF z] at hn
      by_cases y : b = bkT Q
      · subst y
        rw [new]
        by_cases q : 12 < (e :: k').length
        · exact absurd ⟨hn, q⟩ z
        · omega
      · rw [old b (by omega)]; exact h6 hn b (by omega)
/-- the loop and the walk -/
def TjO (S : Nat) (c : Nat → Bool) (P Q : TjS) : Prop := TjI S c Q ∧ TjL P Q ∧ ∀ g, wkT P g ≠ 0 → loT Q g = loT P g
theorem tjl_ok (hg : ∀ e u, e < S → u < U → ins e u = true → gv u < S ∧ c (gv u) = true) (he : e < S) (hrc : ∀ e P, e < S → c e = true → TjI S c P → wkT P e = 0 → S < f + wsT P → TjO S c P (rc e P) ∧ wkT (rc e P) e ≠ 0) : ∀ (d : Nat) (P : TjS), d ≤ U → TjI S c P → wkT P e ≠ 0 → blT P e = 0 → S < f + wsT P → TjI S c (tjl U ins gv rc e d P) ∧ TjL P (tjl U ins gv rc e d P) ∧ ∀ g, wkT P g ≠ 0 → g ≠ e → loT (tjl U ins gv rc e d P) g = loT P g
  | 0, P, _, i, _, _, _ => ⟨i, TjL.rf, fun _ _ _ => rfl⟩
  | d + 1, P, hd, i, h1, h2, hf => by
    have ih := tjl_ok hg he hrc d
    unfold tjl
    by_cases z : ins e (U - (d + 1)) = true
    · rw [ifT z]
      obtain ⟨g1, g2⟩ := hg e (U - (d + 1)) he (by omega) z
      obtain ⟨g, hgg⟩ : ∃ g, g = gv (U - (d + 1)) := ⟨_, rfl⟩
      rw [← hgg] at g1 g2 ⊢
      by_cases y : wkT P g = 0
      · rw [ifT y]
        obtain ⟨⟨o1, o2, o3⟩, o4⟩ := hrc g P g1 g2 i y hf
        obtain ⟨Q, hQ⟩ : ∃ Q, Q = rc g P := ⟨_, rfl⟩
        rw [← hQ] at o1 o2 o3 o4 ⊢
        obtain ⟨l1, l2, l3⟩ := TjI.low (e := e) o1 (o1.1 g o4).2.2.1
        have w0 : wkT Q e ≠ 0 := by rw [o2.1 e h1]; exact h1
        have b0 : blT Q e = 0 := o2.on i o1 h1 h2
        have := o2.ws i o1
        obtain ⟨a1, a2, a3⟩ := ih (lowT Q e (loT Q g)) (by omega) l1 w0 b0 (by show S < f + wsT Q; omega)
        refine ⟨a1, (o2.tr l2).tr a2, fun j hj hne => ?_⟩
        have hj' : wkT Q j ≠ 0 := by rw [o2.1 j hj]; exact hj
        rw [a3 j hj' hne, l3 j hne, o3 j hj]
      · rw [ifF y]
        by_cases w : blT P g = 0
        · rw [ifT w]
          obtain ⟨l1, l2, l3⟩ := TjI.low (e := e) (v := wkT P g) i (by omega)
          obtain ⟨a1, a2, a3⟩ := ih (lowT P e (wkT P g)) (by omega) l1 h1 h2 hf
          exact ⟨a1, l2.tr a2, fun j hj hne => (a3 j hj hne).trans (l3 j hne)⟩
        · rw [ifF w]; exact ih P (by omega) i h1 h2 hf
    · rw [ifF z]; exact ih P (by omega) i h1 h2 hf
theorem tj_ok (hg : ∀ e u, e < S → u < U → ins e u = true → gv u < S ∧ c (gv u) = true) : ∀ (f e : Nat) (P : TjS), e < S → c e = true → TjI S c P → wkT P e = 0 → S < f + wsT P → TjO S c P (tj U ins gv f e P) ∧ wkT (tj U ins gv f e P) e ≠ 0
  | 0, e, P, he, hc, i, h0, hf => by
    exfalso
    have := cnB_le (fun f => decide (wkT P f ≠ 0)) S
    have := i.2.2.2.2.1
    omega
  | f + 1, e, P, he, hc, i, h0, hf => by
    have ih := tj_ok hg f
    unfold tj
    obtain ⟨p1, p2, p3, p4, p5, p6⟩ := i.push he hc h0
    obtain ⟨q1, q2, q3⟩ := tjl_ok hg he ih U (pushT e P) (Nat.le_refl _) p1 p4 p5 (by omega)
    obtain ⟨Q, hQ⟩ : ∃ Q, Q = tjl U ins gv (tj U ins gv f) e U (pushT e P) := ⟨_, rfl⟩
    rw [← hQ] at q1 q2 q3 ⊢
    have lo : ∀ g, wkT P g ≠ 0 → loT Q g = loT P g := fun g hg => by
      rw [q3 g (by rw [p2.1 g hg]; exact hg) (fun z => hg (by rw [z]; exact h0)), p3 g hg]
    have we : wkT Q e ≠ 0 := by rw [q2.1 e p4]; exact p4
    have pq := p2.tr q2
    unfold tjF
    by_cases z : loT Q e = wkT Q e
    · rw [ifT z]
      obtain ⟨x, hx⟩ := q2.2.2.1
      have hx : stT Q = stT P ++ e :: x := by rw [hx]; show (stT P ++ [e]) ++ x = _; rw [List.append_assoc]; rfl
      obtain ⟨f1, f2, f3, f4, f5⟩ := q1.fin hx
      refine ⟨⟨f1, ⟨fun g hg => (f2 g).trans (pq.1 g hg), fun g hg => ?_, ⟨[], by rw [f5, List.append_nil]⟩, fun hn => ?_, ?_, fun b hb => ?_⟩, fun g hg => (f3 g).trans (lo g hg)⟩, by rw [f2]; exact we⟩
      · rw [f4]
        have bg : blT Q g = blT P g := pq.2.1 g hg
        by_cases y : g ∈ e :: x
        · have := ((q1.2.1.2 g).mp (by rw [hx]; exact List.mem_append_right _ y)).2
          rw [bg] at this; exact absurd this hg
        · rw [ifF y]; exact bg
      · have e1 : ftT Q = ftT P := pq.2.2.2.1 hn
        show (if ftT Q = none ∧ 12 < (stT Q).length - (stT P).length then some (bkT Q) else ftT Q) = ftT P
        rw [ifF (fun y => hn (by rw [← e1]; exact y.1))]; exact e1
      · show bkT P ≤ bkT Q + 1
        have := pq.2.2.2.2.1
        omega
      · show sN (bfT Q) (bkT Q + 1) _ b = bfT P b
        have := pq.2.2.2.2.1
        rw [sN_ne _ _ (by omega)]
        exact pq.2.2.2.2.2 b hb
    · rw [ifF z]
      exact ⟨⟨q1, pq, lo⟩, we⟩
/-- nothing below m is reached -/
def TjM (m : Nat) (P : TjS) : Prop := m ≤ wsT P + 1 ∧ (∀ f, m ≤ wkT P f → m ≤ loT P f) ∧ ∀ f, f ∈ stT P → m ≤ wkT P f
theorem tjl_m (hg : ∀ e u, e < S → u < U → ins e u = true → gv u < S ∧ c (gv u) = true) (he : e < S) (hrc : ∀ e P, e < S → c e = true → TjI S c P → wkT P e = 0 → S < f + wsT P → TjM m P → TjM m (rc e P) ∧ m ≤ wkT (rc e P) e) (hro : ∀ e P, e < S → c e = true → TjI S c P → wkT P e = 0 → S < f + wsT P → TjO S c P (rc e P) ∧ wkT (rc e P) e ≠ 0) : ∀ (d : Nat) (P : TjS), d ≤ U → TjI S c P → wkT P e ≠ 0 → blT P e = 0 → S < f + wsT P → TjM m P → TjM m (tjl U ins gv rc e d P)
  | 0, P, _, i, _, _, _, h => h
  | d + 1, P, hd, i, h1, h2, hf, h => by
    have ih := tjl_m hg he hrc hro d
    have low : ∀ {Q v}, TjM m Q → m ≤ v → TjM m (lowT Q e v) := fun {Q v} q hv => ⟨q.1, fun g hg => by
      show m ≤ sN (loT Q) e (min (loT Q e) v) g
      by_cases y : g = e
      · subst y
        rw [sN_eq]
        have := q.2.1 g hg
        omega
      · rw [sN_ne _ _ y]; exact q.2.1 g hg, q.2.2⟩
    unfold tjl
    by_cases z : ins e (U - (d + 1)) = true
    · rw [ifT z]
      obtain ⟨g1, g2⟩ := hg e (U - (d + 1)) he (by omega) z
      obtain ⟨g, hgg⟩ : ∃ g, g = gv (U - (d + 1)) := ⟨_, rfl⟩
      rw [← hgg] at g1 g2 ⊢
      by_cases y : wkT P g = 0
      · rw [ifT y]
        obtain ⟨⟨o1, o2, o3⟩, o4⟩ := hro g P g1 g2 i y hf
        obtain ⟨r1, r2⟩ := hrc g P g1 g2 i y hf h
        obtain ⟨Q, hQ⟩ : ∃ Q, Q = rc g P := ⟨_, rfl⟩
        rw [← hQ] at o1 o2 o3 o4 r1 r2 ⊢
        have l1 := (TjI.low (e := e) o1 (o1.1 g o4).2.2.1).1
        have := o2.ws i o1
        exact ih _ (by omega) l1 (by show wkT Q e ≠ 0; rw [o2.1 e h1]; exact h1) (o2.on i o1 h1 h2) (by show S < f + wsT Q; omega) (low r1 (r1.2.1 g r2))
      · rw [ifF y]
        by_cases w : blT P g = 0
        · rw [ifT w]
          have l1 := (TjI.low (e := e) (v := wkT P g) i (by omega)).1
          exact ih _ (by omega) l1 h1 h2 hf (low h (h.2.2 g ((i.2.1.2 g).mpr ⟨y, w⟩)))
        · rw [ifF w]; exact ih P (by omega) i h1 h2 hf h
    · rw [ifF z]; exact ih P (by omega) i h1 h2 hf h
theorem tj_m (hg : ∀ e u, e < S → u < U → ins e u = true → gv u < S ∧ c (gv u) = true) : ∀ (f e : Nat) (P : TjS), e < S → c e = true → TjI S c P → wkT P e = 0 → S < f + wsT P → TjM m P → TjM m (tj U ins gv f e P) ∧ m ≤ wkT (tj U ins gv f e P) e
  | 0, e, P, he, hc, i, h0, hf, _ => by
    exfalso
    have := cnB_le (fun f => decide (wkT P f ≠ 0)) S
    have := i.2.2.2.2.1
    omega
  | f + 1, e, P, he, hc, i, h0, hf, h => by
    have ih := tj_m hg f
    unfold tj
    obtain ⟨p1, p2, p3, p4, p5, p6⟩ := i.push he hc h0
    have we1 : wkT (pushT e P) e = wsT P + 1 := sN_eq _ _ _
    have m1 : TjM m (pushT e P) := by
      refine ⟨by rw [p6]; have := h.1; omega, fun g hg => ?_, fun g hg => ?_⟩
      · show m ≤ sN (loT P) e (wsT P + 1) g
        have hg : m ≤ sN (wkT P) e (wsT P + 1) g := hg
        by_cases y : g = e
        · subst y; rw [sN_eq]; exact h.1
        · rw [sN_ne _ _ y] at hg ⊢; exact h.2.1 g hg
      · show m ≤ sN (wkT P) e (wsT P + 1) g
        have hg : g ∈ stT P ++ [e] := hg
        by_cases y : g = e
        · subst y; rw [sN_eq]; exact h.1
        · rw [sN_ne _ _ y]
          rw [List.mem_append, List.mem_singleton] at hg
          exact h.2.2 g (hg.resolve_right y)
    have tok := tj_ok hg f
    have q0 := tjl_m hg he ih tok U (pushT e P) (Nat.le_refl _) p1 p4 p5 (by omega) m1
    obtain ⟨q1, q2, -⟩ := tjl_ok hg he tok U (pushT e P) (Nat.le_refl _) p1 p4 p5 (by omega)
    obtain ⟨Q, hQ⟩ : ∃ Q, Q = tjl U ins gv (tj U ins gv f) e U (pushT e P) := ⟨_, rfl⟩
    rw [← hQ] at q0 q1 q2 ⊢
    have we : m ≤ wkT Q e := by rw [q2.1 e p4, we1]; exact h.1
    unfold tjF
    by_cases z : loT Q e = wkT Q e
    · rw [ifT z]
      exact ⟨⟨q0.1, q0.2.1, fun g hg => q0.2.2 g (List.mem_of_mem_take hg)⟩, we⟩
    · rw [ifF z]; exact ⟨q0, we⟩
/-- a walk from an empty stack leaves an empty stack -/
theorem tj_nil (hg : ∀ e u, e < S → u < U → ins e u = true → gv u < S ∧ c (gv u) = true) (he : e < S) (hc : c e = true) (i : TjI S c P) (h0 : wkT P e = 0) (hf : S < (f + 1) + wsT P) (hs : stT P = []) : stT (tj U ins gv (f + 1) e P) = [] := by
  unfold tj
  obtain ⟨p1, p2, p3, p4, p5, p6⟩ := i.push he hc h0
  have we1 : wkT (pushT e P) e = wsT P + 1 := sN_eq _ _ _
  have m1 : TjM (wsT P + 1) (pushT e P) := by
    refine ⟨by rw [p6]; omega, fun g hg => ?_, fun g hg => ?_⟩
    · show wsT P + 1 ≤ sN (loT P) e (wsT P + 1) g
      have hg : wsT P + 1 ≤ sN (wkT P) e (wsT P + 1) g := hg
      by_cases y : g = e
      · subst y; rw [sN_eq]; omega
      · rw [sN_ne _ _ y] at hg
        have := (i.1 g (by omega)).2.1
        omega
    · show wsT P + 1 ≤ sN (wkT P) e (wsT P + 1) g
      have hg : g ∈ stT P ++ [e] := hg
      rw [hs, List.nil_append, List.mem_singleton] at hg
      rw [hg, sN_eq]; omega
  have tok := tj_ok hg f
  have q0 := tjl_m hg he (fun e P a b d g h => tj_m hg f e P a b d g h) tok U (pushT e P) (Nat.le_refl _) p1 p4 p5 (by omega) m1
  obtain ⟨q1, q2, -⟩ := tjl_ok hg he tok U (pushT e P) (Nat.le_refl _) p1 p4 p5 (by omega)
  obtain ⟨Q, hQ⟩ : ∃ Q, Q = tjl U ins gv (tj U ins gv f) e U (pushT e P) := ⟨_, rfl⟩
  rw [← hQ] at q0 q1 q2 ⊢
  have we : wkT Q e = wsT P + 1 := (q2.1 e p4).trans we1
  have l1 := (q1.1 e (by omega)).2.2.2
  have l2 := q0.2.1 e (by omega)
  unfold tjF
  rw [ifT (by omega), hs]
  show List.take ([] : List Nat).length (stT Q) = []
  rfl
end TARJAN
