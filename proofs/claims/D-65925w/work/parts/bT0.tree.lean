/-! Layer B: solved trees on the twin's side: what they are, how big, how high -/
set_option maxRecDepth 100000
/-- the unknown of a continuous variable, its sign -/
def LfU (s : TS) (v u : Nat) (x : Int32) : Prop := (tA s 94 v = 0 ∧ v < 96) ∧ (∃ w, w < 96 ∧ tA s 177 v = nI w ∧ tA s 179 w = nI u) ∧ u < 180 ∧ tA s 178 v = x ∧ sg1 x
/-- a leaf that is an unknown -/
def LfK (s : TS) (n u : Nat) (x : Int32) : Prop := (tA s 121 n = 2 ∧ ∃ v, tA s 122 n = nI v ∧ LfU s v u x) ∨ (tA s 121 n = 3 ∧ ∃ v w, tA s 122 n = nI v ∧ LfU s v w x ∧ tA s 189 w = nI u ∧ u < 180) ∨ (tA s 121 n = 30 ∧ tA s 122 n = nI u ∧ u < 180 ∧ x = 1)
abbrev oneT : List (Nat × Int32) := [(0, 7), (0, 10), (0, 11), (0, 12), (0, 13), (1, 23)]
abbrev twoT : List (Nat × Int32) := [(0, 5), (0, 6), (0, 8), (0, 9), (0, 14), (0, 15), (1, 21), (1, 22)]
/-- a number (0), a condition (1), below N -/
def TwT (s : TS) (N : Nat) : Nat → Nat → Nat → Prop
  | 0, _, _ => False
  | h + 1, st, n => (1 ≤ n ∧ n < N) ∧
    ((st = 0 ∧ (tA s 121 n = 0 ∨ tA s 121 n = 1)) ∨
     (st = 0 ∧ (tA s 121 n = 2 ∨ tA s 121 n = 4) ∧ ∃ v, v < 96 ∧ tA s 122 n = nI v ∧ ¬ tA s 94 v = 0) ∨
     (st = 0 ∧ ∃ u x, LfK s n u x) ∨
     (st = 0 ∧ tA s 121 n = 4 ∧ ∃ v u x, tA s 122 n = nI v ∧ LfU s v u x) ∨
     ((st, tA s 121 n) ∈ oneT ∧ ∃ x, tA s 122 n = nI x ∧ TwT s N h st x) ∨
     ((st, tA s 121 n) ∈ twoT ∧ (∃ x, tA s 122 n = nI x ∧ TwT s N h st x) ∧ ∃ y, tA s 123 n = nI y ∧ TwT s N h st y) ∨
     (st = 0 ∧ tA s 121 n = 16 ∧ (∃ x, tA s 122 n = nI x ∧ TwT s N h 1 x) ∧ (∃ y, tA s 123 n = nI y ∧ TwT s N h 0 y) ∧ ∃ z, tA s 124 n = nI z ∧ TwT s N h 0 z) ∨
     (st = 1 ∧ (tA s 121 n = 20 ∨ tA s 121 n = 25) ∧ (∃ y, tA s 123 n = nI y ∧ TwT s N h 0 y) ∧ ∃ z, tA s 124 n = nI z ∧ TwT s N h 0 z) ∨
     (st = 1 ∧ tA s 121 n = 24))
/-- printed with a sign -/
abbrev ngv (s : TS) (n : Nat) : Prop := tA s 94 (ix (tA s 122 n)) = 0 ∧ ¬ 0 ≤ tA s 178 (ix (tA s 122 n))
/-- size as printed -/
def PS (s : TS) : Nat → Nat → Nat
  | 0, _ => 0
  | h + 1, n => if tA s 121 n ∈ ([2, 3, 4] : List Int32) then (if ngv s n then 2 else 1) else if tA s 121 n ∈ k1T then 1 + PS s h (ix (tA s 122 n)) else if tA s 121 n ∈ k2T then 1 + PS s h (ix (tA s 122 n)) + PS s h (ix (tA s 123 n)) else if tA s 121 n = 16 then 1 + PS s h (ix (tA s 122 n)) + PS s h (ix (tA s 123 n)) + PS s h (ix (tA s 124 n)) else if tA s 121 n = 20 ∨ tA s 121 n = 25 then 1 + PS s h (ix (tA s 123 n)) + PS s h (ix (tA s 124 n)) else 1
/-- height as printed -/
def PH (s : TS) : Nat → Nat → Nat
  | 0, _ => 0
  | h + 1, n => if tA s 121 n ∈ ([2, 3, 4] : List Int32) then (if ngv s n then 2 else 1) else if tA s 121 n ∈ k1T then hgt (PH s h (ix (tA s 122 n))) 0 0 else if tA s 121 n ∈ k2T then hgt (PH s h (ix (tA s 122 n))) (PH s h (ix (tA s 123 n))) 0 else if tA s 121 n = 16 then hgt (PH s h (ix (tA s 122 n))) (PH s h (ix (tA s 123 n))) (PH s h (ix (tA s 124 n))) else if tA s 121 n = 20 ∨ tA s 121 n = 25 then hgt (PH s h (ix (tA s 123 n))) (PH s h (ix (tA s 124 n))) 0 else 1
/-- more nodes, nothing else -/
def Nd5 (s s' : TS) (N : Nat) : Prop := ∀ f, f ∈ [121, 122, 123, 124, 134] → ∀ n, n < N → tA s' f n = tA s f n
def NdX (s s' : TS) (N : Nat) : Prop := (∀ f, f ∈ [121, 122, 123, 124, 134] → ∀ n, n < N → tA s' f n = tA s f n) ∧ (∀ f, f ∈ [94, 162, 177, 178, 179] → ∀ v, tA s' f v = tA s f v) ∧ ∀ u, tA s 189 u ≠ -1 → tA s' 189 u = tA s 189 u
section TREE
variable {s s' s1 s2 σ : TS} {S : List Nat} {N N' K h h' st n m u v w x y z : Nat} {sx op : Int32}
theorem mx_max (p q : Nat) : mx p q = max p q := by
  unfold mx
  by_cases z : p < q
  · rw [ifT z]; omega
  · rw [ifF z]; omega
theorem hgt_eq (a b c : Nat) : hgt a b c = max (max a b) c + 1 := by
  unfold hgt
  rw [mx_max, mx_max, mx_max]; omega
theorem Nd5.rf : Nd5 s s N := fun _ _ _ _ => rfl
theorem Nd5.tr (h : Nd5 s s1 N) (g : Nd5 s1 s2 N') (hN : N ≤ N') : Nd5 s s2 N := fun f hf n hn => (g f hf n (by omega)).trans (h f hf n hn)
theorem Nd5.ft (f : Ft S s s') (hS : [121, 122, 123, 124, 134].all (fun k => !S.contains k) = true) : Nd5 s s' N := fun g hg n _ => (f g (by simpa using List.all_eq_true.mp hS g hg)).2.2.1 n
theorem NdX.rf : NdX s s N := ⟨fun _ _ _ _ => rfl, fun _ _ _ => rfl, fun _ _ => rfl⟩
theorem NdX.tr (h : NdX s s1 N) (g : NdX s1 s2 N') (hN : N ≤ N') : NdX s s2 N := ⟨fun f hf n hn => (g.1 f hf n (by omega)).trans (h.1 f hf n hn), fun f hf v => (g.2.1 f hf v).trans (h.2.1 f hf v), fun u hu => by
  have e := h.2.2 u hu
  exact (g.2.2 u (by rw [e]; exact hu)).trans e⟩
theorem NdX.ft (f : Ft S s s') (hS : [94, 121, 122, 123, 124, 134, 162, 177, 178, 179, 189].all (fun k => !S.contains k) = true) : NdX s s' N := by
  have hf : ∀ k, k ∈ [94, 121, 122, 123, 124, 134, 162, 177, 178, 179, 189] → S.contains k = false := fun k hk => by simpa using List.all_eq_true.mp hS k hk
  exact ⟨fun g hg n _ => (f g (hf g (by simp only [List.mem_cons, List.not_mem_nil, or_false] at hg ⊢; omega))).2.2.1 n, fun g hg n => (f g (hf g (by simp only [List.mem_cons, List.not_mem_nil, or_false] at hg ⊢; omega))).2.2.1 n, fun u _ => (f 189 (hf 189 (by decide))).2.2.1 u⟩
theorem nI_m1 (hu : u < 1000) : nI u ≠ -1 := fun z => by
  have h3 : nI u < 0 := by rw [z]; decide
  rw [nI_ltL (by omega) (by decide)] at h3
  exact absurd h3 (Nat.not_lt_zero _)
theorem LfU.mv (h : LfU s v u sx) (g : NdX s s' N) : LfU s' v u sx := by
  obtain ⟨⟨a1, a2⟩, ⟨w, b1, b2, b3⟩, c1, c2, c3⟩ := h
  exact ⟨⟨(g.2.1 94 (by decide) v).trans a1, a2⟩, ⟨w, b1, (g.2.1 177 (by decide) v).trans b2, (g.2.1 179 (by decide) w).trans b3⟩, c1, (g.2.1 178 (by decide) v).trans c2, c3⟩
theorem LfK.mv (h : LfK s n u sx) (g : NdX s s' N) (hn : n < N) : LfK s' n u sx := by
  unfold LfK
  rw [g.1 121 (by decide) n hn, g.1 122 (by decide) n hn]
  rcases h with ⟨a, v, b, c⟩ | ⟨a, v, w, b, c, d, e⟩ | a
  · exact Or.inl ⟨a, v, b, c.mv g⟩
  · exact Or.inr (Or.inl ⟨a, v, w, b, c.mv g, (g.2.2 w (by rw [d]; exact nI_m1 (by omega))).trans d, e⟩)
  · exact Or.inr (Or.inr a)
theorem LfK.lt (h : LfK s n u sx) : u < 180 ∧ sg1 sx := by
  rcases h with ⟨a, v, b, c⟩ | ⟨a, v, w, b, c, d, e⟩ | ⟨a, b, c, rfl⟩
  · exact ⟨c.2.2.1, c.2.2.2.2⟩
  · exact ⟨e, c.2.2.2.2⟩
  · exact ⟨c, Or.inl rfl⟩
theorem TwT.nb (q : TwT s N h st n) : 1 ≤ n ∧ n < N := by
  cases h with
  | zero => exact q.elim
  | succ h' => exact q.1
theorem TwT.mv (g : NdX s s' N) (hN : N ≤ N') : ∀ (h h' st n : Nat), h ≤ h' → TwT s N h st n → TwT s' N' h' st n
  | 0, _, _, _, _, q => q.elim
  | h + 1, 0, _, _, hh, _ => absurd hh (Nat.not_succ_le_zero h)
  | h + 1, h' + 1, st, n, hh, ⟨⟨n1, n2⟩, q⟩ => by
    have ih := fun st x q => TwT.mv g hN h h' st x (Nat.le_of_succ_le_succ hh) q
    refine ⟨⟨n1, by omega⟩, ?_⟩
    rw [g.1 121 (by decide) n n2, g.1 122 (by decide) n n2, g.1 123 (by decide) n n2, g.1 124 (by decide) n n2]
    rcases q with q | ⟨q1, q2, v, q3, q4, q5⟩ | ⟨q1, u, x, q2⟩ | ⟨q1, q2, v, u, x, q3, q4⟩ | ⟨q1, x, q2, q3⟩ | ⟨q1, ⟨x, q2, q3⟩, y, q4, q5⟩ | ⟨q0, q1, ⟨x, q2, q3⟩, ⟨y, q4, q5⟩, z, q6, q7⟩ | ⟨q0, q1, ⟨y, q4, q5⟩, z, q6, q7⟩ | q
    · exact Or.inl q
    · exact Or.inr (Or.inl ⟨q1, q2, v, q3, q4, by rw [g.2.1 94 (by decide)]; exact q5⟩)
    · exact Or.inr (Or.inr (Or.inl ⟨q1, u, x, q2.mv g n2⟩))
    · exact Or.inr (Or.inr (Or.inr (Or.inl ⟨q1, q2, v, u, x, q3, q4.mv g⟩)))
    · exact Or.inr (Or.inr (Or.inr (Or.inr (Or.inl ⟨q1, x, q2, ih _ _ q3⟩))))
    · exact Or.inr (Or.inr (Or.inr (Or.inr (Or.inr (Or.inl ⟨q1, ⟨x, q2, ih _ _ q3⟩, y, q4, ih _ _ q5⟩)))))
    · exact Or.inr (Or.inr (Or.inr (Or.inr (Or.inr (Or.inr (Or.inl ⟨q0, q1, ⟨x, q2, ih _ _ q3⟩, ⟨y, q4, ih _ _ q5⟩, z, q6, ih _ _ q7⟩))))))
    · exact Or.inr (Or.inr (Or.inr (Or.inr (Or.inr (Or.inr (Or.inr (Or.inl ⟨q0, q1, ⟨y, q4, ih _ _ q5⟩, z, q6, ih _ _ q7⟩)))))))
    · exact Or.inr (Or.inr (Or.inr (Or.inr (Or.inr (Or.inr (Or.inr (Or.inr q)))))))
/-- by the number of parts -/
def TwV (s : TS) (N h st n : Nat) : Prop :=
  (tA s 121 n ∈ ([0, 1, 24] : List Int32)) ∨ (tA s 121 n ∈ ([2, 3, 4] : List Int32) ∧ ∃ v, v < 96 ∧ tA s 122 n = nI v) ∨ tA s 121 n = 30 ∨
  (tA s 121 n ∈ k1T ∧ ∃ x, tA s 122 n = nI x ∧ TwT s N h st x) ∨
  (tA s 121 n ∈ k2T ∧ (∃ x, tA s 122 n = nI x ∧ TwT s N h st x) ∧ ∃ y, tA s 123 n = nI y ∧ TwT s N h st y) ∨
  (tA s 121 n = 16 ∧ (∃ x, tA s 122 n = nI x ∧ TwT s N h 1 x) ∧ (∃ y, tA s 123 n = nI y ∧ TwT s N h 0 y) ∧ ∃ z, tA s 124 n = nI z ∧ TwT s N h 0 z) ∨
  ((tA s 121 n = 20 ∨ tA s 121 n = 25) ∧ (∃ y, tA s 123 n = nI y ∧ TwT s N h 0 y) ∧ ∃ z, tA s 124 n = nI z ∧ TwT s N h 0 z)
theorem one_k1 (q : (st, op) ∈ oneT) : op ∈ k1T := by
  simp only [List.mem_cons, Prod.mk.injEq, List.not_mem_nil, or_false] at q
  rcases q with ⟨-, rfl⟩ | ⟨-, rfl⟩ | ⟨-, rfl⟩ | ⟨-, rfl⟩ | ⟨-, rfl⟩ | ⟨-, rfl⟩ <;> decide
theorem two_k2 (q : (st, op) ∈ twoT) : op ∈ k2T := by
  simp only [List.mem_cons, Prod.mk.injEq, List.not_mem_nil, or_false] at q
  rcases q with ⟨-, rfl⟩ | ⟨-, rfl⟩ | ⟨-, rfl⟩ | ⟨-, rfl⟩ | ⟨-, rfl⟩ | ⟨-, rfl⟩ | ⟨-, rfl⟩ | ⟨-, rfl⟩ <;> decide
theorem TwT.view (q : TwT s N (h + 1) st n) : TwV s N h st n := by
  obtain ⟨-, q⟩ := q
  rcases q with ⟨-, q | q⟩ | ⟨q1, q2, v, q3, q4, q5⟩ | ⟨q1, u, x, q2⟩ | ⟨q1, q2, v, u, x, q3, q4⟩ | ⟨q1, x, q2, q3⟩ | ⟨q1, ⟨x, q2, q3⟩, y, q4, q5⟩ | ⟨q0, q1, ⟨x, q2, q3⟩, ⟨y, q4, q5⟩, z, q6, q7⟩ | ⟨q0, q1, ⟨y, q4, q5⟩, z, q6, q7⟩ | ⟨-, q⟩
  · exact Or.inl (by rw [q]; decide)
  · exact Or.inl (by rw [q]; decide)
  · exact Or.inr (Or.inl ⟨by rcases q2 with q2 | q2 <;> rw [q2] <;> decide, v, q3, q4⟩)
  · rcases q2 with ⟨a, v, b, c⟩ | ⟨a, v, w, b, c, d⟩ | ⟨a, -⟩
    · exact Or.inr (Or.inl ⟨by rw [a]; decide, v, c.1.2, b⟩)
    · exact Or.inr (Or.inl ⟨by rw [a]; decide, v, c.1.2, b⟩)
    · exact Or.inr (Or.inr (Or.inl a))
  · exact Or.inr (Or.inl ⟨by rw [q2]; decide, v, q4.1.2, q3⟩)
  · exact Or.inr (Or.inr (Or.inr (Or.inl ⟨one_k1 q1, x, q2, q3⟩)))
  · exact Or.inr (Or.inr (Or.inr (Or.inr (Or.inl ⟨two_k2 q1, ⟨x, q2, q3⟩, y, q4, q5⟩))))
  · exact Or.inr (Or.inr (Or.inr (Or.inr (Or.inr (Or.inl ⟨q1, ⟨x, q2, q3⟩, ⟨y, q4, q5⟩, z, q6, q7⟩)))))
  · exact Or.inr (Or.inr (Or.inr (Or.inr (Or.inr (Or.inr ⟨q1, ⟨y, q4, q5⟩, z, q6, q7⟩)))))
  · exact Or.inl (by rw [q]; decide)
-- the sizes by the view
theorem PS_0 (q : tA s 121 n ∈ ([0, 1, 24, 30] : List Int32)) : PS s (h + 1) n = 1 ∧ PH s (h + 1) n = 1 := by
  simp only [List.mem_cons, List.not_mem_nil, or_false] at q
  unfold PS PH
  rcases q with q | q | q | q <;> rw [q] <;> exact ⟨rfl, rfl⟩
theorem PS_v (q : tA s 121 n ∈ ([2, 3, 4] : List Int32)) : PS s (h + 1) n = (if ngv s n then 2 else 1) ∧ PH s (h + 1) n = if ngv s n then 2 else 1 := by
  unfold PS PH
  rw [ifT q, ifT q]; exact ⟨rfl, rfl⟩
theorem PS_1 (q : tA s 121 n ∈ k1T) : PS s (h + 1) n = 1 + PS s h (ix (tA s 122 n)) ∧ PH s (h + 1) n = hgt (PH s h (ix (tA s 122 n))) 0 0 := by
  have q0 : tA s 121 n ∉ ([2, 3, 4] : List Int32) := fun z => by
    simp only [List.mem_cons, List.not_mem_nil, or_false] at q
    rcases q with q | q | q | q | q | q <;> rw [q] at z <;> exact absurd z (by decide)
  rw [PS, PH]
  rw [ifF q0, ifF q0, ifT q, ifT q]; exact ⟨rfl, rfl⟩
theorem PS_2 (q : tA s 121 n ∈ k2T) : PS s (h + 1) n = 1 + PS s h (ix (tA s 122 n)) + PS s h (ix (tA s 123 n)) ∧ PH s (h + 1) n = hgt (PH s h (ix (tA s 122 n))) (PH s h (ix (tA s 123 n))) 0 := by
  have q0 : tA s 121 n ∉ ([2, 3, 4] : List Int32) ∧ tA s 121 n ∉ k1T := by
    simp only [List.mem_cons, List.not_mem_nil, or_false] at q
    rcases q with q | q | q | q | q | q | q | q <;> rw [q] <;> decide
  rw [PS, PH]
  rw [ifF q0.1, ifF q0.1, ifF q0.2, ifF q0.2, ifT q, ifT q]; exact ⟨rfl, rfl⟩
theorem PS_3 (q : tA s 121 n = 16) : PS s (h + 1) n = 1 + PS s h (ix (tA s 122 n)) + PS s h (ix (tA s 123 n)) + PS s h (ix (tA s 124 n)) ∧ PH s (h + 1) n = hgt (PH s h (ix (tA s 122 n))) (PH s h (ix (tA s 123 n))) (PH s h (ix (tA s 124 n))) := by
  have q0 : tA s 121 n ∉ ([2, 3, 4] : List Int32) ∧ tA s 121 n ∉ k1T ∧ tA s 121 n ∉ k2T := by rw [q]; decide
  rw [PS, PH, ifF q0.1, ifF q0.1, ifF q0.2.1, ifF q0.2.1, ifF q0.2.2, ifF q0.2.2, ifT q, ifT q]; exact ⟨rfl, rfl⟩
theorem PS_4 (q : tA s 121 n = 20 ∨ tA s 121 n = 25) : PS s (h + 1) n = 1 + PS s h (ix (tA s 123 n)) + PS s h (ix (tA s 124 n)) ∧ PH s (h + 1) n = hgt (PH s h (ix (tA s 123 n))) (PH s h (ix (tA s 124 n))) 0 := by
  have q0 : tA s 121 n ∉ ([2, 3, 4] : List Int32) ∧ tA s 121 n ∉ k1T ∧ tA s 121 n ∉ k2T ∧ ¬ tA s 121 n = 16 := by rcases q with q | q <;> rw [q] <;> decide
  rw [PS, PH, ifF q0.1, ifF q0.1, ifF q0.2.1, ifF q0.2.1, ifF q0.2.2.1, ifF q0.2.2.1, ifF q0.2.2.2, ifF q0.2.2.2, ifT q, ifT q]; exact ⟨rfl, rfl⟩
/-- sizes stay -/
theorem TwT.ps (g : NdX s s' N) (h7 : N ≤ 70000) : ∀ (h h' st n : Nat), h ≤ h' → TwT s N h st n → PS s' h' n = PS s h n ∧ PH s' h' n = PH s h n
  | 0, _, _, _, _, q => q.elim
  | h + 1, 0, _, _, hh, _ => absurd hh (Nat.not_succ_le_zero h)
  | h + 1, h' + 1, st, n, hh, q => by
    have ih := fun st x q => TwT.ps g h7 h h' st x (Nat.le_of_succ_le_succ hh) q
    have n2 := q.nb.2
    have e1 := g.1 121 (by decide) n n2
    have e2 := g.1 122 (by decide) n n2
    have e3 := g.1 123 (by decide) n n2
    have e4 := g.1 124 (by decide) n n2
    rcases q.view with q | ⟨q, v, v1, v2⟩ | q | ⟨q, x, x1, x2⟩ | ⟨q, ⟨x, x1, x2⟩, y, y1, y2⟩ | ⟨q, ⟨x, x1, x2⟩, ⟨y, y1, y2⟩, z, z1, z2⟩ | ⟨q, ⟨y, y1, y2⟩, z, z1, z2⟩
    · have q' : tA s 121 n ∈ ([0, 1, 24, 30] : List Int32) := by
        simp only [List.mem_cons, List.not_mem_nil, or_false] at q
        rcases q with q | q | q <;> rw [q] <;> decide
      rw [(PS_0 (h := h) q').1, (PS_0 (h := h) q').2, (PS_0 (h := h') (s := s') (by rw [e1]; exact q')).1, (PS_0 (h := h') (s := s') (by rw [e1]; exact q')).2]
      exact ⟨rfl, rfl⟩
    · rw [(PS_v (h := h) q).1, (PS_v (h := h) q).2, (PS_v (h := h') (s := s') (by rw [e1]; exact q)).1, (PS_v (h := h') (s := s') (by rw [e1]; exact q)).2]
      have : ngv s' n ↔ ngv s n := by unfold ngv; rw [e2, g.2.1 94 (by decide), g.2.1 178 (by decide)]
      by_cases z : ngv s n
      · rw [ifT z, ifT (this.mpr z)]; exact ⟨rfl, rfl⟩
      · rw [ifF z, ifF (fun y => z (this.mp y))]; exact ⟨rfl, rfl⟩
    · have q' : tA s 121 n ∈ ([0, 1, 24, 30] : List Int32) := by rw [q]; decide
      rw [(PS_0 (h := h) q').1, (PS_0 (h := h) q').2, (PS_0 (h := h') (s := s') (by rw [e1]; exact q')).1, (PS_0 (h := h') (s := s') (by rw [e1]; exact q')).2]
      exact ⟨rfl, rfl⟩
    · have x3 : ix (nI x) = x := ix_nI (by have := x2.nb; omega)
      rw [(PS_1 (h := h) q).1, (PS_1 (h := h) q).2, (PS_1 (h := h') (s := s') (by rw [e1]; exact q)).1, (PS_1 (h := h') (s := s') (by rw [e1]; exact q)).2, e2, x1, x3, (ih _ _ x2).1, (ih _ _ x2).2]
      exact ⟨rfl, rfl⟩
    · have x3 : ix (nI x) = x := ix_nI (by have := x2.nb; omega)
      have y3 : ix (nI y) = y := ix_nI (by have := y2.nb; omega)
      rw [(PS_2 (h := h) q).1, (PS_2 (h := h) q).2, (PS_2 (h := h') (s := s') (by rw [e1]; exact q)).1, (PS_2 (h := h') (s := s') (by rw [e1]; exact q)).2, e2, e3, x1, x3, y1, y3, (ih _ _ x2).1, (ih _ _ x2).2, (ih _ _ y2).1, (ih _ _ y2).2]
      exact ⟨rfl, rfl⟩
    · have x3 : ix (nI x) = x := ix_nI (by have := x2.nb; omega)
      have y3 : ix (nI y) = y := ix_nI (by have := y2.nb; omega)
      have z3 : ix (nI z) = z := ix_nI (by have := z2.nb; omega)
      rw [(PS_3 (h := h) q).1, (PS_3 (h := h) q).2, (PS_3 (h := h') (s := s') (by rw [e1]; exact q)).1, (PS_3 (h := h') (s := s') (by rw [e1]; exact q)).2, e2, e3, e4, x1, x3, y1, y3, z1, z3, (ih _ _ x2).1, (ih _ _ x2).2, (ih _ _ y2).1, (ih _ _ y2).2, (ih _ _ z2).1, (ih _ _ z2).2]
      exact ⟨rfl, rfl⟩
    · have y3 : ix (nI y) = y := ix_nI (by have := y2.nb; omega)
      have z3 : ix (nI z) = z := ix_nI (by have := z2.nb; omega)
      rw [(PS_4 (h := h) q).1, (PS_4 (h := h) q).2, (PS_4 (h := h') (s := s') (by rw [e1]; exact q)).1, (PS_4 (h := h') (s := s') (by rw [e1]; exact q)).2, e3, e4, y1, y3, z1, z3, (ih _ _ y2).1, (ih _ _ y2).2, (ih _ _ z2).1, (ih _ _ z2).2]
      exact ⟨rfl, rfl⟩
end TREE
