/-! Layer B: the flat model: rows of objects that are used again, and the room that they may take -/
set_option maxRecDepth 100000
/-- the rows' objects; whose an object is -/
abbrev FQ : Type := (Nat → List Nat) × (Nat → Nat)
def pl (D : FQ) : Nat → List Nat := D.1
def ow (D : FQ) : Nat → Nat := D.2
/-- rows of objects: variables, instances, members, rows, nodes (four), equations, actions, whens; rows of others: outers, calls -/
abbrev flL : List Nat := [98, 99, 100, 101, 106, 108, 111, 112, 113, 134, 136]
abbrev flA : List Nat := [98, 99, 100, 101, 102, 106, 108, 109, 111, 112, 113, 134, 136]
/-- their kind, the most there are, cells and slots of one -/
def flK (l : Nat) : Nat := if l = 98 then 17 else if l = 99 then 14 else if l = 100 then 16 else if l = 101 then 15 else if l = 111 then 19 else if l = 112 then 21 else if l = 113 then 20 else 18
def flX (l : Nat) : Nat := if l = 98 then 96 else if l = 99 then 200 else if l = 100 then 20000 else if l = 101 then 33300 else if l = 102 then 20000 else if l = 106 then 12000 else if l = 108 then 1000 else if l = 109 then 101 else if l = 111 then 120 else if l = 112 then 200 else if l = 113 then 12 else if l = 134 then 40000 else if l = 136 then 30000 else 480
def flC (l : Nat) : Nat := if l = 98 then 2 else if l = 99 then 2 else if l = 102 then 0 else if l = 109 then 0 else 1
def flZ (l : Nat) : Nat := if l = 98 then 23 else if l = 99 then 9 else if l = 101 then 4 else if l = 102 then 0 else if l = 109 then 0 else if l = 111 then 2 else if l = 112 then 5 else if l = 113 then 6 else 8
def flY (l : Nat) : Nat := flX l + flX l / 2 + 10
/-- sums over rows -/
def lsum (f : Nat → Nat) : List Nat → Nat
  | [] => 0
  | l :: L => f l + lsum f L
/-- places in a row's array -/
def cap (M : CM) (l : Nat) : Nat := if mR M 4201 l = 4398046511104 then 0 else ml M (mR M 4201 l)
/-- rows by numbers: the fixed ones, and the members of instance k as 1000 + k (0: there is none yet) -/
def ll (D : FQ) (M : CM) (i : Nat) : Nat := if i < 1000 then i else if i - 1000 < (pl D 99).length then mR M 2605 ((pl D 99).getD (i - 1000) 0) else 0
def flI : List Nat := flA ++ (List.range 200).map (fun k => 1000 + k)
def capI (D : FQ) (M : CM) (i : Nat) : Nat := if ll D M i = 0 then 0 else cap M (ll D M i)
/-- what may still come: cells, slots -/
def ptN (D : FQ) (M : CM) (i : Nat) : Nat := (if i < 1000 then flC i * (flX i - (pl D i).length) else 0) + (flY i - capI D M i) / 5
def ptS (D : FQ) (M : CM) (i : Nat) : Nat := (if i < 1000 then flZ i * (flX i - (pl D i).length) else 0) + 4 * (flY i - capI D M i)
def rmN (D : FQ) (M : CM) : Nat := mn M + lsum (ptN D M) flI
def rmS (D : FQ) (M : CM) : Nat := ms M + lsum (ptS D M) flI
section LSUM
variable {f g : Nat → Nat} {L : List Nat} {d l : Nat}
theorem lsum_le : ∀ (L : List Nat), (∀ l, l ∈ L → g l ≤ f l) → lsum g L ≤ lsum f L
  | [], _ => Nat.le_refl _
  | a :: L, h => by
    have h1 := h a List.mem_cons_self
    have h2 := lsum_le L (fun l hl => h l (List.mem_cons_of_mem _ hl))
    show g a + lsum g L ≤ f a + lsum f L
    omega
/-- one of them is less by d -/
theorem lsum_one : ∀ (L : List Nat), l ∈ L → (∀ l, l ∈ L → g l ≤ f l) → g l + d ≤ f l → lsum g L + d ≤ lsum f L
  | [], hl, _, _ => absurd hl List.not_mem_nil
  | a :: L, hl, h, hd => by
    show g a + lsum g L + d ≤ f a + lsum f L
    rcases List.mem_cons.mp hl with q | q
    · have h2 := lsum_le L (fun l hl => h l (List.mem_cons_of_mem _ hl))
      rw [q] at hd
      omega
    · have h1 := h a List.mem_cons_self
      have h2 := lsum_one L q (fun l hl => h l (List.mem_cons_of_mem _ hl)) hd
      omega
theorem lsum_mem : ∀ (L : List Nat), l ∈ L → f l ≤ lsum f L
  | [], hl => absurd hl List.not_mem_nil
  | a :: L, hl => by
    show f l ≤ f a + lsum f L
    rcases List.mem_cons.mp hl with q | q
    · rw [q]; omega
    · have := lsum_mem L q; omega
end LSUM
/-- whose: array of row l: l; object k of row l: tg l k; units of variable k; members of instance k -/
def tg (l k : Nat) : Nat := 1000000 * l + k
/-- a row's own array -/
def AQ (D : FQ) (M : CM) (l a : Nat) : Prop := mR M 4201 l ≠ 4398046511104 → (ow D (mR M 4201 l) = a ∧ 167 ≤ mR M 4201 l) ∧ 10 ≤ ml M (mR M 4201 l)
/-- the rows are whole -/
def PoW (D : FQ) (M : CM) : Prop := (∀ l, l ∈ flA → Ls M l (pl D l) ∧ AQ D M l l ∧ (pl D l).length ≤ flX l) ∧ (∀ l, l ∈ flL → ∀ k, k < (pl D l).length → mk M ((pl D l).getD k 0) = flK l ∧ (167 ≤ (pl D l).getD k 0 ∧ (pl D l).getD k 0 < mn M) ∧ ow D ((pl D l).getD k 0) = tg l k) ∧ (∀ k, k < (pl D 98).length → (mk M (mR M 3204 ((pl D 98).getD k 0)) = 50 ∧ ml M (mR M 3204 ((pl D 98).getD k 0)) = 3) ∧ (167 ≤ mR M 3204 ((pl D 98).getD k 0) ∧ mR M 3204 ((pl D 98).getD k 0) < mn M) ∧ ow D (mR M 3204 ((pl D 98).getD k 0)) = tg 200 k) ∧ (∀ k, k < (pl D 99).length → (∃ xs, Ls M (mR M 2605 ((pl D 99).getD k 0)) xs ∧ xs.length ≤ 480) ∧ (167 ≤ mR M 2605 ((pl D 99).getD k 0) ∧ mR M 2605 ((pl D 99).getD k 0) < mn M) ∧ ow D (mR M 2605 ((pl D 99).getD k 0)) = tg 201 k ∧ AQ D M (mR M 2605 ((pl D 99).getD k 0)) (tg 202 k)) ∧ ∀ o, 167 ≤ o → o < mn M → ow D o ≠ 0 → mk M o ≠ 23
/-- whose an object is; the fixed ones are their own -/
def tgof (D : FQ) (o : Nat) : Nat := if o < 167 then o else ow D o
/-- where the rows stand -/
def Fx (D : FQ) (o : Nat) : Prop := 98 ≤ tgof D o
section POOL
variable {D D' : FQ} {M M' : CM} {X : Nat → Prop} {l k : Nat} {xs : List Nat}
theorem flA_rng : ∀ l, l ∈ flA → 98 ≤ l ∧ l ≤ 136 := by decide
theorem flL_A : ∀ l, l ∈ flL → l ∈ flA := by decide
theorem tgo_s (h : k < 167) : tgof D k = k := ifT h
theorem tgo_d (h : 167 ≤ k) : tgof D k = ow D k := ifF (by omega)
theorem PoW.mv (h : PoW D M) (hn : 167 ≤ mn M) (F : Fz X M M') (hX : ∀ o, o < mn M → X o → ¬ Fx D o) (h23 : ∀ o, mn M ≤ o → o < mn M' → mk M' o ≠ 23) : PoW D M' := by
  obtain ⟨h1, h2, h3, h4, h5⟩ := h
  have so : ∀ o, o < mn M → 98 ≤ tgof D o → So M M' o := fun o ho hf => F.so ho (fun z => hX o ho z hf)
  have tp : ∀ l k, 98 ≤ l → 98 ≤ tg l k := fun l k hl => by unfold tg; omega
  have sd : ∀ o t, 167 ≤ o → o < mn M → ow D o = t → 98 ≤ t → So M M' o := fun o t h1 h2 h3 h4 => so o h2 (by rw [tgo_d h1, h3]; exact h4)
  have sl : ∀ l, l ∈ flA → So M M' l := fun l hl => so l (by have := flA_rng l hl; omega) (by have := flA_rng l hl; rw [tgo_s (by omega)]; omega)
  have arr : ∀ l a xs, Ls M l xs → 98 ≤ a → AQ D M l a → So M M' l → Ls M' l xs ∧ AQ D M' l a := fun l a xs hL h0 ho s => by
    have sa : mR M 4201 l ≠ 4398046511104 → So M M' (mR M 4201 l) := fun z => by
      rcases hL.lt with q | q
      · exact absurd q z
      · exact sd _ a (ho z).1.2 q (ho z).1.1 h0
    refine ⟨hL.kp F.1 (fun o ho => F.k ho) s sa, fun z => ?_⟩
    rw [s.r] at z ⊢
    exact ⟨(ho z).1, by rw [(sa z).l]; exact (ho z).2⟩
  have n := F.1
  refine ⟨fun l hl => ?_, fun l hl k hk => ?_, fun k hk => ?_, fun k hk => ?_, fun o ho1 ho2 ho3 => ?_⟩
  · obtain ⟨a1, a2, a3⟩ := h1 l hl
    have r := flA_rng l hl
    obtain ⟨b1, b2⟩ := arr l l _ a1 (by omega) a2 (sl l hl)
    exact ⟨b1, b2, a3⟩
  · obtain ⟨a1, a2, a3⟩ := h2 l hl k hk
    exact ⟨by rw [F.k a2.2]; exact a1, ⟨a2.1, by omega⟩, a3⟩
  · obtain ⟨a1, a2, a3⟩ := h2 98 (by decide) k hk
    have s := sd _ _ a2.1 a2.2 a3 (tp _ _ (by decide))
    obtain ⟨b1, b2, b3⟩ := h3 k hk
    rw [s.r]
    exact ⟨⟨by rw [F.k b2.2]; exact b1.1, by rw [(F.2.1 _ b2.2).2]; exact b1.2⟩, ⟨b2.1, by omega⟩, b3⟩
  · obtain ⟨a1, a2, a3⟩ := h2 99 (by decide) k hk
    have s := sd _ _ a2.1 a2.2 a3 (tp _ _ (by decide))
    obtain ⟨⟨xs, b0, b0'⟩, b2, b3, b4⟩ := h4 k hk
    have s2 := sd _ _ b2.1 b2.2 b3 (tp _ _ (by decide))
    rw [s.r]
    obtain ⟨c1, c2⟩ := arr _ _ xs b0 (tp _ _ (by decide)) b4 s2
    exact ⟨⟨xs, c1, b0'⟩, ⟨b2.1, by omega⟩, b3, c2⟩
  · by_cases q : o < mn M
    · rw [F.k q]; exact h5 o ho1 q ho3
    · exact h23 o (by omega) ho2
/-- objects of rows are one another's neighbours, never the same -/
theorem PoW.inj (h : PoW D M) {l' k' : Nat} (hl : l ∈ flL) (hl' : l' ∈ flL) (hk : k < (pl D l).length) (hk' : k' < (pl D l').length) (e : (pl D l).getD k 0 = (pl D l').getD k' 0) : l = l' ∧ k = k' := by
  have a := (h.2.1 l hl k hk).2.2
  have b := (h.2.1 l' hl' k' hk').2.2
  have x := (h.1 l (flL_A l hl)).2.2
  have x' := (h.1 l' (flL_A l' hl')).2.2
  have m : ∀ l, l ∈ flL → flX l ≤ 40000 := by decide
  have := m l hl
  have := m l' hl'
  rw [e, b] at a
  unfold tg at a
  omega
end POOL
