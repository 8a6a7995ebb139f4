/-! Layer B: printing: flat trees -/
set_option maxRecDepth 100000
section PFLAT
variable {C : PC} {P : Nat → Prop} {mss fss : List Nat} {D : FQ} {M0 M M' : CM} {s0 σ σ' : TS} {B V I Bm K N h s a n v q : Nat} {z7 : Nat → Nat} {fx op kx : Int32} {cfN : Int32 → TS → Option (Unit × TS)} {cfC : Nat → Int32 → Int32 → TS → Option (Unit × TS)} {cfH : Int32 → TS → Option (Unit × TS)} {cfK : Nat → CM → Option (Unit × CM)}
theorem OuE.k18 (o : OuE M0 s0 M σ) (h : mk M0 a = 18) : mk M a = 18 := by rw [(o.2.1.2.2.2.2.2.1 _).1]; exact h
theorem OuE.i (o : OuE M0 s0 M σ) {g : Nat} (h : g ≠ 3) (a : Nat) : mI M g a = mI M0 g a := o.2.1.1 _ _ (fun z => h z.1)
/-- a number -/
theorem pl_num (ka : mk M0 a = 18) (hn : n < 70000) (e : mI M0 3400 a = 0) (e' : tA s0 121 n = 0) (ev : mI M0 3401 a = tA s0 122 n) (nn : 0 ≤ tA s0 122 n) : PlR M0 s0 a n := fun kf cfN cfC cfH M σ _ o => by
  have i70 : inb (nI n) 70000 := inb_nI' hn (by decide)
  have xn : ix (nI n) = n := ix_nI (by omega)
  obtain ⟨x, x1, x2⟩ := bI_of nn
  unfold KB_X0_put_2 B_printNode
  refine PrJ.b9 o.1 ?_
  rw [ifT (o.k18 ka), o.i (by decide), o.i (by decide), ifT i70, nm_eq, e, show tA σ 121 (ix (nI n)) = 0 from by rw [xn, o.ta (k := 121) rfl]; exact e']
  simp +decide only [↓reduceIte, o.k18 ka]
  rw [ifT i70, ob_idk, ob_idu, xn, o.ta (k := 122) rfl, ev, x1]
  exact z_pnum o.1 x2
/-- the time -/
theorem pl_time (ka : mk M0 a = 18) (hn : n < 70000) (e : mI M0 3400 a = 2) (e' : tA s0 121 n = 1) : PlR M0 s0 a n := fun kf cfN cfC cfH M σ _ o => by
  have i70 : inb (nI n) 70000 := inb_nI' hn (by decide)
  have xn : ix (nI n) = n := ix_nI (by omega)
  unfold KB_X0_put_2 B_printNode
  refine PrJ.b9 o.1 ?_
  rw [ifT (o.k18 ka), o.i (by decide), ifT i70, nm_eq, e, show tA σ 121 (ix (nI n)) = 1 from by rw [xn, o.ta (k := 121) rfl]; exact e']
  simp +decide only [↓reduceIte]
  rw [ob_idk, ob_idu]
  exact z_text (j := 21) (j' := 9) o.1 ⟨by decide, by decide, rfl⟩
/-- a variable by its own name: what the twin's leaf is -/
def LvT (s0 : TS) (v : Nat) : Prop := tI s0 176 = 0 ∨ (¬ tI s0 176 = 0 ∧ v < 96 ∧ ¬ tA s0 94 v = 0)
theorem t_leaf0 (o : OuE M0 s0 M σ) (hn : n < 70000) (e : tA s0 121 n = kx) (ev : tA s0 122 n = nI v) (hv : v < 96) (h : LvT s0 v) (hk : kx = 3 → tI s0 176 = 0) : F_printLeaf (nI n) σ = J_printLeaf_84 kx 0 (nI v) σ := by
  have i70 : inb (nI n) 70000 := inb_nI' hn (by decide)
  have xn : ix (nI n) = n := ix_nI (by omega)
  have i96 : inb (nI v) 96 := inb_nI' hv (by decide)
  have xv : ix (nI v) = v := ix_nI (by omega)
  have e176 : tI σ 176 = tI s0 176 := (o.2.2 176 rfl).1
  have j43 : J_printLeaf_43 kx (nI v) σ = J_printLeaf_84 kx 0 (nI v) σ := by
    unfold J_printLeaf_43 J_printLeaf_44 J_printLeaf_58 J_printLeaf_83
    rw [ifT (rfl : (0 : Int32) = 0), e176]
    rcases h with q | ⟨q, -, q3⟩
    · rw [ifT q]
    · rw [ifF q, ifT i96, xv, o.ta (k := 94) rfl, ifF q3]
  unfold F_printLeaf
  rw [ifT i70, xn, o.ta (k := 121) rfl, o.ta (k := 122) rfl, e, ev, nm_eq, ifT i70, nm_eq, e176]
  rcases h with q | ⟨q, -, q3⟩
  · rw [ifT q]; exact j43
  · rw [ifF q, ifT i96, xv, o.ta (k := 94) rfl, ifF q3]; exact j43
/-- a variable, its derivative, what it was -/
theorem pl_var (W : FW C B P mss fss D M0 s0) (X : FlY z7 C P D mss M0 s0 V I Bm) (ka : mk M0 a = 18) (hn : n < 70000) (hp : (mI M0 3400 a, tA s0 121 n) ∈ vrF) (hv : v < V) (e1 : mI M0 3401 a = nI v) (ev : tA s0 122 n = nI v) (h : LvT s0 v) (hk : tA s0 121 n = 3 → tI s0 176 = 0) : PlR M0 s0 a n := fun kf cfN cfC cfH M σ _ o => by
  have i70 : inb (nI n) 70000 := inb_nI' hn (by decide)
  have xn : ix (nI n) = n := ix_nI (by omega)
  have v96 : v < 96 := by have := X.2.1.1; omega
  have t121 : ∀ c, tA s0 121 n = c → tA σ 121 (ix (nI n)) = c := fun c e => by rw [xn, o.ta (k := 121) rfl]; exact e
  have e176 : tI σ 176 = tI s0 176 := (o.2.2 176 rfl).1
  have k3401 : ∀ M1, OuK M0 M1 → mI M1 3401 a = nI v := fun M1 k => by rw [k.1 _ _ (by omega)]; exact e1
  simp only [List.mem_cons, List.not_mem_nil, or_false, Prod.mk.injEq] at hp
  unfold KB_X0_put_2 B_printNode
  refine PrJ.b9 o.1 ?_
  rw [ifT (o.k18 ka), o.i (g := 3400) (by decide), ifT i70, nm_eq]
  rcases hp with ⟨e, e'⟩ | ⟨e, e'⟩ | ⟨e, e'⟩ <;> rw [e, t121 _ e'] <;> simp +decide only [↓reduceIte, o.k18 ka]
  · rw [ob_idk, ob_idu, t_leaf0 o hn e' ev v96 h (fun y => absurd y (by decide)), k3401 M o.2.1]
    have tw : J_printLeaf_84 2 0 (nI v) σ = F_printVariable (nI v) σ := by
      unfold J_printLeaf_84 J_printLeaf_98 J_printLeaf_123
      simp +decide only [↓reduceIte]
      exact ob_idu
    rw [tw]
    exact z_pname W X hv o
  · rw [show K_X0_sign 15 M = some (2199023255552 + 18, M) from rfl, ob_some, ob_idu, t_leaf0 o hn e' ev v96 h (fun _ => hk e')]
    have tw : J_printLeaf_84 3 0 (nI v) σ = ob (F_tellText 8 σ) fun _ s => ob (F_printVariable (nI v) s) fun _ s => ob (F_letter 41 s) fun _ s => some ((), s) := by
      unfold J_printLeaf_84 J_printLeaf_98 J_printLeaf_120 J_printLeaf_123
      rw [ifF (by decide : ¬ (3 : Int32) = 4), ifT (rfl : (3 : Int32) = 3), e176, ifT (hk e')]
      simp +decide only [↓reduceIte]
    rw [tw]
    refine (z_text (j := 18) (j' := 8) o.1 ⟨by decide, by decide, rfl⟩).go o (fun M1 σ1 o1 => ?_)
    rw [ifT (o1.k18 ka), k3401 M1 o1.2.1]
    refine (z_pname W X hv o1).go o1 (fun M2 σ2 o2 => ?_)
    exact (z_plet o2 41).go o2 (fun M3 σ3 o3 => PrJ.rf o3.1)
  · rw [show K_X0_sign 16 M = some (2199023255552 + 19, M) from rfl, ob_some, ob_idu, t_leaf0 o hn e' ev v96 h (fun y => absurd y (by decide))]
    have tw : J_printLeaf_84 4 0 (nI v) σ = ob (F_tellText 6 σ) fun _ s => ob (F_printVariable (nI v) s) fun _ s => ob (F_letter 41 s) fun _ s => some ((), s) := by
      unfold J_printLeaf_84 J_printLeaf_98 J_printLeaf_123
      simp +decide only [↓reduceIte]
    rw [tw]
    refine (z_text (j := 19) (j' := 6) o.1 ⟨by decide, by decide, rfl⟩).go o (fun M1 σ1 o1 => ?_)
    rw [ifT (o1.k18 ka), k3401 M1 o1.2.1]
    refine (z_pname W X hv o1).go o1 (fun M2 σ2 o2 => ?_)
    exact (z_plet o2 41).go o2 (fun M3 σ3 o3 => PrJ.rf o3.1)
/-- flat trees -/
theorem NdR.pn (W : FW C B P mss fss D M0 s0) (X : FlY z7 C P D mss M0 s0 V I Bm) (hK : K ≤ (pl D 106).length) (hN : N ≤ 70000) (na : NdA s0 N) (h176 : tI s0 176 = 0) : ∀ (h s a n : Nat), NdR fx D M0 s0 106 V h s K N a n → PnR M0 s0 (PlR M0 s0) h a n
  | 0, _, _, _, z => z.elim
  | h + 1, s, a, n, z => by
    have ih := fun s a n z => NdR.pn W X hK hN na h176 h s a n z
    obtain ⟨⟨⟨k, k1, k2, -⟩, n1, n2⟩, -, z⟩ := z
    have ka : mk M0 a = 18 := by rw [k2]; exact (W.2.1.2.1 106 (by decide) k (by omega)).1
    have hn : n < 70000 := by omega
    refine ⟨⟨ka, hn⟩, ?_⟩
    have nar : ∀ {c : Int32}, tA s0 121 n = c → (c ≠ 5 ∧ c ≠ 6 ∧ c ≠ 8 ∧ c ≠ 9) → ¬ (tA s0 121 n = 5 ∨ tA s0 121 n = 6 ∨ tA s0 121 n = 8 ∨ tA s0 121 n = 9) := fun e ⟨c1, c2, c3, c4⟩ y => by
      rw [e] at y
      rcases y with y | y | y | y
      · exact c1 y
      · exact c2 y
      · exact c3 y
      · exact c4 y
    rcases z with ⟨-, c1, c2, c3, -⟩ | ⟨-, c1, ⟨v, v1, v2, v3, -⟩, -⟩ | ⟨-, c1, c2, -⟩ | ⟨-, c1, ⟨x, x1, x2⟩, -⟩ | ⟨-, c1, ⟨x, x1, x2⟩, ⟨y, y1, y2⟩, -⟩ | ⟨-, c1, c2, ⟨x, x1, x2⟩, ⟨y, y1, y2⟩, w, w1, w2⟩ | ⟨-, c1, c2, ⟨x, x1, x2⟩, ⟨y, y1, y2⟩, -⟩ | ⟨-, c1, ⟨x, x1, x2⟩, ⟨y, y1, y2⟩, -⟩ | ⟨-, c1, c2, ⟨x, x1, x2⟩, -⟩ | ⟨-, c1, c2, -, ⟨x, y, v1, v2, v3, v4, v5, v6, v7⟩, -⟩
    · exact Or.inl ⟨pl_num ka hn c1 c2 c3 ((na n n1 n2).2 c2), nar c2 (by decide)⟩
    · refine Or.inl ⟨pl_var W X ka hn c1 v1 v2 v3 (Or.inl h176) (fun _ => h176), ?_⟩
      simp only [List.mem_cons, List.not_mem_nil, or_false, Prod.mk.injEq] at c1
      rcases c1 with ⟨-, e⟩ | ⟨-, e⟩ | ⟨-, e⟩ <;> exact nar e (by decide)
    · exact Or.inl ⟨pl_time ka hn c1 c2, nar c2 (by decide)⟩
    · refine Or.inr (Or.inl ⟨?_, x, x1, ih _ _ _ x2⟩)
      simp only [List.mem_cons, List.not_mem_nil, or_false, Prod.mk.injEq] at c1 ⊢
      rcases c1 with c | c | c | c | c
      · exact Or.inl c
      · exact Or.inr (Or.inl c)
      · exact Or.inr (Or.inr (Or.inl c))
      · exact Or.inr (Or.inr (Or.inr (Or.inl c)))
      · exact Or.inr (Or.inr (Or.inr (Or.inr (Or.inl c))))
    · simp only [List.mem_cons, List.not_mem_nil, or_false, Prod.mk.injEq] at c1
      rcases c1 with c | c | c | c | c | c
      · exact Or.inr (Or.inr (Or.inr (Or.inl ⟨by rw [c.1, c.2]; decide, ⟨x, x1, ih _ _ _ x2⟩, y, y1, ih _ _ _ y2⟩)))
      · exact Or.inr (Or.inr (Or.inr (Or.inl ⟨by rw [c.1, c.2]; decide, ⟨x, x1, ih _ _ _ x2⟩, y, y1, ih _ _ _ y2⟩)))
      · exact Or.inr (Or.inr (Or.inr (Or.inl ⟨by rw [c.1, c.2]; decide, ⟨x, x1, ih _ _ _ x2⟩, y, y1, ih _ _ _ y2⟩)))
      · exact Or.inr (Or.inr (Or.inr (Or.inl ⟨by rw [c.1, c.2]; decide, ⟨x, x1, ih _ _ _ x2⟩, y, y1, ih _ _ _ y2⟩)))
      · exact Or.inr (Or.inr (Or.inl ⟨by rw [c.1, c.2]; decide, ⟨x, x1, ih _ _ _ x2⟩, y, y1, ih _ _ _ y2⟩))
      · exact Or.inr (Or.inr (Or.inl ⟨by rw [c.1, c.2]; decide, ⟨x, x1, ih _ _ _ x2⟩, y, y1, ih _ _ _ y2⟩))
    · exact Or.inr (Or.inr (Or.inr (Or.inr (Or.inl ⟨⟨c1, c2⟩, ⟨x, x1, ih _ _ _ x2⟩, ⟨y, y1, ih _ _ _ y2⟩, w, w1, ih _ _ _ w2⟩))))
    · exact Or.inr (Or.inr (Or.inr (Or.inr (Or.inr (Or.inl ⟨⟨Or.inl c1, c2⟩, ⟨x, x1, ih _ _ _ x2⟩, y, y1, ih _ _ _ y2⟩)))))
    · refine Or.inr (Or.inr (Or.inl ⟨?_, ⟨x, x1, ih _ _ _ x2⟩, y, y1, ih _ _ _ y2⟩))
      simp only [List.mem_cons, List.not_mem_nil, or_false, Prod.mk.injEq] at c1 ⊢
      rcases c1 with c | c
      · exact Or.inr (Or.inr (Or.inl c))
      · exact Or.inr (Or.inr (Or.inr c))
    · exact Or.inr (Or.inl ⟨by rw [c1, c2]; decide, x, x1, ih _ _ _ x2⟩)
    · exact Or.inr (Or.inr (Or.inr (Or.inr (Or.inr (Or.inr ⟨⟨c1, c2⟩, x, y, v1, v2, v3, v4, by omega, by omega⟩)))))
end PFLAT
