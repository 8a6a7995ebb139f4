/-! Layer B: how an unknown is in an equation, both sides, whole -/
set_option maxRecDepth 100000
section HOW2
variable {D : FQ} {M : CM} {s : TS} {V K N h st a n m p q r u v w x y z H : Nat} {op k : Int32}
/-- the outcome -/
def HwO (M : CM) (s : TS) (u h a n : Nat) : Prop := ∃ r, r ≤ 2 ∧ (∀ f, h + 1 < f → KG_X0_howIn f a (nI u) M = some (nI r, M)) ∧ (∀ f, h < f → G_contains f (nI n) (nI u) s = some (c01 r, s)) ∧ ∀ f, h < f → G_straight f (nI n) (nI u) s = some (s01 r, s)
theorem c01_c {x y : Nat} (h : x = 0 ↔ y = 0) : c01 x = c01 y := by
  unfold c01
  by_cases z : 0 < x
  · rw [ifT z, ifT (by omega)]
  · rw [ifF z, ifF (by omega)]
theorem mulI {s : TS} (x y : Nat) (h : x ≤ 2 ∧ y ≤ 2) : (if c01 x = 0 then some (s01 y, s) else if c01 y = 0 then (if s01 x = 0 then some ((0 : Int32), s) else some (1, s)) else some (0, s)) = some (s01 (hwO 5 x y 0), s) := by
  have e : hwO 5 x y 0 = if 0 < x ∧ 0 < y then 2 else x + y := by unfold hwO; simp +decide only [↓reduceIte]
  rw [e]
  by_cases q : x = 0
  · rw [ifT (c01_0.mpr q), ifF (fun t => by omega), q, Nat.zero_add]
  · rw [ifF (fun t => q (c01_0.mp t))]
    by_cases q2 : y = 0
    · rw [ifT (c01_0.mpr q2), s01_id, ifF (show ¬ (0 < x ∧ 0 < y) by omega), q2]; rfl
    · rw [ifF (fun t => q2 (c01_0.mp t)), ifT ⟨by omega, by omega⟩]; rfl
theorem divI {s : TS} (x y : Nat) (h : x ≤ 2 ∧ y ≤ 2) : (if c01 y = 0 then (if s01 x = 0 then some ((0 : Int32), s) else some (1, s)) else some (0, s)) = some (s01 (hwO 6 x y 0), s) := by
  have e : hwO 6 x y 0 = if 0 < y then 2 else x := by unfold hwO; simp +decide only [↓reduceIte]
  rw [e]
  by_cases q2 : y = 0
  · rw [ifT (c01_0.mpr q2), s01_id, ifF (show ¬ 0 < y by omega)]
  · rw [ifF (fun t => q2 (c01_0.mp t)), ifT (by omega)]; rfl
theorem hwO_le (hx : x ≤ 2 ∧ y ≤ 2 ∧ z ≤ 2) : hwO op x y z ≤ 2 := by
  unfold hwO
  split
  · omega
  · split
    · split <;> omega
    · split
      · split <;> omega
      · split
        · split <;> omega
        · split <;> omega
theorem hwO_d (h : op ≠ 3 ∧ op ≠ 4 ∧ op ≠ 5 ∧ op ≠ 6 ∧ op ≠ 7 ∧ op ≠ 14) : hwO op x y z = if x + y + z = 0 then 0 else 2 := by
  unfold hwO
  rw [ifF (fun t => t.elim h.1 (fun t => t.elim h.2.1 h.2.2.2.2.1)), ifF h.2.2.1, ifF h.2.2.2.1, ifF h.2.2.2.2.2]
theorem z_how (A : ArS 133 134 40000 D M K) (h7 : N ≤ 70000) (hu : u < 180) : ∀ (h st a n : Nat), h ≤ 250 → SxR D M s 134 V K N h st a n → HwO M s u h a n
  | 0, _, _, _, _, z => z.elim
  | h + 1, st, a, n, hh, z => by
    have hx := NdS2.one
    have ih := fun st a n z => z_how A h7 hu h st a n (by omega) z
    obtain ⟨⟨⟨j, j1, j2⟩, n1, n2⟩, -, z⟩ := z
    have hk : mk M a = 18 := by rw [j2]; exact (A.k18 hx j1).1
    have ha : a ≠ 0 := by
      have := (A.1.2.1 134 (by decide) j (by have := A.2.2.2.1.2.1; omega)).2.1.1
      omega
    have hn : n < 70000 := by omega
    have xx : ∀ {y}, 1 ≤ y ∧ y < N → ix (nI y) = y := fun q => ix_nI (by omega)
    -- leaves that do not hold it
    have none0 : lf3 M a → mI M 3400 a ≠ 17 → mI M 3400 a ∉ ([3, 4, 5, 6, 7, 14] : List Int32) → (∀ ct, B_contains ct (nI n) (nI u) s = some (c01 0, s)) → HwO M s u (h + 1) a n := fun l3 n17 nop c => by
      refine ⟨0, by omega, fun f hf => ?_, fun f hf => ?_, fun f hf => ?_⟩
      · obtain ⟨f, rfl⟩ : ∃ g, f = g + 2 := ⟨f - 2, by omega⟩
        have := k_how (cf := KG_X0_howIn (f + 1)) (M := M) (a := a) (op := mI M 3400 a) (x := 0) (y := 0) (z := 0) hk ha rfl n17 (nI u) (by rw [l3.1]; exact k_how0 _ _ _) (by rw [l3.2.1]; exact k_how0 _ _ _) (by rw [l3.2.2]; exact k_how0 _ _ _) ⟨by omega, by omega, by omega⟩
        simp only [List.mem_cons, List.not_mem_nil, or_false, not_or] at nop
        rw [hwO_d ⟨nop.1, nop.2.1, nop.2.2.1, nop.2.2.2.1, nop.2.2.2.2.1, nop.2.2.2.2.2⟩] at this
        exact this
      · obtain ⟨f, rfl⟩ : ∃ g, f = g + 1 := ⟨f - 1, by omega⟩
        exact c _
      · obtain ⟨f, rfl⟩ : ∃ g, f = g + 1 := ⟨f - 1, by omega⟩
        exact t_st0 (c (G_contains 299))
    rcases z with ⟨q0, l3, z⟩ | ⟨q0, op, vl, x, q1, z⟩ | ⟨q1, ⟨x, x1, x2⟩, b2, b3⟩ | ⟨q1, ⟨x, x1, x2⟩, ⟨y, y1, y2⟩, b3⟩ | ⟨q0, o1, q1, ⟨x, x1, x2⟩, ⟨y, y1, y2⟩, z, z1, z2⟩ | ⟨q0, q1, ⟨y, y1, y2⟩, ⟨z, z1, z2⟩, b3⟩ | ⟨q0, o1, q1, l3, -⟩
    · rcases z with ⟨o1, q, -⟩ | ⟨o1, q⟩ | ⟨o1, v, ⟨-, v1⟩, -, v2, v3, -⟩
      · exact none0 l3 (by rw [o1]; decide) (by rw [o1]; decide) (fun _ => t_con0 hn (Or.inl q) _)
      · exact none0 l3 (by rw [o1]; decide) (by rw [o1]; decide) (fun _ => t_con0 hn (Or.inr (Or.inl q)) _)
      · simp only [List.mem_cons, Prod.mk.injEq, List.not_mem_nil, or_false] at o1
        rcases o1 with ⟨o1, q⟩ | ⟨o1, q⟩
        · exact none0 l3 (by rw [o1]; decide) (by rw [o1]; decide) (fun _ => t_conV hn q v2 v1 v3 _)
        · exact none0 l3 (by rw [o1]; decide) (by rw [o1]; decide) (fun _ => t_con0 hn (Or.inr (Or.inr (Or.inl q))) _)
    · -- an unknown: r is 1 if it is u
      have lf : ∀ r, r ≤ 1 → (∀ f, h + 2 < f → KG_X0_howIn f a (nI u) M = some (nI r, M)) → (∀ ct, B_contains ct (nI n) (nI u) s = some (c01 r, s)) → (r ≠ 0 → tA s 121 n = 2 ∨ tA s 121 n = 3 ∨ tA s 121 n = 30) → HwO M s u (h + 1) a n := fun r hr k c o => by
        refine ⟨r, by omega, k, fun f hf => ?_, fun f hf => ?_⟩
        · obtain ⟨f, rfl⟩ : ∃ g, f = g + 1 := ⟨f - 1, by omega⟩
          exact c _
        · obtain ⟨f, rfl⟩ : ∃ g, f = g + 1 := ⟨f - 1, by omega⟩
          show B_straight (G_straight f) (nI n) (nI u) s = _
          by_cases y : r = 0
          · subst y; exact t_st0 (c (G_contains 299))
          · rw [t_st hn (show F_contains (nI n) (nI u) s = some (c01 r, s) from c (G_contains 299)) y]
            have r1 : s01 r = 1 := by unfold s01; rw [ifT (by omega)]
            rw [r1]
            rcases o y with o | o | o
            · rw [ifT o]
            · rw [o, ifF (by decide), ifT rfl]
            · rw [o]; simp +decide only [↓reduceIte]
      have kk : ∀ r, r ≤ 1 → (∀ b, mk M b = 18 → b ≠ 0 → mI M 3400 b = op → mI M 3401 b = vl → lf3 M b → ∀ f, KG_X0_howIn (f + 2) b (nI u) M = some (nI r, M)) → ∀ f, h + 2 < f → KG_X0_howIn f a (nI u) M = some (nI r, M) := fun r hr kb f hf => by
        obtain ⟨f, rfl⟩ : ∃ g, f = g + 3 := ⟨f - 3, by omega⟩
        rcases z with ⟨-, o1, o2, l3⟩ | ⟨-, o1, o2, o3, ⟨i, i1, i2⟩, o4, o5, l3, -⟩
        · exact kb a hk ha o1 o2 l3 (f + 1)
        · have hkb : mk M (mR M 3405 a) = 18 := by rw [i2]; exact (A.k18 hx i1).1
          have hb0 : mR M 3405 a ≠ 0 := by
            have := (A.1.2.1 134 (by decide) i (by have := A.2.2.2.1.2.1; omega)).2.1.1
            rw [i2]; omega
          have := k_how (cf := KG_X0_howIn (f + 2)) (M := M) (a := a) (op := 7) (x := r) (y := 0) (z := 0) hk ha o1 (by decide) (nI u) (kb _ hkb hb0 o4 o5 l3 f) (by rw [o2]; exact k_how0 _ _ _) (by rw [o3]; exact k_how0 _ _ _) ⟨by omega, by omega, by omega⟩
          rw [show hwO 7 r 0 0 = r by unfold hwO; rw [ifT (Or.inr (Or.inr rfl))]; omega] at this
          exact this
      rcases q1 with ⟨e, v, w, ⟨b, -⟩, c, o1, o2⟩ | ⟨e, v, w, ⟨b, -⟩, c, ⟨-, o1, d, d1, d2, o2⟩ | ⟨d, -⟩⟩ | ⟨e, v, w, ⟨b, -⟩, c, o1, o2⟩ | ⟨e, w, b, c, d, o1, o2⟩
      · have l : LfK s n w x := Or.inl ⟨e, v, b, c⟩
        have w180 := l.lt.1
        refine lf (if w = u then 1 else 0) (by split <;> omega) (kk _ (by split <;> omega) (fun b' k1 k2 k3 k4 k5 f => k_how17 k1 k2 (by rw [k3, o1]) (by rw [k4, o2]) k5 ⟨by omega, by omega⟩ f)) (fun _ => t_conL hn l (by omega)) (fun _ => Or.inl e)
      · have l : LfK s n d x := Or.inr (Or.inl ⟨e, v, w, b, c, d2, d1⟩)
        refine lf (if d = u then 1 else 0) (by split <;> omega) (kk _ (by split <;> omega) (fun b' k1 k2 k3 k4 k5 f => k_how17 k1 k2 (by rw [k3, o1]) (by rw [k4, o2]) k5 ⟨by omega, by omega⟩ f)) (fun _ => t_conL hn l (by omega)) (fun _ => Or.inr (Or.inl e))
      · exact absurd rfl d
      · refine lf 0 (by omega) (kk _ (by omega) (fun b' k1 k2 k3 k4 k5 f => ?_)) (fun _ => t_con0 hn (Or.inr (Or.inr (Or.inl e))) _) (fun q => absurd rfl q)
        have := k_how (cf := KG_X0_howIn (f + 1)) (M := M) (a := b') (op := 18) (x := 0) (y := 0) (z := 0) k1 k2 (by rw [k3, o1]) (by decide) (nI u) (by rw [k5.1]; exact k_how0 _ _ _) (by rw [k5.2.1]; exact k_how0 _ _ _) (by rw [k5.2.2]; exact k_how0 _ _ _) ⟨by omega, by omega, by omega⟩
        exact this
      · have l : LfK s n w x := Or.inr (Or.inr ⟨e, c, b, d⟩)
        refine lf (if w = u then 1 else 0) (by split <;> omega) (kk _ (by split <;> omega) (fun b' k1 k2 k3 k4 k5 f => k_how17 k1 k2 (by rw [k3, o1]) (by rw [k4, o2]) k5 ⟨by omega, by omega⟩ f)) (fun _ => t_conL hn l (by omega)) (fun _ => Or.inr (Or.inr e))
    · -- one part
      obtain ⟨r, r1, r2, r3, r4⟩ := ih _ _ _ x2
      have xn := xx x2.nb.2
      have kT := one_k1 (oneX_T q1)
      obtain ⟨o, ho⟩ : ∃ o, o = mI M 3400 a := ⟨_, rfl⟩
      obtain ⟨t, ht⟩ : ∃ t, t = tA s 121 n := ⟨_, rfl⟩
      have q1' := q1
      rw [← ho, ← ht] at q1'
      simp only [List.mem_cons, Prod.mk.injEq, List.not_mem_nil, or_false] at q1'
      have con : ∀ f, h + 1 < f → G_contains f (nI n) (nI u) s = some (c01 (hwO o r 0 0), s) := fun f hf => by
        obtain ⟨f, rfl⟩ : ∃ g, f = g + 1 := ⟨f - 1, by omega⟩
        show B_contains (G_contains f) (nI n) (nI u) s = _
        rw [t_con1 hn kT (nI u) (by rw [x1]; exact r3 f (by omega)), c01_c (x := r) (y := hwO o r 0 0)]
        rcases q1' with ⟨-, q, -⟩ | ⟨-, q, -⟩ | ⟨-, q, -⟩ | ⟨-, q, -⟩ | ⟨-, q, -⟩ | ⟨-, q, -⟩ <;> rw [q]
        · rw [show hwO 7 r 0 0 = r by unfold hwO; rw [ifT (Or.inr (Or.inr rfl))]; omega]
        all_goals rw [hwO_d (by decide)]; split <;> omega
      refine ⟨hwO o r 0 0, hwO_le ⟨r1, by omega, by omega⟩, fun f hf => ?_, con, fun f hf => ?_⟩
      · obtain ⟨f, rfl⟩ : ∃ g, f = g + 2 := ⟨f - 2, by omega⟩
        refine k_how (cf := KG_X0_howIn (f + 1)) (M := M) (a := a) (op := o) hk ha ho.symm ?_ (nI u) (r2 (f + 1) (by omega)) (by rw [b2]; exact k_how0 _ _ _) (by rw [b3]; exact k_how0 _ _ _) ⟨r1, by omega, by omega⟩
        rcases q1' with ⟨-, q, -⟩ | ⟨-, q, -⟩ | ⟨-, q, -⟩ | ⟨-, q, -⟩ | ⟨-, q, -⟩ | ⟨-, q, -⟩ <;> rw [q] <;> decide
      · obtain ⟨f, rfl⟩ : ∃ g, f = g + 1 := ⟨f - 1, by omega⟩
        show B_straight (G_straight f) (nI n) (nI u) s = _
        have fc : F_contains (nI n) (nI u) s = some (c01 (hwO o r 0 0), s) := con 300 (by omega)
        by_cases y : hwO o r 0 0 = 0
        · rw [y] at fc ⊢; exact t_st0 fc
        · rw [t_st hn fc y, ← ht]
          rcases q1' with ⟨-, q, q'⟩ | ⟨-, q, q'⟩ | ⟨-, q, q'⟩ | ⟨-, q, q'⟩ | ⟨-, q, q'⟩ | ⟨-, q, q'⟩ <;> rw [q'] <;> simp +decide only [↓reduceIte]
          · rw [x1, r4 f (by omega), ob_some, q, show hwO 7 r 0 0 = r by unfold hwO; rw [ifT (Or.inr (Or.inr rfl))]; omega]
          all_goals (rw [q, hwO_d (by decide)] at y ⊢; rw [ifF (fun z => y (by rw [ifT z]))]; rfl)
    · -- two parts
      obtain ⟨r, r1, r2, r3, r4⟩ := ih _ _ _ x2
      obtain ⟨p, p1, p2, p3, p4⟩ := ih _ _ _ y2
      have kT := two_k2 (twoX_T q1)
      obtain ⟨o, ho⟩ : ∃ o, o = mI M 3400 a := ⟨_, rfl⟩
      obtain ⟨t, ht⟩ : ∃ t, t = tA s 121 n := ⟨_, rfl⟩
      have q1' := q1
      rw [← ho, ← ht] at q1'
      simp only [List.mem_cons, Prod.mk.injEq, List.not_mem_nil, or_false] at q1'
      have h34 : ∀ {o : Int32}, (o = 3 ∨ o = 4) → hwO o r p 0 = max r p := fun q => by unfold hwO; rw [ifT (q.imp id Or.inl)]
      have h5 : hwO 5 r p 0 = if 0 < r ∧ 0 < p then 2 else r + p := by unfold hwO; simp +decide only [↓reduceIte]
      have h6 : hwO 6 r p 0 = if 0 < p then 2 else r := by unfold hwO; simp +decide only [↓reduceIte]
      have con : ∀ f, h + 1 < f → G_contains f (nI n) (nI u) s = some (c01 (hwO o r p 0), s) := fun f hf => by
        obtain ⟨f, rfl⟩ : ∃ g, f = g + 1 := ⟨f - 1, by omega⟩
        show B_contains (G_contains f) (nI n) (nI u) s = _
        rw [t_con2 hn kT (nI u) (by rw [x1]; exact r3 f (by omega)) (by rw [y1]; exact p3 f (by omega)), c01_c (x := r + p) (y := hwO o r p 0)]
        rcases q1' with ⟨-, q, -⟩ | ⟨-, q, -⟩ | ⟨-, q, -⟩ | ⟨-, q, -⟩ | ⟨-, q, -⟩ | ⟨-, q, -⟩ | ⟨-, q, -⟩ | ⟨-, q, -⟩ <;> rw [q]
        · rw [h34 (Or.inl rfl)]; omega
        · rw [h34 (Or.inr rfl)]; omega
        · rw [h5]; split <;> omega
        · rw [h6]; split <;> omega
        all_goals rw [hwO_d (by decide)]; split <;> omega
      refine ⟨hwO o r p 0, hwO_le ⟨r1, p1, by omega⟩, fun f hf => ?_, con, fun f hf => ?_⟩
      · obtain ⟨f, rfl⟩ : ∃ g, f = g + 2 := ⟨f - 2, by omega⟩
        refine k_how (cf := KG_X0_howIn (f + 1)) (M := M) (a := a) (op := o) hk ha ho.symm ?_ (nI u) (r2 (f + 1) (by omega)) (p2 (f + 1) (by omega)) (by rw [b3]; exact k_how0 _ _ _) ⟨r1, p1, by omega⟩
        rcases q1' with ⟨-, q, -⟩ | ⟨-, q, -⟩ | ⟨-, q, -⟩ | ⟨-, q, -⟩ | ⟨-, q, -⟩ | ⟨-, q, -⟩ | ⟨-, q, -⟩ | ⟨-, q, -⟩ <;> rw [q] <;> decide
      · obtain ⟨f, rfl⟩ : ∃ g, f = g + 1 := ⟨f - 1, by omega⟩
        show B_straight (G_straight f) (nI n) (nI u) s = _
        have fc : F_contains (nI n) (nI u) s = some (c01 (hwO o r p 0), s) := con 300 (by omega)
        by_cases yz : hwO o r p 0 = 0
        · rw [yz] at fc ⊢; exact t_st0 fc
        · rw [t_st hn fc yz, ← ht]
          have cx : F_contains (nI x) (nI u) s = some (c01 r, s) := r3 300 (by omega)
          have cy : F_contains (nI y) (nI u) s = some (c01 p, s) := p3 300 (by omega)
          rcases q1' with ⟨-, q, q'⟩ | ⟨-, q, q'⟩ | ⟨-, q, q'⟩ | ⟨-, q, q'⟩ | ⟨-, q, q'⟩ | ⟨-, q, q'⟩ | ⟨-, q, q'⟩ | ⟨-, q, q'⟩ <;> rw [q'] <;> simp +decide only [↓reduceIte]
          · rw [x1, r4 f (by omega), ob_some, y1, q, h34 (Or.inl rfl)]
            exact s01_and r p ⟨r1, p1⟩ s _ (p4 f (by omega))
          · rw [x1, r4 f (by omega), ob_some, y1, q, h34 (Or.inr rfl)]
            exact s01_and r p ⟨r1, p1⟩ s _ (p4 f (by omega))
          · rw [x1, cx, ob_some, q, ← mulI r p ⟨r1, p1⟩]
            simp only [x1, y1, cy, p4 f (by omega), r4 f (by omega), ob_some]
          · rw [y1, cy, ob_some, q, ← divI r p ⟨r1, p1⟩]
            simp only [x1, r4 f (by omega), ob_some]
          all_goals (rw [q, hwO_d (by decide)] at yz ⊢; rw [ifF (fun z => yz (by rw [ifT z]))]; rfl)
    · -- if
      obtain ⟨r, r1, r2, r3, r4⟩ := ih _ _ _ x2
      obtain ⟨p, p1, p2, p3, p4⟩ := ih _ _ _ y2
      obtain ⟨q, p1', p2', p3', p4'⟩ := ih _ _ _ z2
      have e14 : hwO 14 r p q = if 0 < r then 2 else max p q := by unfold hwO; simp +decide only [↓reduceIte]
      have con : ∀ f, h + 1 < f → G_contains f (nI n) (nI u) s = some (c01 (hwO 14 r p q), s) := fun f hf => by
        obtain ⟨f, rfl⟩ : ∃ g, f = g + 1 := ⟨f - 1, by omega⟩
        show B_contains (G_contains f) (nI n) (nI u) s = _
        rw [t_con3 hn q1 (nI u) (by rw [x1]; exact r3 f (by omega)) (by rw [y1]; exact p3 f (by omega)) (by rw [z1]; exact p3' f (by omega)), c01_c (x := r + p + q) (y := hwO 14 r p q)]
        rw [e14]; split <;> omega
      refine ⟨hwO 14 r p q, hwO_le ⟨r1, p1, p1'⟩, fun f hf => ?_, con, fun f hf => ?_⟩
      · obtain ⟨f, rfl⟩ : ∃ g, f = g + 2 := ⟨f - 2, by omega⟩
        exact k_how (cf := KG_X0_howIn (f + 1)) (M := M) (a := a) (op := 14) hk ha o1 (by decide) (nI u) (r2 (f + 1) (by omega)) (p2 (f + 1) (by omega)) (p2' (f + 1) (by omega)) ⟨r1, p1, p1'⟩
      · obtain ⟨f, rfl⟩ : ∃ g, f = g + 1 := ⟨f - 1, by omega⟩
        show B_straight (G_straight f) (nI n) (nI u) s = _
        have fc : F_contains (nI n) (nI u) s = some (c01 (hwO 14 r p q), s) := con 300 (by omega)
        have cx : F_contains (nI x) (nI u) s = some (c01 r, s) := r3 300 (by omega)
        by_cases y0 : hwO 14 r p q = 0
        · rw [y0] at fc ⊢; exact t_st0 fc
        · rw [t_st hn fc y0, q1]
          simp +decide only [↓reduceIte]
          rw [x1, cx, ob_some, e14]
          by_cases t : r = 0
          · rw [ifT (c01_0.mpr t), y1, p4 f (by omega), ob_some, z1, ifF (show ¬ 0 < r by omega)]
            exact s01_and p q ⟨p1, p1'⟩ s _ (p4' f (by omega))
          · rw [ifF (fun w => t (c01_0.mp w)), ifT (by omega)]; rfl
    · -- a relation
      obtain ⟨r, r1, r2, r3, r4⟩ := ih _ _ _ y2
      obtain ⟨p, p1, p2, p3, p4⟩ := ih _ _ _ z2
      have kq : tA s 121 n = 20 ∨ tA s 121 n = 25 := q1.imp (fun q => q.1) (fun q => q.1)
      obtain ⟨o, ho⟩ : ∃ o, o = mI M 3400 a := ⟨_, rfl⟩
      have ol : o ∈ ([20, 21, 22, 23, 24, 25] : List Int32) := by
        rcases q1 with ⟨-, q, -⟩ | ⟨-, q, -⟩
        · rw [← ho] at q
          simp only [List.mem_cons, Prod.mk.injEq, List.not_mem_nil, or_false] at q ⊢
          rcases q with ⟨q, -⟩ | ⟨q, -⟩ | ⟨q, -⟩ | ⟨q, -⟩ | ⟨q, -⟩ | ⟨q, -⟩ <;> rw [q] <;> decide
        · rw [← ho] at q
          simp only [List.mem_cons, Prod.mk.injEq, List.not_mem_nil, or_false] at q ⊢
          rcases q with ⟨q, -⟩ | ⟨q, -⟩ <;> rw [q] <;> decide
      have ed : hwO o r p 0 = if r + p + 0 = 0 then 0 else 2 := by
        refine hwO_d ?_
        simp only [List.mem_cons, List.not_mem_nil, or_false] at ol
        rcases ol with q | q | q | q | q | q <;> rw [q] <;> decide
      have con : ∀ f, h + 1 < f → G_contains f (nI n) (nI u) s = some (c01 (hwO o r p 0), s) := fun f hf => by
        obtain ⟨f, rfl⟩ : ∃ g, f = g + 1 := ⟨f - 1, by omega⟩
        show B_contains (G_contains f) (nI n) (nI u) s = _
        rw [t_con4 hn kq (nI u) (by rw [y1]; exact r3 f (by omega)) (by rw [z1]; exact p3 f (by omega)), c01_c (x := r + p) (y := hwO o r p 0)]
        rw [ed]; split <;> omega
      refine ⟨hwO o r p 0, hwO_le ⟨r1, p1, by omega⟩, fun f hf => ?_, con, fun f hf => ?_⟩
      · obtain ⟨f, rfl⟩ : ∃ g, f = g + 2 := ⟨f - 2, by omega⟩
        refine k_how (cf := KG_X0_howIn (f + 1)) (M := M) (a := a) (op := o) hk ha ho.symm ?_ (nI u) (r2 (f + 1) (by omega)) (p2 (f + 1) (by omega)) (by rw [b3]; exact k_how0 _ _ _) ⟨r1, p1, by omega⟩
        intro q; rw [q] at ol; exact absurd ol (by decide)
      · obtain ⟨f, rfl⟩ : ∃ g, f = g + 1 := ⟨f - 1, by omega⟩
        show B_straight (G_straight f) (nI n) (nI u) s = _
        have fc : F_contains (nI n) (nI u) s = some (c01 (hwO o r p 0), s) := con 300 (by omega)
        by_cases y0 : hwO o r p 0 = 0
        · rw [y0] at fc ⊢; exact t_st0 fc
        · rw [t_st hn fc y0]
          have e2 : hwO o r p 0 = 2 := by
            rw [ed] at y0 ⊢
            rw [ifF (fun z => y0 (by rw [ifT z]))]
          rw [e2]
          rcases kq with q | q <;> rw [q] <;> simp +decide only [↓reduceIte] <;> rfl
    · exact none0 l3 (by rw [o1]; decide) (by rw [o1]; decide) (fun _ => t_con0 hn (Or.inr (Or.inr (Or.inr q1))) _)
end HOW2
