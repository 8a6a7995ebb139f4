/-! Layer B: a text comes in while there are rows: the world of both -/
set_option maxRecDepth 100000
/-- the rows' objects are among the first n -/
def frD (D : FQ) (n : Nat) : FQ := (pl D, fun o => if o < n then ow D o else 0)
section LDFW
variable {C C' : PC} {D D' : FQ} {M M' : CM} {σ σ' : TS} {mss fss ns : List Nat} {B len n a b l : Nat} {P P' X : Nat → Prop}
theorem frD_pl : pl (frD D n) l = pl D l := rfl
theorem frD_o {o : Nat} (h : o < n) : ow (frD D n) o = ow D o := ifT h
theorem frD_n {o : Nat} (h : n ≤ o) : ow (frD D n) o = 0 := ifF (by omega)
theorem PoW.fr (h : PoW D M) : PoW (frD D (mn M)) M := by
  obtain ⟨h1, h2, h3, h4, h5⟩ := h
  have aq : ∀ l a xs, Ls M l xs → AQ D M l a → AQ (frD D (mn M)) M l a := fun l a xs hL ha z => by
    obtain ⟨⟨q1, q2⟩, q3⟩ := ha z
    rcases hL.lt with q | q
    · exact absurd q z
    · exact ⟨⟨by rw [frD_o q]; exact q1, q2⟩, q3⟩
  refine ⟨fun l hl => ?_, fun l hl k hk => ?_, fun k hk => ?_, fun k hk => ?_, fun o ho1 ho2 ho3 => ?_⟩
  · obtain ⟨a1, a2, a3⟩ := h1 l hl
    exact ⟨a1, aq _ _ _ a1 a2, a3⟩
  · obtain ⟨a1, a2, a3⟩ := h2 l hl k hk
    exact ⟨a1, a2, by rw [frD_pl, frD_o a2.2]; exact a3⟩
  · obtain ⟨a1, a2, a3⟩ := h3 k hk
    exact ⟨a1, a2, by rw [frD_pl, frD_o a2.2]; exact a3⟩
  · obtain ⟨⟨xs, a0, a1⟩, a2, a3, a4⟩ := h4 k hk
    exact ⟨⟨xs, a0, a1⟩, a2, by rw [frD_pl, frD_o a2.2]; exact a3, aq _ _ _ a0 a4⟩
  · rw [frD_o ho2] at ho3; exact h5 o ho1 ho2 ho3
theorem PoW.mvw (h : PoW D M) (hn : 167 ≤ mn M) (F : Fz X M M') (hX : ∀ o, o < mn M → X o → ¬ Fx D o) (h23 : ∀ o, mn M ≤ o → o < mn M' → ow D o = 0) : PoW D M' ∧ ∀ i, i ∈ flI → capI D M' i = capI D M i := by
  obtain ⟨h1, h2, h3, h4, h5⟩ := h
  have so : ∀ o, o < mn M → 98 ≤ tgof D o → So M M' o := fun o ho hf => F.so ho (fun z => hX o ho z hf)
  have tp : ∀ l k, 98 ≤ l → 98 ≤ tg l k := fun l k hl => by unfold tg; omega
  have sd : ∀ o t, 167 ≤ o → o < mn M → ow D o = t → 98 ≤ t → So M M' o := fun o t h1 h2 h3 h4 => so o h2 (by rw [tgo_d h1, h3]; exact h4)
  have sl : ∀ l, l ∈ flA → So M M' l := fun l hl => so l (by have := flA_rng l hl; omega) (by have := flA_rng l hl; rw [tgo_s (by omega)]; omega)
  have arr : ∀ l a xs, Ls M l xs → 98 ≤ a → AQ D M l a → So M M' l → (Ls M' l xs ∧ AQ D M' l a) ∧ cap M' l = cap M l := fun l a xs hL h0 ho s => by
    have sa : mR M 4201 l ≠ 4398046511104 → So M M' (mR M 4201 l) := fun z => by
      rcases hL.lt with q | q
      · exact absurd q z
      · exact sd _ a (ho z).1.2 q (ho z).1.1 h0
    refine ⟨⟨hL.kp F.1 (fun o ho => F.k ho) s sa, fun z => ?_⟩, ?_⟩
    · rw [s.r] at z ⊢
      exact ⟨(ho z).1, by rw [(sa z).l]; exact (ho z).2⟩
    · unfold cap
      rw [s.r]
      by_cases z : mR M 4201 l = 4398046511104
      · rw [ifT z, ifT z]
      · rw [ifF z, ifF z, (sa z).l]
  have n := F.1
  have c99 : ∀ k, k < (pl D 99).length → So M M' ((pl D 99).getD k 0) := fun k hk => by
    obtain ⟨a1, a2, a3⟩ := h2 99 (by decide) k hk
    exact sd _ _ a2.1 a2.2 a3 (tp _ _ (by decide))
  have c9 : ∀ k, k < (pl D 99).length → (∃ xs, (Ls M' (mR M 2605 ((pl D 99).getD k 0)) xs ∧ xs.length ≤ 480) ∧ AQ D M' (mR M 2605 ((pl D 99).getD k 0)) (tg 202 k)) ∧ cap M' (mR M 2605 ((pl D 99).getD k 0)) = cap M (mR M 2605 ((pl D 99).getD k 0)) := fun k hk => by
    obtain ⟨⟨xs, b0, b0'⟩, b2, b3, b4⟩ := h4 k hk
    have s2 := sd _ _ b2.1 b2.2 b3 (tp _ _ (by decide))
    obtain ⟨⟨c1, c2⟩, c3⟩ := arr _ _ xs b0 (tp _ _ (by decide)) b4 s2
    exact ⟨⟨xs, ⟨c1, b0'⟩, c2⟩, c3⟩
  refine ⟨⟨fun l hl => ?_, fun l hl k hk => ?_, fun k hk => ?_, fun k hk => ?_, fun o ho1 ho2 ho3 => ?_⟩, fun i hi => ?_⟩
  · obtain ⟨a1, a2, a3⟩ := h1 l hl
    have r := flA_rng l hl
    obtain ⟨⟨b1, b2⟩, -⟩ := arr l l _ a1 (by omega) a2 (sl l hl)
    exact ⟨b1, b2, a3⟩
  · obtain ⟨a1, a2, a3⟩ := h2 l hl k hk
    exact ⟨by rw [F.k a2.2]; exact a1, ⟨a2.1, by omega⟩, a3⟩
  · obtain ⟨a1, a2, a3⟩ := h2 98 (by decide) k hk
    have s := sd _ _ a2.1 a2.2 a3 (tp _ _ (by decide))
    obtain ⟨b1, b2, b3⟩ := h3 k hk
    rw [s.r]
    exact ⟨⟨by rw [F.k b2.2]; exact b1.1, by rw [(F.2.1 _ b2.2).2]; exact b1.2⟩, ⟨b2.1, by omega⟩, b3⟩
  · obtain ⟨⟨xs, b0, b0'⟩, b2, b3, b4⟩ := h4 k hk
    rw [(c99 k hk).r]
    obtain ⟨⟨xs, c1, c2⟩, -⟩ := c9 k hk
    exact ⟨⟨xs, c1.1, c1.2⟩, ⟨b2.1, by omega⟩, b3, c2⟩
  · by_cases q : o < mn M
    · rw [F.k q]; exact h5 o ho1 q ho3
    · exact absurd (h23 o (by omega) ho2) ho3
  · have e : ll D M' i = ll D M i := by
      unfold ll
      by_cases q : i < 1000
      · rw [ifT q, ifT q]
      · rw [ifF q, ifF q]
        by_cases q2 : i - 1000 < (pl D 99).length
        · rw [ifT q2, ifT q2, (c99 _ q2).r]
        · rw [ifF q2, ifF q2]
    unfold capI
    rw [e]
    by_cases z : ll D M i = 0
    · rw [ifT z, ifT z]
    · rw [ifF z, ifF z]
      unfold ll at z ⊢
      by_cases q : i < 1000
      · rw [ifT q]
        rcases flI_lt hi with g | g
        · have r := flA_rng i g
          obtain ⟨a1, a2, a3⟩ := h1 i g
          exact (arr i i _ a1 (by omega) a2 (sl i g)).2
        · omega
      · rw [ifF q] at z ⊢
        by_cases q2 : i - 1000 < (pl D 99).length
        · rw [ifT q2]; exact (c9 _ q2).2
        · rw [ifF q2] at z; exact absurd rfl z
/-- the text's objects may be more -/
theorem IT.more (I : IT C B P' mss fss M σ) (hc : cnf C ≤ 12) (h : ∀ o, P o → (167 ≤ o ∧ o < mn M) ∧ ¬ Ar M o ∧ o ≠ mR M 201 4) : IT C B (fun o => P' o ∨ P o) mss fss M σ := by
  obtain ⟨i1, i2, i3, i4, ⟨j1, j2, j3, j4, j5⟩, ⟨t1, t2, t3, t4⟩, i6⟩ := I
  have v : Wz C C P' M M σ σ := Wz.rf hc
  refine ⟨i1, i2, i3, i4, ⟨j1, j2, j3, j4, j5⟩, ⟨fun o ho => ?_, fun k hk => (t2 k hk).wz v (fun _ z => Or.inl z) (fun _ _ => rfl) rfl, fun k hk => (t3 k hk).wz v (fun _ z => Or.inl z) hk rfl, t4⟩, i6⟩
  rcases ho with q | q
  · exact t1 o q
  · obtain ⟨a, b, c⟩ := h o q
    exact ⟨Or.inl trivial, a, b, c⟩
/-- a text comes in while there are rows -/
theorem FW.ld (W : FW C B P mss fss D M σ) (h : LdO C B len P mss M σ M' σ') (ha : rmN D M + 4 + (mn M' - mn M) ≤ a ∧ rmS D M + 60200 + (ms M' - ms M) ≤ b) (hab : a ≤ 601024 ∧ b ≤ 7293034) (hms : ms M ≤ ms M') : ∃ (C' : PC) (P' : Nat → Prop) (ns fss' : List Nat), FW (C'.rm a b) (B + len) P' (mss ++ ns) fss' (frD D (mn M)) M' σ' ∧ (∀ o, P o → P' o) ∧ Wz C (C'.rm a b) P M M' σ σ' ∧ Dx D (frD D (mn M)) M ∧ Fz (Xd M) M M' ∧ (∀ o, o < mn M → Xd M o → o < 98 ∨ (167 ≤ o ∧ ow D o = 0)) ∧ ((∀ g, g ≠ 1 → g ≠ 4 → g ≠ 5 → g ≠ 9 → mI M' g 1 = mI M g 1) ∧ ∀ g, mR M' g 1 = mR M g 1) ∧ (rmN (frD D (mn M)) M' + mn M = rmN D M + mn M' ∧ rmS (frD D (mn M)) M' + ms M = rmS D M + ms M') := by
  obtain ⟨C', P', ns, fss', I', hP, v, F, g1, -, -, -, -, -, hwa, har⟩ := h
  have hn := W.n167
  have hn' := F.1
  have hm := W.rm
  have I := W.1
  have T := W.1.2.2.2.2.2.1
  have hc12 : cnf C' ≤ 12 := v.2.2.2.2.1.1.2
  obtain ⟨L, WNn⟩ := W.1.1.2.1
  have wlt := WNn.2.2.2.2.2.2.2.1
  have w6 := WNn.2.2.2.2.2.2.1
  have arx : ∀ l, l ∈ arL → mR M 4201 l = 4398046511104 ∨ (167 ≤ mR M 4201 l ∧ mR M 4201 l < mn M) := fun l hl => by
    rcases (W.1.2.2.2.1.2.2.2.2.2.2.2 l hl).2 with q | q
    · exact Or.inl q
    · exact Or.inr ⟨q.1.1, q.1.2.1⟩
  -- what may be written
  have hX : ∀ o, o < mn M → Xd M o → o < 98 ∨ (167 ≤ o ∧ ow D o = 0) := fun o ho z => by
    have t : 167 ≤ o → Tx P M o → o < 98 ∨ (167 ≤ o ∧ ow D o = 0) := fun q x => Or.inr ⟨q, W.2.2.1 o x ho q⟩
    rcases z with z | z | z | z | ⟨l, hl, z⟩
    · omega
    · omega
    · omega
    · rcases w6 with q | q
      · left; omega
      · exact t (by omega) (Or.inr (Or.inr (Or.inl z)))
    · rcases arx l hl with q | q
      · omega
      · exact t (by rw [z]; exact q.1) (Or.inr (Or.inr (Or.inr ⟨l, hl, z⟩)))
  have hX2 : ∀ o, o < mn M → Xd M o → ¬ Fx (frD D (mn M)) o := fun o ho z y => by
    unfold Fx at y
    rcases hX o ho z with q | q
    · rw [tgo_s (by omega)] at y; omega
    · rw [tgo_d q.1, frD_o ho, q.2] at y; exact absurd y (by decide)
  obtain ⟨hp, hcap⟩ := W.2.1.fr.mvw hn F hX2 (fun o h1 _ => frD_n h1)
  have s0 : ∀ o, 98 ≤ o → o < 167 → So M M' o := fun o h1 h2 => F.so (by omega) (fun z => by
    rcases hX o (by omega) z with q | q <;> omega)
  have hpx : ∀ o, P o → (167 ≤ o ∧ o < mn M') ∧ ¬ Ar M' o ∧ o ≠ mR M' 201 4 := fun o ho => by
    obtain ⟨-, b1, b2, b3⟩ := T.1 o ho
    refine ⟨⟨b1.1, by omega⟩, fun ⟨l, hl, z⟩ => ?_, fun z => ?_⟩
    · rcases har l hl with q | q
      · exact b2 ⟨l, hl, z.trans q⟩
      · omega
    · rcases hwa with q | q
      · exact b3 (z.trans q)
      · omega
  have I2 : IT C' (B + len) (fun o => P' o ∨ P o) (mss ++ ns) fss' M' σ' := I'.more hc12 hpx
  have capD : ∀ i, capI (frD D (mn M)) M i = capI D M i := fun i => rfl
  have r1 : lsum (ptN (frD D (mn M)) M') flI = lsum (ptN D M) flI := by
    have h1 := lsum_le (g := ptN (frD D (mn M)) M') (f := ptN D M) flI (fun i hi => by unfold ptN; rw [hcap i hi, capD]; exact Nat.le_refl _)
    have h2 := lsum_le (f := ptN (frD D (mn M)) M') (g := ptN D M) flI (fun i hi => by unfold ptN; rw [hcap i hi, capD]; exact Nat.le_refl _)
    omega
  have r2 : lsum (ptS (frD D (mn M)) M') flI = lsum (ptS D M) flI := by
    have h1 := lsum_le (g := ptS (frD D (mn M)) M') (f := ptS D M) flI (fun i hi => by unfold ptS; rw [hcap i hi, capD]; exact Nat.le_refl _)
    have h2 := lsum_le (f := ptS (frD D (mn M)) M') (g := ptS D M) flI (fun i hi => by unfold ptS; rw [hcap i hi, capD]; exact Nat.le_refl _)
    omega
  have q1 : rmN (frD D (mn M)) M' + mn M = rmN D M + mn M' := by unfold rmN; omega
  have q2 : rmS (frD D (mn M)) M' + ms M = rmS D M + ms M' := by unfold rmS; omega
  refine ⟨C', fun o => P' o ∨ P o, ns, fss', ⟨I2.rm, hp, fun o h1 h2 h3 => ?_, W.2.2.2.1.mv hn F (fun q hq => ?_) (fun q hq => ?_), ⟨by show rmN (frD D (mn M)) M' + 4 ≤ a; omega, by show rmS (frD D (mn M)) M' + 60200 ≤ b; omega⟩, hab⟩, fun o ho => Or.inr ho, v, ⟨fun l k hk => ⟨hk, rfl⟩, fun o ho => frD_o ho⟩, F, hX, g1, q1, q2⟩
  · by_cases ho : o < mn M
    · rw [frD_o ho]
      refine W.2.2.1 o ?_ ho h3
      rcases h1 with z | (z | z) | z | ⟨l, hl, z⟩
      · exact Or.inl z
      · rcases hP o z with y | y
        · exact Or.inr (Or.inl y)
        · omega
      · exact Or.inr (Or.inl z)
      · rcases hwa with y | y
        · exact Or.inr (Or.inr (Or.inl (z.trans y)))
        · omega
      · rcases har l hl with y | y
        · exact Or.inr (Or.inr (Or.inr ⟨l, hl, z.trans y⟩))
        · omega
    · exact frD_n (by omega)
  · have h := fixO q hq
    exact (s0 _ (by omega) h.2).r _
  · have h := fixI q hq
    exact (s0 _ (by omega) h.2).i _
end LDFW
abbrev ldT : List Nat := [0, 1, 2, 3, 5, 7, 8, 10, 11, 12, 13, 14, 15, 16, 17, 18, 19, 20, 21, 24, 25, 26, 27, 28, 29, 30, 31, 32, 33, 34, 35, 36, 37, 38, 39, 40, 41, 42, 43, 44, 45, 46, 47, 48, 49, 50, 51, 52, 53, 54, 55, 56, 57, 58, 59, 60, 61, 62, 63, 64, 65, 66, 67, 68, 69, 70, 71, 72, 73]
/-- the rows and what is fixed of both stay when a text comes in -/
def OsR (D : FQ) (M M' : CM) : Prop := Fq D (fun t => t < 98) M M' ∧ (∀ o, 98 ≤ o → o < 167 → So M M' o) ∧ (∀ g, g ≠ 1 → g ≠ 4 → g ≠ 5 → g ≠ 9 → mI M' g 1 = mI M g 1) ∧ ∀ g, mR M' g 1 = mR M g 1
section LDFP
variable {C C' : PC} {D D' : FQ} {M M' : CM} {σ σ' : TS} {mss mss' fss fss' ns : List Nat} {B B' len n a b l V I Bm K N E A Wn q qs U S K1 K2 Nf : Nat} {P P' X : Nat → Prop} {z7 : Nat → Nat} {hd : Nat → Nat} {sg : Nat → Int32} {c : Nat}
theorem Ld.osr (W : FW C B P mss fss D M σ) (F : Fz (Xd M) M M') (hX : ∀ o, o < mn M → Xd M o → o < 98 ∨ (167 ≤ o ∧ ow D o = 0)) (h1 : (∀ g, g ≠ 1 → g ≠ 4 → g ≠ 5 → g ≠ 9 → mI M' g 1 = mI M g 1) ∧ ∀ g, mR M' g 1 = mR M g 1) : OsR D M M' := by
  have hn := W.n167
  refine ⟨F.mono (fun o ho z => ?_), fun o h1 h2 => F.so (by omega) (fun z => by rcases hX o (by omega) z with q | q <;> omega), h1⟩
  rcases hX o ho z with q | q
  · rw [tgo_s (by omega)]; exact q
  · rw [tgo_d q.1, q.2]; decide
theorem OsR.row (k : OsR D M M') (W : PoW D M) (hl : l ∈ flL) (hn : n < (pl D l).length) : So M M' ((pl D l).getD n 0) := W.so3 hl hn k.1 (fun z => by
  have r := flA_rng l (flL_A l hl)
  unfold tg at z; omega)
/-- the twin's classes of the instances are connectors or not, as they were -/
theorem ld_44 (W : FW C B P mss fss D M σ) (W' : FW C' B' P' (mss ++ ns) fss' D' M' σ') (v : Wz C C' P M M' σ σ') {k : Nat} (hk : k < mss.length) : tA σ' 44 k = tA σ 44 k := by
  obtain ⟨⟨⟨a1, a2⟩, -⟩, a3, -⟩ := W.1.2.2.2.2.2.1.2.1 k hk
  obtain ⟨-, b3, -⟩ := W'.1.2.2.2.2.2.1.2.1 k (by rw [List.length_append]; omega)
  rw [getD_app_l hk, (v.2.1.1 _ a1).i] at b3
  rcases a3 with ⟨x, y⟩ | ⟨x, y⟩
  · rcases b3 with ⟨z, w⟩ | ⟨z, w⟩
    · rw [y, w]
    · rw [x] at z; exact absurd z (by decide)
  · rcases b3 with ⟨z, w⟩ | ⟨z, w⟩
    · rw [x] at z; exact absurd z (by decide)
    · rw [y, w]
theorem SeT.ld (h : SeT σ I (2 * I) qs) (f : Ft ldT σ σ') (h44 : ∀ n, n < I → tA σ' 44 (ix (tA σ 74 n)) = tA σ 44 (ix (tA σ 74 n))) : SeT σ' I (2 * I) qs := by
  have h155 := (f 155 rfl).2.2.1
  have e : ∀ u, u < 2 * I → (isHd σ' I u ↔ isHd σ I u) := fun u hu => by
    unfold isHd
    rw [(f 74 rfl).2.2.1, h44 (u / 2) (by omega), hdT_ft h155, alF.ft h155]
  obtain ⟨h1, h2, hh, h4, h5, h6⟩ := h
  refine ⟨((f 156 rfl).1).trans h1, h2, hh, fun j hj => ?_, h5, fun u hu y => h6 u hu ((e u hu).mp y)⟩
  obtain ⟨a, b, c⟩ := h4 j hj
  exact ⟨((f 157 rfl).2.2.1 j).trans a, b, (e _ b).mpr c⟩
/-- a flat model stands when a text comes in -/
theorem FP.ld (h : FP C P mss D M σ z7 V I Bm K N E A Wn q qs) (W : FW C B P mss fss D M σ) (W' : FW C' B' P' (mss ++ ns) fss' (frD D (mn M)) M' σ') (hP : ∀ o, P o → P' o) (v : Wz C C' P M M' σ σ') (k : OsR D M M') (f : Ft ldT σ σ') : FP C' P' (mss ++ ns) (frD D (mn M)) M' σ' z7 V I Bm K N E A Wn q qs := by
  have X := h.1
  have dx : Dx D (frD D (mn M)) M := ⟨fun l k hk => ⟨hk, rfl⟩, fun o ho => frD_o ho⟩
  have n167 := W.n167
  have s0 := k.2.1
  obtain ⟨V96, V98⟩ : V ≤ 96 ∧ V ≤ (pl D 98).length := ⟨X.2.1.1, X.1.1.1⟩
  obtain ⟨⟨m1, m2, m3⟩, -⟩ := h.2.1
  obtain ⟨⟨-, -, -, e4⟩, -⟩ := h.2.2.2.1
  obtain ⟨⟨-, -, d4⟩, -⟩ := h.2.2.2.2.1
  obtain ⟨⟨-, -, -, g4⟩, -⟩ := h.2.2.2.2.2.1
  have r98 : ∀ j, j < V → So M M' ((pl D 98).getD j 0) := fun j hj => k.row W.2.1 (by decide) (by omega)
  have FX0 : FlY z7 C' P (frD D (mn M)) mss M' σ' V I Bm := X.kpw W k.1 (fun t z => by unfold TV tg; omega) (fun j hj => ⟨fun f _ _ => (r98 j hj).i f, fun f _ _ => (r98 j hj).r f⟩) v dx f (by decide) ⟨k.2.2.1 15 (by decide) (by decide) (by decide) (by decide), k.2.2.1 16 (by decide) (by decide) (by decide) (by decide)⟩
  have FX : FlY z7 C' P' (frD D (mn M)) (mss ++ ns) M' σ' V I Bm := FX0.more v.2.2.2.2.1.1.2 hP
  have r106 : ∀ j, j < K → So M M' ((pl D 106).getD j 0) := fun j hj => k.row W.2.1 (by decide) (by omega)
  have nk : NdK D M σ (frD D (mn M)) M' σ' 106 K N := ⟨fun j hj => ⟨rfl, fun f _ => (r106 j hj).i f, fun f _ => (r106 j hj).r f⟩, fun g hg n _ => by
    simp only [List.mem_cons, List.not_mem_nil, or_false] at hg
    rcases hg with rfl | rfl | rfl | rfl | rfl | rfl <;> exact (f _ rfl).2.2.1 n, fun v => (f 94 rfl).2.2.1 v⟩
  have r111 : ∀ j, j < E → So M M' ((pl D 111).getD j 0) := fun j hj => k.row W.2.1 (by decide) (by omega)
  have r112 : ∀ j, j < A → So M M' ((pl D 112).getD j 0) := fun j hj => k.row W.2.1 (by decide) (by omega)
  have r113 : ∀ j, j < Wn → So M M' ((pl D 113).getD j 0) := fun j hj => k.row W.2.1 (by decide) (by omega)
  refine FP.mv h FX nk ⟨fun _ _ => rfl, fun v hv => ⟨(r98 v hv).r _, (r98 v hv).r _⟩, fun j hj => ⟨(r111 j hj).r _, (r111 j hj).r _⟩, fun j hj => ⟨(r112 j hj).i _, (r112 j hj).i _, (r112 j hj).r _⟩, fun j hj => ⟨(r113 j hj).r _, (r113 j hj).i _, (r113 j hj).i _⟩, ⟨fun g hg => k.2.2.1 g ?_ ?_ ?_ ?_, (s0 105 (by decide) (by decide)).i _⟩, fun j => (s0 114 (by decide) (by decide)).x j, fun g hg => ?_, fun g hg => ?_⟩ (fun v hvV => ?_) ?_ ?_
  · simp only [List.mem_cons, List.not_mem_nil, or_false] at hg; omega
  · simp only [List.mem_cons, List.not_mem_nil, or_false] at hg; omega
  · simp only [List.mem_cons, List.not_mem_nil, or_false] at hg; omega
  · simp only [List.mem_cons, List.not_mem_nil, or_false] at hg; omega
  · simp only [List.mem_cons, List.not_mem_nil, or_false] at hg
    rcases hg with rfl | rfl | rfl | rfl | rfl | rfl | rfl | rfl <;> exact (f _ rfl).1
  · simp only [List.mem_cons, List.not_mem_nil, or_false] at hg
    rcases hg with rfl | rfl | rfl | rfl | rfl | rfl | rfl | rfl | rfl | rfl | rfl <;> exact (f _ rfl).2.2.1
  · obtain ⟨-, -, x3, x4⟩ := h.2.2.1 v hvV
    rw [frD_pl]
    refine ⟨fun z => ?_, by rw [(r98 v hvV).i, (f 105 rfl).2.2.1]; exact x4⟩
    rw [(f 94 rfl).2.2.1] at z
    have := x3 z
    unfold Fl0 at this ⊢
    rw [frD_pl, (r98 v hvV).i, (f 104 rfl).2.2.1]
    exact this
  · exact h.2.2.2.2.2.2.2.1.mv (fun j => (s0 115 (by decide) (by decide)).a j) (f 155 rfl).2.2.1 (f 74 rfl).2.2.1 (f 75 rfl).2.2.1
  · refine h.2.2.2.2.2.2.2.2.1.ld f (fun n hn => ?_)
    obtain ⟨-, -, ⟨j, j1, -, j3⟩, -⟩ := X.1.2.1 n hn
    have m24 := W.1.2.2.2.2.1.1.1
    rw [j3, ix_nI (by omega)]
    exact ld_44 W W' v j1
/-- a solvable model stands -/
theorem RnW.ld (w : RnW C B P mss fss V U S q A Wn K1 K2 N D M σ) (W' : FW C' B' P' (mss ++ ns) fss' (frD D (mn M)) M' σ') (hP : ∀ o, P o → P' o) (v : Wz C C' P M M' σ σ') (k : OsR D M M') (f : Ft ldT σ σ') (h0 : tI σ' 0 = 0) : RnW C' B' P' (mss ++ ns) fss' V U S q A Wn K1 K2 N (frD D (mn M)) M' σ' := by
  obtain ⟨W, ⟨z7, I, Bm, K, Nf, E, qs, hd, sg, c, fp, sv⟩, kn⟩ := w
  have n167 := W.n167
  have s0 := k.2.1
  have X := fp.1
  have rm' := W'.2.2.2.2
  have ar : ∀ {x0 l X0 K : Nat}, ArS x0 l X0 D M K → 98 ≤ x0 → x0 < 167 → ArS x0 l X0 (frD D (mn M)) M' K := fun {x0 l X0 K} ⟨_, _, _, ⟨e1, e2, e3⟩, _, _⟩ hx hy => ⟨W'.2.1, W'.2.2.2.1, W'.n167, ⟨((s0 x0 hx hy).i 604).trans e1, e2, e3⟩, by omega, by omega⟩
  have ar1 := sv.1.1.1
  have ar2 := sv.2.2.2.2.1.1
  have sn : ∀ {x0 l X0 K : Nat}, ArS x0 l X0 D M K → l ∈ flL → SnL D M (frD D (mn M)) M' l K := fun {x0 l X0 K} a hl k' hk => by
    have l1 := a.2.2.2.1.2.1
    have := k.row W.2.1 hl (n := k') (by omega)
    exact ⟨rfl, fun f h1 h2 => this.i f, fun f _ _ => this.r f⟩
  obtain ⟨⟨-, -, d4⟩, -⟩ := fp.2.2.2.2.1
  obtain ⟨⟨-, -, -, g4⟩, -⟩ := fp.2.2.2.2.2.1
  have V98 : V ≤ (pl D 98).length := X.1.1.1
  refine ⟨W', ⟨z7, I, Bm, K, Nf, E, qs, hd, sg, c, fp.ld W W' hP v k f, ?_⟩, kn.ft f rfl rfl⟩
  refine SvS.mv sv ⟨⟨ar ar1 (by decide) (by decide), ar ar2 (by decide) (by decide), sn ar1 (by decide), sn ar2 (by decide)⟩, fun _ _ => rfl, fun v hv g hg => (k.row W.2.1 (by decide) (by omega)).i g, fun j hj => ⟨fun g hg => (k.row W.2.1 (by decide) (by omega)).i g, (k.row W.2.1 (by decide) (by omega)).r _⟩, fun j hj => (k.row W.2.1 (by decide) (by omega)).r _, fun g hg => k.2.2.1 g ?_ ?_ ?_ ?_, k.2.2.2 _, fun a ha j => (s0 a ?_ ?_).a j, fun a ha j => (s0 a ?_ ?_).x j⟩ f (by decide) h0
  all_goals first
    | (simp only [List.mem_cons, List.not_mem_nil, or_false] at hg; omega)
    | (simp only [List.mem_cons, List.not_mem_nil, or_false] at ha; omega)
/-- what is started stands -/
theorem VaX.ld (d : VaX V U Wn D M σ) (W : FW C B P mss fss D M σ) (V98 : V ≤ (pl D 98).length) (W113 : Wn ≤ (pl D 113).length) (k : OsR D M M') (f : Ft ldT σ σ') (h0 : tI σ' 0 = 0) : VaX V U Wn (frD D (mn M)) M' σ' := by
  obtain ⟨-, ⟨a1, a2, a3, a4, a5⟩, a6, a7⟩ := d
  have s0 := k.2.1
  refine ⟨h0, ⟨by rw [k.2.2.1 85 (by decide) (by decide) (by decide) (by decide), (f 165 rfl).1]; exact a1, fun u hu => ?_, fun v hv z => ?_, fun r hr z => ?_, fun w hw => ?_⟩, (f 171 rfl).1.trans a6, by rw [k.2.2.1 90 (by decide) (by decide) (by decide) (by decide), (f 222 rfl).1]; exact a7⟩
  · rw [(s0 124 (by decide) (by decide)).a, (s0 125 (by decide) (by decide)).a, (f 166 rfl).2.2.1, (f 167 rfl).2.2.1]; exact a2 u hu
  · rw [(f 94 rfl).2.2.1] at z
    rw [frD_pl, (k.row W.2.1 (l := 98) (by decide) (by omega)).i, (k.row W.2.1 (l := 98) (by decide) (by omega)).i, (f 168 rfl).2.2.1, (f 169 rfl).2.2.1]
    exact a3 v hv z
  · rw [(f 154 rfl).1] at z
    rw [(s0 148 (by decide) (by decide)).a, (f 163 rfl).2.2.1]; exact a4 r hr z
  · rw [frD_pl, (k.row W.2.1 (l := 113) (by decide) (by omega)).i, (f 235 rfl).2.2.1]; exact a5 w hw
end LDFP
