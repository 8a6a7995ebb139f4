/-! Layer B: the invariant; calls that read or write little -/
set_option maxRecDepth 100000
/-- room for words -/
def wlN (M : CM) : Nat := ml M (mR M 201 4)
/-- what stands always -/
def Cm (len : Nat) (M : CM) (σ : TS) : Prop := BtR M σ len ∧ (mI M 4 1 = tI σ 2 ∧ mI M 5 1 = tI σ 3) ∧ (tI σ 0 = 0 ∧ tI σ 171 = nI 0) ∧ mI M 43 1 = tI σ 156 ∧ (mI M 45 1 = 0 ∨ mI M 45 1 = 1) ∧ OuR M σ ∧ MsR2 M σ
/-- room -/
def Rm (n len : Nat) (D : FQ) (M : CM) : Prop := rmN D M + 4 + 16 * len + (4096 - wlN M) + 452 * (64 - n) ≤ 601024 ∧ rmS D M + 60200 + 2048 * len + 2 * (4096 - wlN M) + 53276 * (64 - n) ≤ 7293034
def InvC (n : Nat) (C : PC) (B : Nat) (P : Nat → Prop) (mss fss : List Nat) (D : FQ) (len : Nat) (M : CM) (σ : TS) : Prop := FW C B P mss fss D M σ ∧ Cm len M σ ∧ B + len ≤ 20 * n ∧ Rm n len D M ∧ StI C B P mss fss D M σ
/-- THE INVARIANT, after n calls -/
def LInv (n : Nat) (M : CM) (σ : TS) : Prop := ∃ C B P mss fss D len, InvC n C B P mss fss D len M σ
section CALLS
variable {C C' : PC} {B : Nat} {P : Nat → Prop} {mss fss : List Nat} {D : FQ} {n len len' : Nat} {M M' M1 : CM} {σ σ' : TS} {x y x1 x2 x3 x4 x5 : Int32} {I0 A0 T : List Nat} {α : Type}
theorem Cm.mv (c : Cm len M σ) (b : BtR M' σ' len') (o : OuR M' σ') (h171 : tI σ' 171 = nI 0) (hi : ∀ g, g ∈ [4, 5, 43, 45, 93, 94] → mI M' g 1 = mI M g 1) (ht : ∀ g, g ∈ [0, 2, 3, 156, 223, 224] → tI σ' g = tI σ g) : Cm len' M' σ' := by
  obtain ⟨-, ⟨a1, a2⟩, ⟨a3, -⟩, a4, a5, -, ⟨k, k1, k2, k3⟩, s, s1, s2, s3⟩ := c
  exact ⟨b, ⟨by rw [hi 4 (by decide), ht 2 (by decide)]; exact a1, by rw [hi 5 (by decide), ht 3 (by decide)]; exact a2⟩, ⟨by rw [ht 0 (by decide)]; exact a3, h171⟩, by rw [hi 43 (by decide), ht 156 (by decide)]; exact a4, by rw [hi 45 (by decide)]; exact a5, o, ⟨k, k1, by rw [hi 93 (by decide)]; exact k2, by rw [ht 223 (by decide)]; exact k3⟩, s, s1, by rw [hi 94 (by decide)]; exact s2, by rw [ht 224 (by decide)]; exact s3⟩
theorem BtR.mv (b : BtR M σ len) (h1 : mI M' 1 1 = mI M 1 1) (h2 : ∀ j, mA M' 2 j = mA M 2 j) (h3 : tI σ' 7 = tI σ 7) (h4 : ∀ j, tA σ' 4 j = tA σ 4 j) : BtR M' σ' len := by
  obtain ⟨a1, a2, a3, a4⟩ := b
  exact ⟨h1.trans a1, h3.trans a2, a3, fun i hi => by rw [h4, h2]; exact a4 i hi⟩
theorem OuR.mvx (b : OuR M σ) (h1 : mI M' 3 1 = mI M 3 1) (h2 : ∀ j, mA M' 3 j = mA M 3 j) (h3 : tI σ' 9 = tI σ 9) (h4 : ∀ j, tA σ' 6 j = tA σ 6 j) : OuR M' σ' := by
  obtain ⟨n, a1, a2, a3, a4⟩ := b
  exact ⟨n, a1, h1.trans a2, h3.trans a3, fun i hi => by rw [h4, h2]; exact a4 i hi⟩
theorem inv_sm (h : InvC n C B P mss fss D len M σ) (hn : n < 64) (k : SmK M M') (f : Ft smT σ σ') (c : Cm len' M' σ') (hl : len' ≤ len + 20) : LInv (n + 1) M' σ' := by
  obtain ⟨W, -, hb, ⟨r1, r2⟩, st⟩ := h
  obtain ⟨e1, e2⟩ := rm_sm (D := D) k
  have ew : wlN M' = wlN M := by unfold wlN; rw [k.r, (k.2.2.1 _).2]
  refine ⟨C, B, P, mss, fss, D, len', (W.sm k f).1, c, by omega, ⟨?_, ?_⟩, st.sm W k f c.2.2.1.1 c.2.2.1.2⟩
  · rw [e1, ew]; omega
  · rw [ew]; omega
theorem LInv.up (h : LInv n M σ) : LInv (n + 1) M σ := by
  obtain ⟨C, B, P, mss, fss, D, len, W, c, hb, ⟨r1, r2⟩, st⟩ := h
  exact ⟨C, B, P, mss, fss, D, len, W, c, by omega, ⟨by omega, by omega⟩, st⟩
theorem LInv.mss {k : Nat} (h : LInv n M σ) (hk : k ≤ ms M) : LInv n (msS M k) σ := by
  obtain ⟨C, B, P, mss, fss, D, len, W, c, hb, ⟨r1, r2⟩, st⟩ := h
  have kk : SmK M (msS M k) := SmK.mss hk
  obtain ⟨e1, e2⟩ := rm_sm (D := D) kk
  have ew : wlN (msS M k) = wlN M := rfl
  refine ⟨C, B, P, mss, fss, D, len, (W.sm kk (Ft.rf _ _)).1, ?_, hb, ⟨by rw [e1, ew]; exact r1, by rw [ew]; omega⟩, st.sm W kk (Ft.rf _ _) c.2.2.1.1 c.2.2.1.2⟩
  exact c.mv (c.1.mv rfl (fun _ => rfl) rfl (fun _ => rfl)) (c.2.2.2.2.2.1.mvx rfl (fun _ => rfl) rfl (fun _ => rfl)) c.2.2.1.2 (fun _ _ => rfl) (fun _ _ => rfl)
/-- a call that only reads -/
theorem inv_ac {kr : Option (α × CM)} {tq : Option (α × TS)} (h : LInv n M σ) (a : AcR M σ kr tq) : ∃ r M' σ', kr = some (r, M') ∧ tq = some (r, σ') ∧ LInv (n + 1) M' σ' := by
  obtain ⟨r, r1, r2⟩ := a
  exact ⟨r, M, σ, r1, r2, h.up⟩
/-- a call that tells -/
theorem inv_te {kr : Option (Int32 × CM)} {tq : Option (Int32 × TS)} (h : InvC n C B P mss fss D len M σ) (hn : n < 64) (t : TeO M σ kr tq) : ∃ r M' σ', kr = some (r, M') ∧ tq = some (r, σ') ∧ LInv (n + 1) M' σ' := by
  obtain ⟨r, M', σ', r1, r2, o, k, f, e171⟩ := t
  have kk := SmK.ou k
  obtain ⟨W, c, -⟩ := id h
  refine ⟨r, M', σ', r1, r2, inv_sm h hn kk (f.mono (by decide)) (c.mv (c.1.mv (k.1 1 1 (fun z => absurd z.1 (by decide))) (fun j => k.2.2.1 _ _ (by decide)) (f 7 rfl).1 (f 4 rfl).2.2.1) o (e171.trans c.2.2.1.2) (fun g hg => k.1 g 1 (fun z => ?_)) (fun g hg => (f g ?_).1)) (Nat.le_add_right _ _)⟩
  · rw [z.1] at hg; exact absurd hg (by decide)
  · have : ∀ g, g ∈ [0, 2, 3, 156, 223, 224] → ([6, 9, 170, 171, 176] : List Nat).contains g = false := by decide
    exact this g hg
/-- a call that only reads; the twin may use its scratch -/
theorem inv_ao {kr : Option (Int32 × CM)} {tq : Option (Int32 × TS)} (h : InvC n C B P mss fss D len M σ) (hn : n < 64) (t : AcO M σ kr tq) : ∃ r M' σ', kr = some (r, M') ∧ tq = some (r, σ') ∧ LInv (n + 1) M' σ' := by
  obtain ⟨r, σ', r1, r2, f, o⟩ := t
  obtain ⟨W, c, -⟩ := id h
  refine ⟨r, M, σ', r1, r2, inv_sm h hn SmK.rf (f.mono (by decide)) (c.mv (c.1.mv rfl (fun _ => rfl) (f 7 rfl).1 (f 4 rfl).2.2.1) o ((f 171 rfl).1.trans c.2.2.1.2) (fun _ _ => rfl) (fun g hg => (f g ?_).1)) (Nat.le_add_right _ _)⟩
  have : ∀ g, g ∈ [0, 2, 3, 156, 223, 224] → ([6, 9, 176, 246, 247] : List Nat).contains g = false := by decide
  exact this g hg
theorem inv_feed : LBo_feed LInv := fun n M σ hn h x1 x2 x3 x4 x5 => by
  obtain ⟨C, B, P, mss, fss, D, len, h⟩ := h
  obtain ⟨W, c, -⟩ := id h
  obtain ⟨r, M', σ', len', r1, r2, b, hl, k, f⟩ := z_feed c.1 x1 x2 x3 x4 x5
  have i : ∀ g, g ≠ 1 → mI M' g 1 = mI M g 1 := fun g hg => k.2.2.1 g 1 (fun z => hg (by simpa using z.1))
  refine ⟨r, M', σ', r1, r2, inv_sm h hn (SmK.of k (by decide) (by decide)) (f.mono (by decide)) (c.mv b (c.2.2.2.2.2.1.mvx (i 3 (by decide)) (fun j => k.2.2.2.2.1 3 j rfl) (f 9 rfl).1 (f 6 rfl).2.2.1) ((f 171 rfl).1.trans c.2.2.1.2) (fun g hg => i g (fun e => by rw [e] at hg; exact absurd hg (by decide))) (fun g hg => (f g ?_).1)) hl⟩
  have : ∀ g, g ∈ [0, 2, 3, 156, 223, 224] → ([4, 7] : List Nat).contains g = false := by decide
  exact this g hg
theorem inv_end : LBo_end LInv := fun n M σ hn h x1 => by
  obtain ⟨C, B, P, mss, fss, D, len, h⟩ := h
  obtain ⟨W, c, -⟩ := id h
  obtain ⟨r, M', σ', len', r1, r2, b, hl, k, f⟩ := z_end c.1 x1
  have i : ∀ g, g ≠ 1 → mI M' g 1 = mI M g 1 := fun g hg => k.2.2.1 g 1 (fun z => hg (by simpa using z.1))
  refine ⟨r, M', σ', r1, r2, inv_sm h hn (SmK.of k (by decide) (by decide)) (f.mono (by decide)) (c.mv b (c.2.2.2.2.2.1.mvx (i 3 (by decide)) (fun j => k.2.2.2.2.1 3 j rfl) (f 9 rfl).1 (f 6 rfl).2.2.1) ((f 171 rfl).1.trans c.2.2.1.2) (fun g hg => i g (fun e => by rw [e] at hg; exact absurd hg (by decide))) (fun g hg => (f g ?_).1)) (by omega)⟩
  have : ∀ g, g ∈ [0, 2, 3, 156, 223, 224] → ([7] : List Nat).contains g = false := by decide
  exact this g hg
theorem inv_octet : LBo_octet LInv := fun n M σ hn h x1 => by
  have h' := h
  obtain ⟨C, B, P, mss, fss, D, len, W, c, -⟩ := h
  exact inv_ac h' (z_octet c.2.2.2.2.2.1 x1)
theorem inv_fault : LBo_fault LInv := fun n M σ hn h x1 => by
  have h' := h
  obtain ⟨C, B, P, mss, fss, D, len, W, c, -⟩ := h
  exact inv_ac h' (z_fault c.2.1 x1)
theorem z_fname_n (o : OuR M σ) (h : mI M 30 1 = 0 ∧ tI σ 108 = 0) (x : Int32) : TeO M σ (K_X0_name x M) (F_name x σ) := by
  unfold K_X0_name F_name
  rw [ifT h.1, ifT h.2]; exact TeO.st o _
theorem inv_name : LBo_name LInv := fun n M σ hn h x1 => by
  obtain ⟨C, B, P, mss, fss, D, len, h⟩ := h
  obtain ⟨W, c, -, -, st⟩ := id h
  rcases st with ⟨s1, -⟩ | ⟨s1, -, z7, V, I, Bm, K, N, E, A, Wn, q, qs, fp, -⟩
  · exact inv_te h hn (z_fname_n c.2.2.2.2.2.1 s1 x1)
  · exact inv_te h hn (z_fname W fp.1 s1 c.2.2.2.2.2.1 x1)
theorem inv_print : LBo_print LInv := fun n M σ hn h x1 x2 => by
  obtain ⟨C, B, P, mss, fss, D, len, h⟩ := h
  obtain ⟨W, c, -, -, st⟩ := id h
  rcases st with ⟨s1, -⟩ | ⟨s1, -, z7, V, I, Bm, K, N, E, A, Wn, q, qs, fp, -, sl⟩
  · exact inv_te h hn (z_print_n c.2.2.2.2.2.1 s1 x1 x2)
  · refine inv_te h hn (z_print fp W c.2.2.2.2.2.1 c.2.2.1.2 s1 ?_ x1 x2)
    exact sl.imp (fun z => z.1) (fun ⟨a, U, S, K1, K2, Ns, w, -⟩ => ⟨a, V, U, S, q, A, Wn, K1, K2, Ns, w⟩)
theorem inv_find : LBo_find LInv := fun n M σ hn h _ => by
  obtain ⟨C, B, P, mss, fss, D, len, h⟩ := h
  obtain ⟨W, c, -, -, st⟩ := id h
  have z : FndO M σ := by
    rcases st with ⟨s1, -⟩ | ⟨s1, -, z7, V, I, Bm, K, N, E, A, Wn, q, qs, fp, -⟩
    · exact z_find_n c.1 c.2.2.2.2.2.1 s1
    · exact z_find W fp.1 c.1 c.2.2.2.2.2.1 s1
  obtain ⟨r, σ', r1, r2, f, b, o⟩ := z
  have k : K1f [1] [] M (msI M 1 1 0) := (K1f.rf _ _ M).msI rfl
  have i : ∀ g, g ≠ 1 → mI (msI M 1 1 0) g 1 = mI M g 1 := fun g hg => k.2.2.1 g 1 (fun z => hg (by simpa using z.1))
  refine ⟨r, _, σ', r1, r2, inv_sm h hn (SmK.of k (by decide) (by decide)) (f.mono (by decide)) (c.mv b o ((f 171 rfl).1.trans c.2.2.1.2) (fun g hg => i g (fun e => by rw [e] at hg; exact absurd hg (by decide))) (fun g hg => (f g ?_).1)) (by omega)⟩
  have : ∀ g, g ∈ [0, 2, 3, 156, 223, 224] → ([5, 6, 7, 8, 9, 176, 246, 247] : List Nat).contains g = false := by decide
  exact this g hg
theorem inv_variable : LBo_variable LInv := fun n M σ hn h x1 x2 => by
  obtain ⟨C, B, P, mss, fss, D, len, h⟩ := h
  obtain ⟨W, c, -, -, st⟩ := id h
  rcases st with ⟨s1, -⟩ | ⟨s1, -, z7, V, I, Bm, K, N, E, A, Wn, q, qs, fp, -⟩
  · exact inv_ao h hn (z_variable_n c.2.2.2.2.2.1 s1 x1 x2)
  · exact inv_ao h hn (z_variable W fp.1 c.2.2.2.2.2.1 s1 x1 x2)
/-- a run has begun or not -/
theorem StI.run (st : StI C B P mss fss D M σ) : NoRun M σ ∨ ((¬ mI M 91 1 = 0 ∧ ¬ tI σ 110 = 0) ∧ (mI M 95 1 = tI σ 237 ∧ mI M 96 1 = tI σ 238 ∧ mI M 97 1 = tI σ 239 ∧ mI M 90 1 = tI σ 222) ∧ mI M 85 1 = tI σ 165 ∧ ∃ x2, IsRun x2 C B P mss fss D M σ) := by
  rcases st with ⟨-, -, s1⟩ | ⟨s1, -, z7, V, I, Bm, K, N, E, A, Wn, q, qs, fp, -, sl⟩
  · exact Or.inl s1
  · rcases sl with ⟨-, s2⟩ | ⟨s2, U, S, K1, K2, Ns, w, r⟩
    · exact Or.inl s2
    · rcases r with s3 | ⟨s3, d, ⟨e1, e2⟩, e3, -⟩
      · exact Or.inl s3
      · obtain ⟨x2, de⟩ := d.ex
        exact Or.inr ⟨s3, ⟨e3, by rw [← e2, Int32.add_zero], e1, d.2.2.2⟩, d.2.1.1, x2, s3, V, U, S, q, A, Wn, K1, K2, Ns, w, de⟩
theorem inv_value : LBo_value LInv := fun n M σ hn h x1 x2 => by
  have h' := h
  obtain ⟨C, B, P, mss, fss, D, len, h⟩ := h
  obtain ⟨W, c, -, -, st⟩ := id h
  rcases id st with ⟨s1, -⟩ | ⟨s1, -, z7, V, I, Bm, K, N, E, A, Wn, q, qs, fp, -⟩
  · exact inv_ac h' (z_value_n s1 x1 x2)
  · rcases st.run with r | ⟨-, -, -, x2', r⟩
    · exact inv_ac h' (z_value (x2 := 0) fp W s1 (Or.inl r) x1 x2)
    · exact inv_ac h' (z_value (x2 := x2') fp W s1 (Or.inr r) x1 x2)
theorem inv_time : LBo_time LInv := fun n M σ hn h _ => by
  have h' := h
  obtain ⟨C, B, P, mss, fss, D, len, h⟩ := h
  obtain ⟨W, c, -, -, st⟩ := id h
  exact inv_ac h' (z_time (st.run.imp id (fun z => ⟨z.1, z.2.2.1⟩)))
theorem inv_relation : LBo_relation LInv := fun n M σ hn h x1 => by
  have h' := h
  obtain ⟨C, B, P, mss, fss, D, len, h⟩ := h
  obtain ⟨W, c, -, -, st⟩ := id h
  rcases st.run with r | ⟨-, -, -, x2', r⟩
  · exact inv_ac h' (z_relation (x2 := 0) (C := C) (B := B) (P := P) (mss := mss) (fss := fss) (D := D) (Or.inl r) x1)
  · exact inv_ac h' (z_relation (x2 := x2') (Or.inr r) x1)
/-- solvable or not -/
theorem StI.slv (st : StI C B P mss fss D M σ) : (mI M 46 1 = 0 ∧ tI σ 109 = 0) ∨ ((¬ mI M 46 1 = 0 ∧ ¬ tI σ 109 = 0) ∧ ∃ V U S q A Wn K1 K2 N, RnW C B P mss fss V U S q A Wn K1 K2 N D M σ) := by
  rcases st with ⟨-, s1, -⟩ | ⟨s1, -, z7, V, I, Bm, K, N, E, A, Wn, q, qs, fp, -, sl⟩
  · exact Or.inl s1
  · exact sl.imp (fun z => z.1) (fun ⟨a, U, S, K1, K2, Ns, w, -⟩ => ⟨a, V, U, S, q, A, Wn, K1, K2, Ns, w⟩)
theorem inv_count : LBo_count LInv := fun n M σ hn h x1 => by
  have h' := h
  obtain ⟨C, B, P, mss, fss, D, len, h⟩ := h
  obtain ⟨W, c, -, -, st⟩ := id h
  have c0 : Cn0 M σ := by
    obtain ⟨-, -, ⟨-, K9, k1, k2, -⟩, ⟨l88, l89, -⟩, ⟨⟨m24, t49⟩, f12, cf, t48, -⟩, -⟩ := W.1
    exact ⟨⟨by rw [ls_size l88, t49], by rw [ls_size l89, t48, cf]⟩, k1.trans k2.symm⟩
  refine inv_ac h' (z_count (C := C) (B := B) (P := P) (mss := mss) (fss := fss) (D := D) c0 ?_ st.slv (st.run.imp id (fun z => ⟨z.1, z.2.1⟩)) x1)
  exact st.imp (fun z => z.1) (fun ⟨a, b, z7, V, I, Bm, K, N, E, A, Wn, q, qs, fp, _⟩ => ⟨a, b, z7, V, I, Bm, K, N, E, A, Wn, q, qs, fp⟩)
theorem inv_member : LBo_member LInv := fun n M σ hn h x1 x2 => by
  have h' := h
  obtain ⟨C, B, P, mss, fss, D, len, h⟩ := h
  obtain ⟨W, c, -, -, st⟩ := id h
  rcases st with ⟨s1, -⟩ | ⟨s1, -, z7, V, I, Bm, K, N, E, A, Wn, q, qs, fp, -⟩
  · exact inv_ac h' (z_member_n s1 x1 x2)
  · exact inv_ac h' (z_memberA fp W s1 x1 x2)
theorem inv_alias : LBo_alias LInv := fun n M σ hn h x1 x2 => by
  have h' := h
  obtain ⟨C, B, P, mss, fss, D, len, h⟩ := h
  obtain ⟨W, c, -, -, st⟩ := id h
  rcases st.slv with s1 | ⟨s1, V, U, S, q, A, Wn, K1, K2, N, w⟩
  · refine inv_ac h' ?_
    unfold K_X0_alias F_alias
    rw [ifT s1.1, ifT s1.2]; exact AcR.st _
  · exact inv_ac h' (z_alias w s1 x1 x2)
theorem inv_unknown : LBo_unknown LInv := fun n M σ hn h x1 x2 => by
  have h' := h
  obtain ⟨C, B, P, mss, fss, D, len, h⟩ := h
  obtain ⟨W, c, -, -, st⟩ := id h
  rcases st.slv with s1 | ⟨s1, V, U, S, q, A, Wn, K1, K2, N, w⟩
  · refine inv_ac h' ?_
    unfold K_X0_unknown F_unknown
    rw [ifT s1.1, ifT s1.2]; exact AcR.st _
  · exact inv_ac h' (z_unknown w s1 x1 x2)
theorem inv_equation : LBo_equation LInv := fun n M σ hn h x1 x2 => by
  have h' := h
  obtain ⟨C, B, P, mss, fss, D, len, h⟩ := h
  obtain ⟨W, c, -, -, st⟩ := id h
  rcases st.slv with s1 | ⟨s1, V, U, S, q, A, Wn, K1, K2, N, w⟩
  · refine inv_ac h' ?_
    unfold K_X0_equation_2 F_equation
    rw [ifT s1.1, ifT s1.2]; exact AcR.st _
  · exact inv_ac h' (z_eqnAcc w s1 x1 x2)
theorem inv_block : LBo_block LInv := fun n M σ hn h x1 x2 => by
  have h' := h
  obtain ⟨C, B, P, mss, fss, D, len, h⟩ := h
  obtain ⟨W, c, -, -, st⟩ := id h
  rcases st.slv with s1 | ⟨s1, V, U, S, q, A, Wn, K1, K2, N, w⟩
  · refine inv_ac h' ?_
    unfold K_X0_block F_block
    rw [ifT s1.1, ifT s1.2]; exact AcR.st _
  · exact inv_ac h' (z_block w s1 x1 x2)
theorem inv_method : LBo_method LInv := fun n M σ hn h x1 x2 => by
  have h' := h
  obtain ⟨C, B, P, mss, fss, D, len, h⟩ := h
  obtain ⟨W, c, -, -, st⟩ := id h
  rcases z_method (M := M) (σ := σ) x1 x2 with a | ⟨r, ⟨a1, a2, a3, a4⟩, r1, r2⟩
  · exact inv_ac h' a
  · have k : K1f [93, 94] [] M (msI (msI M 93 1 x1) 94 1 x2) := ((K1f.rf _ _ M).msI rfl).msI rfl
    have f : Ft [223, 224] σ (tsI (tsI σ 223 x1) 224 x2) := ((Ft.rf _ σ).p_tsI rfl).p_tsI rfl
    refine ⟨r, _, _, r1, r2, inv_sm h hn (SmK.of k (by decide) (by decide)) (f.mono (by decide)) (len' := len) ?_ (by omega)⟩
    obtain ⟨c1, c2, c3, c4, c5, c6, -⟩ := c
    obtain ⟨i, i1, rfl⟩ := le_n (n := 3) (by decide) (Int32.not_lt.mpr a1) a2
    obtain ⟨j, j1, rfl⟩ := le_n (n := 6553600) (by decide) (Int32.not_lt.mpr (Int32.le_trans (by decide) a3)) a4
    exact ⟨c1, c2, c3, c4, c5, c6, ⟨i, i1, rfl, rfl⟩, j, ⟨(bI_le (a := 1) (by decide) (by omega)).mp a3, j1⟩, rfl, rfl⟩
theorem inv_judge : LBo_judge LInv := fun n M σ hn h _ => by
  have h' := h
  obtain ⟨C, B, P, mss, fss, D, len, h⟩ := h
  obtain ⟨W, c, -, -, st⟩ := id h
  rcases st with ⟨s1, -⟩ | ⟨s1, -, z7, V, I, Bm, K, N, E, A, Wn, q, qs, fp, -⟩
  · refine inv_ac h' ?_
    unfold K_X0_judge F_judge
    rw [ifT s1.1, ifT s1.2]; exact AcR.st _
  · obtain ⟨r, M', σ', r1, r2, k, f, e171⟩ := z_judged W fp c.2.2.2.2.1 c.2.2.1.2 s1.2
    have r1' : K_X0_judge M = some (r, M') := by
      unfold K_X0_judge
      rw [ifF s1.1, r1, ob_some]
    refine ⟨r, M', σ', r1', r2, inv_sm h hn (SmK.ku k) (f.mono (by decide)) (len' := len) ?_ (by omega)⟩
    obtain ⟨c1, ⟨c2, c2'⟩, ⟨c3, -⟩, c4, c5, c6, ⟨i, i1, i2, i3⟩, j, j1, j2, j3⟩ := c
    obtain ⟨-, -, k3, k4, k5, k6, k7⟩ := id k
    have ii : ∀ g, g ≠ 45 → mI M' g 1 = mI M g 1 := fun g hg => k3 g 1 (fun z => hg z.1)
    exact ⟨c1.mv (ii 1 (by decide)) (fun j => k5 2 j (by decide)) (f 7 rfl).1 (f 4 rfl).2.2.1, ⟨by rw [ii 4 (by decide), (f 2 rfl).1]; exact c2, by rw [ii 5 (by decide), (f 3 rfl).1]; exact c2'⟩, ⟨(f 0 rfl).1.trans c3, e171⟩, by rw [ii 43 (by decide), (f 156 rfl).1]; exact c4, k7, c6.mvx (ii 3 (by decide)) (fun j => k5 3 j (by decide)) (f 9 rfl).1 (f 6 rfl).2.2.1, ⟨i, i1, by rw [ii 93 (by decide)]; exact i2, by rw [(f 223 rfl).1]; exact i3⟩, j, j1, by rw [ii 94 (by decide)]; exact j2, by rw [(f 224 rfl).1]; exact j3⟩
end CALLS
