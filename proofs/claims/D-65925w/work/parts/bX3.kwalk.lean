/-! Layer B: blocks: the component walks so -/
set_option maxRecDepth 100000
abbrev wkI : List Nat := [75, 83, 84]
abbrev wkA : List Nat := [131, 141, 145, 146, 147]
def blI (b : Nat) : Int32 := if b = 0 then -1 else nI (b - 1)
def KtR (S : Nat) (P : TjS) (M : CM) : Prop := (∀ f, f < S → mA M 145 f = nI (wkT P f) ∧ (wkT P f ≠ 0 → mA M 146 f = nI (loT P f)) ∧ mA M 131 f = blI (blT P f)) ∧ (mI M 83 1 = nI (stT P).length ∧ ∀ i, i < (stT P).length → mA M 147 i = nI ((stT P).getD i 0)) ∧ mI M 84 1 = nI (wsT P) ∧ mI M 75 1 = nI (bkT P) ∧ ∀ b, b ≤ bkT P → mA M 141 b = nI (bfT P b)
def KwF (D : FQ) (M0 M : CM) : Prop := KF D wkI [] wkA [] M0 M ∧ ∀ f o, o ≠ 1 → mI M f o = mI M0 f o
section KWALK
variable {D : FQ} {M M' M0 M1 : CM} {U S d e f n u k v i b : Nat} {ins : Nat → Nat → Bool} {gv : Nat → Nat} {c : Nat → Bool} {P Q : TjS} {x y L : List Nat}
theorem TjI.len (h : TjI S c P) : (stT P).length ≤ S := by
  rw [← cnB_list (S := S) (stT P) h.2.1.1 (fun f hf => (h.1 f ((h.2.1.2 f).mp hf).1).1.1)]
  exact cnB_le _ _
theorem TjI.bfc (h : TjI S c P) : ∀ b, b ≤ bkT P → bfT P b = cnB (fun f => decide (blT P f ≠ 0 ∧ blT P f ≤ b)) S ∧ b ≤ bfT P b
  | 0, _ => by
    rw [h.2.2.2.1.1]
    refine ⟨?_, Nat.le_refl _⟩
    have : ∀ n, cnB (fun f => decide (blT P f ≠ 0 ∧ blT P f ≤ 0)) n = 0 := fun n => by
      induction n with
      | zero => rfl
      | succ n ih => rw [cnB_step, ih, ifF (fun z => by have := of_decide_eq_true z; omega)]
    exact (this S).symm
  | b + 1, hb => by
    obtain ⟨i1, i2⟩ := TjI.bfc h b (by omega)
    obtain ⟨e1, e2⟩ := h.2.2.2.1.2 b (by omega)
    refine ⟨?_, by omega⟩
    rw [e1, i1, ← cnB_add _ _ (fun f hf z => by
      have z1 := of_decide_eq_true z.1
      have z2 := of_decide_eq_true z.2
      omega)]
    exact cnB_eq (fun f hf => by
      show (decide (blT P f ≠ 0 ∧ blT P f ≤ b) || decide (blT P f = b + 1)) = _
      rw [← Bool.decide_or]
      exact decide_eq_decide.mpr ⟨fun z => by omega, fun z => by omega⟩)
theorem TjI.bd (h : TjI S c P) : (∀ b, b ≤ bkT P → bfT P b ≤ S) ∧ bkT P ≤ S ∧ wsT P ≤ S := by
  have a : ∀ b, b ≤ bkT P → bfT P b ≤ S := fun b hb => by
    rw [(h.bfc b hb).1]; exact cnB_le _ _
  refine ⟨a, ?_, ?_⟩
  · have := (h.bfc (bkT P) (Nat.le_refl _)).2
    have := a (bkT P) (Nat.le_refl _)
    omega
  · rw [← h.2.2.2.2.1]; exact cnB_le _ _
theorem KwF.rf : KwF D M M := ⟨KF.rf, fun _ _ _ => rfl⟩
theorem KwF.wI {g : Nat} {z : Int32} (h : KwF D M0 M) (hg : wkI.contains g = true) : KwF D M0 (msI M g 1 z) := ⟨h.1.wI hg TZ.one, fun f o ho => by rw [mI_msI, ifF (fun q => ho q.2)]; exact h.2 f o ho⟩
theorem KwF.wA {a j : Nat} {z : Int32} (h : KwF D M0 M) (ha : wkA.contains a = true) (hb : 117 ≤ a ∧ a < 167) : KwF D M0 (mwA M a j z) := ⟨h.1.wA ha hb, h.2⟩
theorem getD_r (x y : List Nat) (i : Nat) : (x ++ y).getD (x.length + i) 0 = y.getD i 0 := by
  rw [List.getD_eq_getElem?_getD, List.getD_eq_getElem?_getD, List.getElem?_append_right (Nat.le_add_right _ _), Nat.add_sub_cancel_left]
theorem getD_l (y : List Nat) (h : i < x.length) : (x ++ y).getD i 0 = x.getD i 0 := by
  rw [List.getD_eq_getElem?_getD, List.getD_eq_getElem?_getD, List.getElem?_append_left h]
theorem getD_mm (h : i < x.length) : x.getD i 0 ∈ x := by
  rw [List.getD_eq_getElem?_getD, List.getElem?_eq_getElem h]
  exact List.getElem_mem h
theorem KtR.low (h : KtR S P M) (i : TjI S c P) (hS : S ≤ 180) (he : e < S) (hw : wkT P e ≠ 0) (hv : v < 1000) : KtR S (lowT P e v) (mwA M 146 e (nI (min (loT P e) v))) := by
  obtain ⟨h1, h2, h3, h4, h5⟩ := h
  refine ⟨fun f hf => ?_, ⟨h2.1, fun i hi => ?_⟩, h3, h4, fun b hb => ?_⟩
  · obtain ⟨a1, a2, a3⟩ := h1 f hf
    refine ⟨?_, fun hz => ?_, ?_⟩
    · rw [mA_mwA, ifF (by omega)]; exact a1
    · rw [mA_mwA]
      show _ = nI (sN (loT P) e (min (loT P e) v) f)
      by_cases y : f = e
      · subst y; rw [ifT ⟨rfl, rfl⟩, sN_eq]
      · rw [ifF (fun q => y q.2), sN_ne _ _ y]; exact a2 hz
    · rw [mA_mwA, ifF (by omega)]; exact a3
  · rw [mA_mwA, ifF (by omega)]; exact h2.2 i hi
  · rw [mA_mwA, ifF (by omega)]; exact h5 b hb
/-- the stack is taken off down to e -/
theorem k_pop (cf : Int32 → CM → Option ((Unit ⊕ Nat) × CM)) (hS : S ≤ 180) (i : TjI S c Q) (hx : stT Q = x ++ y) (hy : y = e :: L) : ∀ (d j kf : Nat) (M : CM) (x3 : Int32), j + d = y.length → d < kf → mI M 83 1 = nI (x.length + d) → (∀ i, i < (stT Q).length → mA M 147 i = nI ((stT Q).getD i 0)) → mI M 75 1 = nI (bkT Q) → (∀ f, f < S → mA M 131 f = if f ∈ y.drop d then nI (bkT Q) else blI (blT Q f)) → (x3 = nI e ↔ d = 0) →
    ∃ M', KL_X0_walk_218 cf kf (nI e) (nI j) x3 M = some (nI y.length, M') ∧ (∀ M0, KwF D M0 M → KwF D M0 M') ∧ mI M' 83 1 = nI x.length ∧ mI M' 75 1 = nI (bkT Q) ∧ mI M' 84 1 = mI M 84 1 ∧ (∀ a j, a ≠ 131 → mA M' a j = mA M a j) ∧ ∀ f, f < S → mA M' 131 f = if f ∈ y then nI (bkT Q) else blI (blT Q f) := by
  have ln := i.len
  have ly : (stT Q).length = x.length + y.length := by rw [hx, List.length_append]
  have nd := List.nodup_append.mp (by have := i.2.1.1; rw [hx] at this; exact this)
  have me : ∀ f, f ∈ y → f < S := fun f hf => (i.1 f ((i.2.1.2 f).mp (by rw [hx]; exact List.mem_append_right _ hf)).1).1.1
  intro d
  induction d with
  | zero =>
    intro j kf M x3 hj hkf h1 h2 h3 h4 h5
    obtain ⟨kf, rfl⟩ : ∃ g, kf = g + 1 := ⟨kf - 1, by omega⟩
    refine ⟨M, ?_, fun _ h => h, h1, h3, rfl, fun _ _ _ => rfl, h4⟩
    unfold KL_X0_walk_218
    rw [ifT (h5.mpr rfl), show j = y.length by omega]
  | succ d ih =>
    intro j kf M x3 hj hkf h1 h2 h3 h4 h5
    obtain ⟨kf, rfl⟩ : ∃ g, kf = g + 1 := ⟨kf - 1, by omega⟩
    obtain ⟨g, hg⟩ : ∃ g, g = y.getD d 0 := ⟨_, rfl⟩
    have gm : g ∈ y := by rw [hg]; exact getD_mm (by omega)
    have gS := me g gm
    obtain ⟨M1, hM1⟩ : ∃ q, q = msI M 83 1 (nI (x.length + d)) := ⟨_, rfl⟩
    obtain ⟨M2, hM2⟩ : ∃ q, q = mwA M1 131 g (nI (bkT Q)) := ⟨_, rfl⟩
    have e1 : mI M 83 1 - 1 = nI (x.length + d) := by
      rw [h1, show (1 : Int32) = nI 1 from rfl, nI_sub (by omega)]; congr 1
    have dr : y.drop d = g :: y.drop (d + 1) := by
      rw [List.drop_eq_getElem_cons (by omega), hg, List.getD_eq_getElem?_getD, List.getElem?_eq_getElem (by omega)]; rfl
    have v : ∀ f, f < S → mA M2 131 f = if f ∈ y.drop d then nI (bkT Q) else blI (blT Q f) := fun f hf => by
      rw [hM2, mA_mwA, dr]
      by_cases q : f = g
      · rw [ifT ⟨rfl, q⟩, ifT (by rw [q]; exact List.mem_cons_self ..)]
      · rw [ifF (fun z => q z.2), hM1]
        show mA M 131 f = _
        rw [h4 f hf]
        by_cases r : f ∈ y.drop (d + 1)
        · rw [ifT r, ifT (List.mem_cons_of_mem _ r)]
        · rw [ifF r, ifF (fun z => (List.mem_cons.mp z).elim q r)]
    obtain ⟨M', a1, a2, a3, a4, a5, a6, a7⟩ := ih (j + 1) kf M2 (nI g) (by omega) (by omega) (by rw [hM2, hM1]; rfl) (fun i hi => by rw [hM2, mA_mwA, ifF (by omega), hM1]; exact h2 i hi) (by rw [hM2, hM1]; exact h3) v (by
      rw [bI_eq (by omega) (by have := me e (by rw [hy]; exact List.mem_cons_self ..); omega)]
      constructor
      · intro z
        by_cases q : d = 0
        · exact q
        · exfalso
          obtain ⟨d', rfl⟩ : ∃ d', d = d' + 1 := ⟨d - 1, by omega⟩
          rw [hy] at hg hj
          have hg : g = L.getD d' 0 := hg
          have : g ∈ L := by rw [hg]; exact getD_mm (by rw [List.length_cons] at hj; omega)
          have n2 := nd.2.1
          rw [hy] at n2
          rw [z] at this
          exact (List.nodup_cons.mp n2).1 this
      · intro z; rw [hg, hy, z]; rfl)
    refine ⟨M', ?_, fun M0 h => a2 M0 ?_, a3, a4, ?_, fun a j ha => ?_, a7⟩
    · unfold KL_X0_walk_218
      have n5 : ¬ x3 = nI e := fun z => by have := h5.mp z; omega
      have g147 : mA M1 147 (x.length + d) = nI g := by
        rw [hM1]
        show mA M 147 _ = _
        rw [h2 _ (by omega), hx, getD_r, hg]
      rw [ifF n5, e1, ← hM1, nm_eq, show mI M1 83 1 = nI (x.length + d) by rw [hM1, mI_msI, ifT ⟨rfl, rfl⟩], ifT (inb_nI' (by omega) (by decide)), ix_nI (by omega), g147, nm_eq, ifT (inb_nI' (by omega) (by decide)), ix_nI (by omega), show mI M1 75 1 = nI (bkT Q) by rw [hM1, mI_msI, ifF (by omega)]; exact h3, ← hM2, nm_eq, nI_addL, nm_eq]
      exact a1
    · rw [hM2, hM1]; exact (h.wI rfl).wA rfl ⟨by decide, by decide⟩
    · rw [a5, hM2, hM1]; rfl
    · rw [a6 a j ha, hM2, mA_mwA, ifF (fun q => ha q.1), hM1]; rfl
/-- what the walk sees -/
def KwC (U S : Nat) (ins : Nat → Nat → Bool) (gv : Nat → Nat) (c : Nat → Bool) (M0 : CM) : Prop := (mI M0 57 1 = nI U ∧ U ≤ 180 ∧ S ≤ 180) ∧ (∀ e u, e < S → u < U → (ins e u = true ↔ ¬ mA M0 132 (180 * e + u) = 0 ∧ ¬ mA M0 123 u = 2)) ∧ (∀ e u, e < S → u < U → ins e u = true → gv u < S ∧ c (gv u) = true) ∧ (∀ e u, e < S → u < U → ins e u = true → mA M0 122 u = nI (gv u)) ∧ mn M0 ≤ 601024 ∧ ms M0 + 8 ≤ 7293034 ∧ mn M0 ≠ 0
/-- the outcome: all is well, or a block is too large -/
def KwO {α β : Type} (D : FQ) (S : Nat) (M0 : CM) (Q : TjS) (ok : α) (er : Nat → β) (r : Option ((α ⊕ β) × CM)) : Prop := (ftT Q = none ∧ ∃ M', r = some (.inl ok, M') ∧ KtR S Q M' ∧ KwF D M0 M') ∨ ∃ b M1, ftT Q = some b ∧ b < 1000 ∧ r = some (.inr (er (mn M1)), wM M1 55 (nI b)) ∧ KwF D M0 M1
theorem k_tjl {cf : Int32 → CM → Option ((Unit ⊕ Nat) × CM)} {rc : Nat → TjS → TjS} (K : KwC U S ins gv c M0) (he : e < S) (hro : ∀ e P, e < S → c e = true → TjI S c P → wkT P e = 0 → S < f + wsT P → TjO S c P (rc e P) ∧ wkT (rc e P) e ≠ 0) (hcf : ∀ e P M, e < S → c e = true → TjI S c P → wkT P e = 0 → S < f + wsT P → ftT P = none → KtR S P M → KwF D M0 M → KwO D S M0 (rc e P) () id (cf (nI e) M)) : ∀ (d n : Nat) (P : TjS) (M : CM), d ≤ U → d < n → TjI S c P → wkT P e ≠ 0 → blT P e = 0 → S < f + wsT P → ftT P = none → KtR S P M → KwF D M0 M → KwO D S M0 (tjl U ins gv rc e d P) () (fun w => Sum.inr w) (KL_X0_walk_52 cf n (nI e) (nI (U - d)) M)
  | 0, 0, _, _, _, hn, _, _, _, _, _, _, _ => absurd hn (Nat.lt_irrefl 0)
  | d + 1, 0, _, _, _, hn, _, _, _, _, _, _, _ => absurd hn (Nat.not_lt_zero _)
  | 0, n + 1, P, M, _, _, i, h1, h2, hf, h0, r, k => by
    obtain ⟨⟨a1, a2, a3⟩, -⟩ := K
    left
    refine ⟨h0, M, ?_, r, k⟩
    unfold KL_X0_walk_52
    rw [k.1.i rfl, a1, ifT ((bI_le (by omega) (by omega)).mpr (by omega))]
  | d + 1, n + 1, P, M, hd, hn, i, h1, h2, hf, h0, r, k => by
    have ih := k_tjl K he hro hcf d n
    obtain ⟨⟨a1, a2, a3⟩, a4, a5, a6, a7⟩ := id K
    obtain ⟨u, hu⟩ : ∃ u, u = U - (d + 1) := ⟨_, rfl⟩
    have uU : u < U := by omega
    have nx : nI u + 1 = nI (U - d) := by rw [nI_addL]; congr 1; omega
    have le : ¬ nI U ≤ nI u := fun z => by have := (bI_le (by omega) (by omega)).mp z; omega
    have iu : inb (nI u) 180 := inb_nI' (by omega) (by decide)
    have xu : ix (nI u) = u := ix_nI (by omega)
    have ie : inb (nI e) 180 := inb_nI' (by omega) (by decide)
    have xe : ix (nI e) = e := ix_nI (by omega)
    have row : (180 : Int32) * nI e + nI u = nI (180 * e + u) := by rw [show (180 : Int32) = nI 180 from rfl, nI_mul, bI_add]
    have bdP := i.bd
    unfold tjl
    rw [← hu]
    have eK : KL_X0_walk_52 cf (n + 1) (nI e) (nI u) M = if mA M0 132 (180 * e + u) = 0 then KL_X0_walk_52 cf n (nI e) (nI (U - d)) M else if mA M0 123 u = 2 then KL_X0_walk_52 cf n (nI e) (nI (U - d)) M else (if inb (mA M0 122 u) 180 then (if mA M 145 (ix (mA M0 122 u)) = 0 then (obS (cf (mA M0 122 u) M) (fun w34 M30 => some (.inr (.inr w34), M30)) fun r31 M30 => if inb (mA M0 122 u) 180 then if inb (nI e) 180 then if mA M30 146 (ix (nI e)) ≤ mA M30 146 (ix (mA M0 122 u)) then KL_X0_walk_52 cf n (nI e) (nI (U - d)) (mwA M30 146 e (mA M30 146 e)) else KL_X0_walk_52 cf n (nI e) (nI (U - d)) (mwA M30 146 e (mA M30 146 (ix (mA M0 122 u)))) else none else none) else if 0 ≤ mA M 131 (ix (mA M0 122 u)) then KL_X0_walk_52 cf n (nI e) (nI (U - d)) M else if mA M 146 (ix (nI e)) ≤ mA M 145 (ix (mA M0 122 u)) then KL_X0_walk_52 cf n (nI e) (nI (U - d)) (mwA M 146 e (mA M 146 e)) else KL_X0_walk_52 cf n (nI e) (nI (U - d)) (mwA M 146 e (mA M 145 (ix (mA M0 122 u))))) else none) := by
      conv => lhs; unfold KL_X0_walk_52
      rw [k.1.i rfl, a1, ifF le, row, ifT (inb_nI' (by omega) (by decide)), ix_nI (by omega), k.1.ga rfl, nx, ifT iu, ifT iu, xu, k.1.ga rfl, k.1.ga rfl]
      simp only [nm_eq, ifT ie, xe]
      by_cases q : inb (mA M0 122 u) 180
      · simp only [ifT q]
      · simp only [ifF q]
    rw [eK]
    by_cases z : ins e u = true
    · obtain ⟨z1, z2⟩ := (a4 e u he uU).mp z
      obtain ⟨g1, g2⟩ := a5 e u he uU z
      have g3 := a6 e u he uU z
      rw [ifT z, ifF z1, ifF z2]
      obtain ⟨g, hgg⟩ : ∃ g, g = gv u := ⟨_, rfl⟩
      rw [← hgg] at g1 g2 g3 ⊢
      have ig : inb (nI g) 180 := inb_nI' (by omega) (by decide)
      have xg : ix (nI g) = g := ix_nI (by omega)
      rw [g3, ifT ig, xg, (r.1 g g1).1]
      have lowS : ∀ {Q M v}, TjI S c Q → wkT Q e ≠ 0 → KtR S Q M → KwF D M0 M → v < 1000 → (if nI (loT Q e) ≤ nI v then KL_X0_walk_52 cf n (nI e) (nI (U - d)) (mwA M 146 e (nI (loT Q e))) else KL_X0_walk_52 cf n (nI e) (nI (U - d)) (mwA M 146 e (nI v))) = KL_X0_walk_52 cf n (nI e) (nI (U - d)) (mwA M 146 e (nI (min (loT Q e) v))) := fun {Q M v} iQ hw rQ kQ hv => by
        have b1 := iQ.bd
        have b2 := iQ.1 e hw
        by_cases q : loT Q e ≤ v
        · rw [ifT ((bI_le (by omega) (by omega)).mpr q), Nat.min_eq_left q]
        · rw [ifF (fun w => q ((bI_le (by omega) (by omega)).mp w)), Nat.min_eq_right (by omega)]
      have wg := fun hw => (i.1 g hw).2.1
      by_cases y : wkT P g = 0
      · rw [ifT y, ifT (by rw [y]; rfl)]
        obtain ⟨⟨o1, o2, o3⟩, o4⟩ := hro g P g1 g2 i y hf
        have w0 : wkT (rc g P) e ≠ 0 := by rw [o2.1 e h1]; exact h1
        have b0 : blT (rc g P) e = 0 := o2.on i o1 h1 h2
        have lw := o2.ws i o1
        obtain ⟨l1, l2, l3⟩ := TjI.low (e := e) o1 (o1.1 g o4).2.2.1
        have bdQ := o1.bd
        have lg := (o1.1 g o4)
        rcases hcf g P M g1 g2 i y hf h0 r k with ⟨c1, M', c2, c3, c4⟩ | ⟨b, M1, c1, c2, c3, c4⟩
        · rw [c2, obS_inl, ifT ig, ifT ie, xe, (c3.1 e he).2.1 w0, (c3.1 g g1).2.1 o4, lowS o1 w0 c3 c4 (by omega)]
          exact ih (lowT (rc g P) e (loT (rc g P) g)) _ (by omega) (by omega) l1 w0 b0 (by show S < f + wsT (rc g P); omega) c1 (c3.low o1 a3 he w0 (by omega)) (c4.wA rfl ⟨by decide, by decide⟩)
        · right
          have q := (tjl_ok (U := U) (gv := gv) (ins := ins) a5 he hro d (lowT (rc g P) e (loT (rc g P) g)) (by omega) l1 w0 b0 (by show S < f + wsT (rc g P); omega)).2.1.2.2.2.1 (by show ftT (rc g P) ≠ none; rw [c1]; exact fun q => by cases q)
          refine ⟨b, M1, q.trans c1, c2, ?_, c4⟩
          rw [c3, obS_inr]; rfl
      · rw [ifF y, ifF (show ¬ nI (wkT P g) = 0 from fun q => y ((bI_eq (b := 0) (by have := wg y; omega) (by decide)).mp q))]
        have wg := wg y
        by_cases w : blT P g = 0
        · have n1 : ¬ (0 : Int32) ≤ mA M 131 g := by
            rw [(r.1 g g1).2.2, w]; decide
          rw [ifT w, ifF n1, xe, (r.1 e he).2.1 h1, lowS i h1 r k (by omega)]
          obtain ⟨l1, l2, l3⟩ := TjI.low (e := e) (v := wkT P g) i (by omega)
          exact ih (lowT P e (wkT P g)) _ (by omega) (by omega) l1 h1 h2 hf h0 (r.low i a3 he h1 (by omega)) (k.wA rfl ⟨by decide, by decide⟩)
        · have p1 : (0 : Int32) ≤ mA M 131 g := by
            rw [(r.1 g g1).2.2]
            unfold blI
            rw [ifF w]
            have := (i.2.2.1 g w).2
            exact nn_nI (by omega)
          rw [ifF w, ifT p1]
          exact ih P M (by omega) (by omega) i h1 h2 hf h0 r k
    · rw [ifF z]
      have sk : (if mA M0 132 (180 * e + u) = 0 then KL_X0_walk_52 cf n (nI e) (nI (U - d)) M else if mA M0 123 u = 2 then KL_X0_walk_52 cf n (nI e) (nI (U - d)) M else (if inb (mA M0 122 u) 180 then (if mA M 145 (ix (mA M0 122 u)) = 0 then (obS (cf (mA M0 122 u) M) (fun w34 M30 => some (.inr (.inr w34), M30)) fun r31 M30 => if inb (mA M0 122 u) 180 then if inb (nI e) 180 then if mA M30 146 (ix (nI e)) ≤ mA M30 146 (ix (mA M0 122 u)) then KL_X0_walk_52 cf n (nI e) (nI (U - d)) (mwA M30 146 e (mA M30 146 e)) else KL_X0_walk_52 cf n (nI e) (nI (U - d)) (mwA M30 146 e (mA M30 146 (ix (mA M0 122 u)))) else none else none) else if 0 ≤ mA M 131 (ix (mA M0 122 u)) then KL_X0_walk_52 cf n (nI e) (nI (U - d)) M else if mA M 146 (ix (nI e)) ≤ mA M 145 (ix (mA M0 122 u)) then KL_X0_walk_52 cf n (nI e) (nI (U - d)) (mwA M 146 e (mA M 146 e)) else KL_X0_walk_52 cf n (nI e) (nI (U - d)) (mwA M 146 e (mA M 145 (ix (mA M0 122 u))))) else none)) = KL_X0_walk_52 cf n (nI e) (nI (U - d)) M := by
        by_cases q : mA M0 132 (180 * e + u) = 0
        · rw [ifT q]
        · rw [ifF q]
          by_cases q2 : mA M0 123 u = 2
          · rw [ifT q2]
          · exact absurd ((a4 e u he uU).mpr ⟨q, q2⟩) z
      rw [sk]
      exact ih P M (by omega) (by omega) i h1 h2 hf h0 r k
theorem k_tj (K : KwC U S ins gv c M0) : ∀ (f e : Nat) (P : TjS) (M : CM), e < S → c e = true → TjI S c P → wkT P e = 0 → S < f + wsT P → ftT P = none → KtR S P M → KwF D M0 M → KwO D S M0 (tj U ins gv f e P) () id (KG_X0_walk f (nI e) M)
  | 0, e, P, M, he, hc, i, h0, hf, _, _, _ => by
    exfalso
    have := i.bd
    omega
  | f + 1, e, P, M, he, hc, i, h0, hf, hn, r, k => by
    have ih := k_tj K f
    obtain ⟨⟨a1, a2, a3⟩, a4, a5, a6, a7⟩ := id K
    have tok := tj_ok (U := U) (ins := ins) (gv := gv) (S := S) (c := c) a5 f
    obtain ⟨p1, p2, p3, p4, p5, p6⟩ := i.push he hc h0
    have bd := i.bd
    have ln := i.len
    have ln1 := p1.len
    have bd1 := p1.bd
    have st1 : stT (pushT e P) = stT P ++ [e] := rfl
    rw [st1, List.length_append] at ln1
    have ln1 : (stT P).length + 1 ≤ S := ln1
    have ie : inb (nI e) 180 := inb_nI' (by omega) (by decide)
    have xe : ix (nI e) = e := ix_nI (by omega)
    obtain ⟨r1, ⟨r2, r2'⟩, r3, r4, r5⟩ := id r
    obtain ⟨M1, hM1⟩ : ∃ q, q = msI M 84 1 (nI (wsT P + 1)) := ⟨_, rfl⟩
    obtain ⟨M3, hM3⟩ : ∃ q, q = mwA M1 145 e (nI (wsT P + 1)) := ⟨_, rfl⟩
    obtain ⟨M5, hM5⟩ : ∃ q, q = mwA M3 146 e (nI (wsT P + 1)) := ⟨_, rfl⟩
    obtain ⟨M7, hM7⟩ : ∃ q, q = mwA M5 147 (stT P).length (nI e) := ⟨_, rfl⟩
    obtain ⟨M8, hM8⟩ : ∃ q, q = msI M7 83 1 (nI ((stT P).length + 1)) := ⟨_, rfl⟩
    have k8 : KwF D M0 M8 := by
      rw [hM8, hM7, hM5, hM3, hM1]
      exact ((((k.wI rfl).wA rfl ⟨by decide, by decide⟩).wA rfl ⟨by decide, by decide⟩).wA rfl ⟨by decide, by decide⟩).wI rfl
    have a8 : ∀ a j, mA M8 a j = if a = 147 ∧ j = (stT P).length then nI e else if a = 146 ∧ j = e then nI (wsT P + 1) else if a = 145 ∧ j = e then nI (wsT P + 1) else mA M a j := fun a j => by
      rw [hM8]
      show mA M7 a j = _
      rw [hM7, mA_mwA, hM5, mA_mwA, hM3, mA_mwA, hM1]; rfl
    have i8 : mI M8 83 1 = nI ((stT P).length + 1) ∧ mI M8 84 1 = nI (wsT P + 1) ∧ mI M8 75 1 = nI (bkT P) := by
      rw [hM8]
      refine ⟨by rw [mI_msI, ifT ⟨rfl, rfl⟩], ?_, ?_⟩
      · rw [mI_msI, ifF (by omega), hM7, hM5, hM3, hM1]; rfl
      · rw [mI_msI, ifF (by omega), hM7, hM5, hM3, hM1]; exact r4
    have r8 : KtR S (pushT e P) M8 := by
      refine ⟨fun g hg => ⟨?_, fun hw => ?_, ?_⟩, ⟨?_, fun i hi => ?_⟩, i8.2.1, i8.2.2, fun b hb => ?_⟩
      · rw [a8, ifF (by omega), ifF (by omega)]
        show _ = nI (sN (wkT P) e (wsT P + 1) g)
        by_cases y : g = e
        · rw [ifT ⟨rfl, y⟩, y, sN_eq]
        · rw [ifF (fun q => y q.2), sN_ne _ _ y]; exact (r1 g hg).1
      · rw [a8, ifF (by omega)]
        have hw : sN (wkT P) e (wsT P + 1) g ≠ 0 := hw
        show _ = nI (sN (loT P) e (wsT P + 1) g)
        by_cases y : g = e
        · rw [ifT ⟨rfl, y⟩, y, sN_eq]
        · rw [ifF (fun q => y q.2), ifF (by omega), sN_ne _ _ y]
          rw [sN_ne _ _ y] at hw
          exact (r1 g hg).2.1 hw
      · rw [a8, ifF (by omega), ifF (by omega), ifF (by omega)]; exact (r1 g hg).2.2
      · rw [st1, List.length_append]; exact i8.1
      · rw [st1, List.length_append] at hi
        have hi : i < (stT P).length + 1 := hi
        rw [a8, st1]
        by_cases y : i = (stT P).length
        · rw [ifT ⟨rfl, y⟩, y, show (stT P).length = (stT P).length + 0 from rfl, getD_r]; rfl
        · rw [ifF (fun q => y q.2), ifF (by omega), ifF (by omega), getD_l _ (by omega)]; exact r2' i (by omega)
      · rw [a8, ifF (by omega), ifF (by omega), ifF (by omega)]; exact r5 b hb
    have eK : KG_X0_walk (f + 1) (nI e) M = obS (KL_X0_walk_52 (KG_X0_walk f) FU (nI e) 0 M8) (fun r79 M52 => some (r79, M52)) fun q51 M52 => if mA M52 146 e = mA M52 145 e then (ob (KL_X0_walk_218 (KG_X0_walk f) FU (nI e) 0 (-1) M52) fun q63 M64 => if q63 ≤ 12 then if inb (mI M64 75 1) 181 then if inb ((mI M64 75 1) + 1) 181 then some (.inl (), msI (mwA M64 141 (ix ((mI M64 75 1) + 1)) ((mA M64 141 (ix (mI M64 75 1))) + q63)) 75 1 (mI M64 75 1 + 1)) else none else none else ob (K_X0_wrong 55 (mI M64 75 1) M64) fun r71 M70 => if mk M70 r71 = 7 then some (.inr r71, M70) else none) else some (.inl (), M52) := by
      show KB_X0_walk (KG_X0_walk f) (nI e) M = _
      unfold KB_X0_walk
      rw [r3, nI_addL, ← hM1, nm_eq, ifT ie, xe, show mI M1 84 1 = nI (wsT P + 1) by rw [hM1, mI_msI, ifT ⟨rfl, rfl⟩], ← hM3, nm_eq, ifT ie, show mI M3 84 1 = nI (wsT P + 1) by rw [hM3, hM1]; rfl, ← hM5, nm_eq]
      have e83 : ∀ {N : CM}, N = M5 ∨ N = M7 → mI N 83 1 = nI (stT P).length := fun h => by
        rcases h with h | h
        · rw [h, hM5, hM3, hM1]; exact r2
        · rw [h, hM7, hM5, hM3, hM1]; exact r2
      rw [e83 (Or.inl rfl), ifT (inb_nI' (by omega) (by decide)), ix_nI (by omega), ← hM7, nm_eq, e83 (Or.inr rfl), nI_addL, ← hM8, nm_eq]
      simp only [ifT ie, xe, nm_eq]
      rfl
    rw [eK]
    unfold tj
    have fu := fu2
    have lp := k_tjl (D := D) (cf := KG_X0_walk f) (rc := tj U ins gv f) (f := f) K he tok (fun e P M a b g h l m q p => ih e P M a b g h l m q p) U FU (pushT e P) M8 (Nat.le_refl _) (by omega) p1 p4 p5 (by omega) hn r8 k8
    obtain ⟨q1, q2, q3⟩ := tjl_ok a5 he tok U (pushT e P) (Nat.le_refl _) p1 p4 p5 (by omega)
    obtain ⟨Q, hQ⟩ : ∃ Q, Q = tjl U ins gv (tj U ins gv f) e U (pushT e P) := ⟨_, rfl⟩
    rw [← hQ] at q1 q2 q3 lp ⊢
    have we : wkT Q e ≠ 0 := by rw [q2.1 e p4]; exact p4
    rw [Nat.sub_self] at lp
    rcases lp with ⟨c1, M', c2, c3, c4⟩ | ⟨b, N1, c1, c2, c3, c4⟩
    · rw [show KL_X0_walk_52 (KG_X0_walk f) FU (nI e) 0 M8 = some (.inl (), M') from c2, obS_inl, (c3.1 e he).2.1 we, (c3.1 e he).1]
      have bq := q1.bd
      have wq := q1.1 e we
      unfold tjF
      by_cases z : loT Q e = wkT Q e
      · rw [ifT z, ifT (by rw [z])]
        obtain ⟨x, hx⟩ := q2.2.2.1
        have hx : stT Q = stT P ++ e :: x := by rw [hx]; show (stT P ++ [e]) ++ x = _; rw [List.append_assoc]; rfl
        obtain ⟨f1, f2, f3, f4, f5⟩ := q1.fin hx
        have lq := q1.len
        have llq : (stT Q).length = (stT P).length + (e :: x).length := by rw [hx, List.length_append]
        obtain ⟨N, d1, d2, d3, d4, d5, d6, d7⟩ := k_pop (D := D) (KG_X0_walk f) a3 q1 hx rfl (e :: x).length 0 FU M' (-1) (by omega) (by omega) (by rw [c3.2.1.1, llq]) c3.2.1.2 c3.2.2.2.1 (fun g hg => by
          rw [List.drop_length, ifF (by simp)]; exact (c3.1 g hg).2.2) (by
          constructor
          · intro q; exact absurd q.symm (nI_m1 (by omega))
          · intro q; rw [List.length_cons] at q; omega)
        have kN := d2 M0 c4
        rw [show KL_X0_walk_218 (KG_X0_walk f) FU (nI e) 0 (-1) M' = some (nI (e :: x).length, N) from d1, ob_some, d4]
        have dl : (stT Q).length - (stT P).length = (e :: x).length := by omega
        have bdE := f1.bd
        have bkE : bkT (endT (stT P).length Q) = bkT Q + 1 := rfl
        have bfE : ∀ b, bfT (endT (stT P).length Q) b = sN (bfT Q) (bkT Q + 1) (bfT Q (bkT Q) + (e :: x).length) b := fun b => by
          show sN (bfT Q) (bkT Q + 1) (bfT Q (bkT Q) + ((stT Q).length - (stT P).length)) b = _
          rw [dl]
        have ftE : ftT (endT (stT P).length Q) = if ftT Q = none ∧ 12 < (e :: x).length then some (bkT Q) else ftT Q := by
          show (if ftT Q = none ∧ 12 < (stT Q).length - (stT P).length then some (bkT Q) else ftT Q) = _
          rw [dl]
        by_cases y : (e :: x).length ≤ 12
        · rw [ifT (show nI (e :: x).length ≤ 12 from (bI_le (b := 12) (by omega) (by decide)).mpr y), ifT (inb_nI' (by omega) (by decide)), nI_addL, ifT (inb_nI' (by omega) (by decide)), ix_nI (by omega), ix_nI (by omega)]
          have g141 : mA N 141 (bkT Q) = nI (bfT Q (bkT Q)) := by rw [d6 141 _ (by decide)]; exact c3.2.2.2.2 _ (Nat.le_refl _)
          rw [g141, bI_add]
          left
          refine ⟨by rw [ftE, ifF (fun q => by omega)]; exact c1, _, rfl, ⟨fun g hg => ⟨?_, fun hw => ?_, ?_⟩, ⟨?_, fun i hi => ?_⟩, ?_, ?_, fun b hb => ?_⟩, (kN.wA rfl ⟨by decide, by decide⟩).wI rfl⟩
          · show mA (mwA N 141 _ _) 145 g = _
            rw [mA_mwA, ifF (by omega), d6 145 g (by decide), f2]; exact (c3.1 g hg).1
          · show mA (mwA N 141 _ _) 146 g = _
            rw [mA_mwA, ifF (by omega), d6 146 g (by decide), f3]; exact (c3.1 g hg).2.1 (by rw [← f2]; exact hw)
          · show mA (mwA N 141 _ _) 131 g = _
            rw [mA_mwA, ifF (by omega), d7 g hg, f4]
            by_cases w : g ∈ e :: x
            · rw [ifT w, ifT w]; unfold blI; rw [ifF (by omega)]; rfl
            · rw [ifF w, ifF w]
          · rw [f5, mI_msI, ifF (by omega)]; exact d3
          · rw [f5] at hi ⊢
            show mA (mwA N 141 _ _) 147 i = _
            rw [mA_mwA, ifF (by omega), d6 147 i (by decide), c3.2.1.2 i (by omega), hx, getD_l _ hi]
          · rw [mI_msI, ifF (by omega)]
            show mI N 84 1 = _
            rw [d5]; exact c3.2.2.1
          · rw [mI_msI, ifT ⟨rfl, rfl⟩, bkE]
          · show mA (mwA N 141 _ _) 141 b = _
            rw [mA_mwA, bfE]
            by_cases w : b = bkT Q + 1
            · rw [ifT ⟨rfl, w⟩, w, sN_eq]
            · rw [ifF (fun q => w q.2), sN_ne _ _ w, d6 141 b (by decide)]
              exact c3.2.2.2.2 b (by rw [bkE] at hb; omega)
        · rw [ifF (show ¬ nI (e :: x).length ≤ 12 from fun q => y ((bI_le (b := 12) (by omega) (by decide)).mp q))]
          right
          refine ⟨bkT Q, N, by rw [ftE, ifT ⟨c1, by omega⟩], by omega, ?_, kN⟩
          rw [k_wrong ⟨by rw [kN.1.n]; exact a7.1, by rw [kN.1.2.2.2.2.2.2.2.2]; exact a7.2.1⟩ (by rw [kN.1.n]; exact a7.2.2), ob_some, ifT (wM_k _ _ _)]
          rfl
      · rw [ifF z, ifF (fun q => z ((bI_eq (by omega) (by omega)).mp q))]
        exact Or.inl ⟨c1, M', rfl, c3, c4⟩
    · right
      refine ⟨b, N1, ?_, c2, by rw [show KL_X0_walk_52 (KG_X0_walk f) FU (nI e) 0 M8 = _ from c3, obS_inr]; rfl, c4⟩
      unfold tjF
      by_cases z : loT Q e = wkT Q e
      · rw [ifT z]
        show (if ftT Q = none ∧ 12 < (stT Q).length - (stT P).length then some (bkT Q) else ftT Q) = some b
        rw [ifF (fun q => by rw [c1] at q; cases q.1)]; exact c1
      · rw [ifF z]; exact c1
end KWALK
