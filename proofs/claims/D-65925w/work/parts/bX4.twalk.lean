/-! Layer B: blocks: the twin walks so -/
set_option maxRecDepth 100000
abbrev twT : List Nat := [0, 1, 196, 208, 209, 210, 211, 212, 213, 214, 215, 216, 217, 218, 219, 220]
/-- blocks that are whole, the twin -/
def TtL (S U : Nat) (gv : Nat → Nat) (ct : Nat → Bool) (li : Nat → Nat → Int32) (P : TjS) (s : TS) : Prop := ∀ b, b < bkT P → (tA s 209 b = nI (bfT P b) ∧ tA s 210 b = nI (bfT P (b + 1) - bfT P b)) ∧ (∀ f, f < S → blT P f = b + 1 → tA s 211 (bfT P b + cnB (fun f => decide (blT P f = b + 1)) f) = nI f) ∧ (∀ u, u < U → ct u = true → blT P (gv u) = b + 1 → tA s 212 (bfT P b + cnB (fun u => ct u && decide (blT P (gv u) = b + 1)) u) = nI u) ∧ tA s 213 b = if bfT P (b + 1) - bfT P b = 1 then li (ix (tA s 211 (bfT P b))) (ix (tA s 212 (bfT P b))) else 0
def TtA (S : Nat) (P : TjS) (s : TS) : Prop := (∀ f, f < S → tA s 215 f = blI (wkT P f) ∧ (wkT P f ≠ 0 → tA s 216 f = nI (loT P f - 1)) ∧ tA s 196 f = blI (blT P f) ∧ tA s 218 f = if wkT P f ≠ 0 ∧ blT P f = 0 then 1 else 0) ∧ (tI s 220 = nI (stT P).length ∧ ∀ i, i < (stT P).length → tA s 217 i = nI ((stT P).getD i 0)) ∧ tI s 219 = nI (wsT P) ∧ tI s 208 = nI (bkT P) ∧ tI s 214 = nI (bfT P (bkT P)) ∧ (ftT P = none → tI s 0 = 0) ∧ ∀ b, ftT P = some b → tI s 0 = 55 ∧ tI s 1 = nI b
/-- what the walk sees, the twin -/
def TwC (U S : Nat) (ins : Nat → Nat → Bool) (gv : Nat → Nat) (ct c : Nat → Bool) (li : Nat → Nat → Int32) (s0 : TS) : Prop :=
  (tI s0 197 = nI U ∧ tI s0 143 = nI S ∧ U ≤ 180 ∧ S ≤ 180) ∧ (∀ e u, e < S → u < U → (ins e u = true ↔ ¬ tA s0 202 (200 * e + u) = 0 ∧ ¬ tA s0 192 u = 2)) ∧ (∀ u, u < U → (ct u = true ↔ ¬ tA s0 192 u = 2)) ∧ (∀ u, u < U → ct u = true → (gv u < S ∧ c (gv u) = true) ∧ tA s0 191 u = nI (gv u)) ∧ (∀ u u', u < U → u' < U → ct u = true → ct u' = true → gv u = gv u' → u = u') ∧ cnB ct U = cnB c S ∧ (∀ f, f < S → c f = true → tA s0 180 f = 0) ∧ (∀ e u s, e < S → u < U → c e = true → Ft twT s0 s → F_isLinear (nI e) (nI u) s = some (li e u, s)) ∧ ∀ e u, li e u = 0 ∨ li e u = 1
section TWALK
variable {s s' s0 s1 : TS} {U S d e f n u k v i b : Nat} {ins : Nat → Nat → Bool} {gv : Nat → Nat} {ct c p : Nat → Bool} {li : Nat → Nat → Int32} {P Q : TjS} {x y L : List Nat}
theorem blI_lt (hb : b < 1000) : (0 : Int32) ≤ blI b ↔ b ≠ 0 := by
  unfold blI
  by_cases z : b = 0
  · rw [ifT z]; exact ⟨fun q => absurd q (by decide), fun q => absurd z q⟩
  · rw [ifF z]; exact ⟨fun _ => z, fun _ => nn_nI (by omega)⟩
theorem blI_eq (hb : b < 1000) (hk : k < 1000) : blI b = nI k ↔ b = k + 1 := by
  unfold blI
  by_cases z : b = 0
  · rw [ifT z]; exact ⟨fun q => absurd q.symm (nI_m1 (by omega)), fun q => by omega⟩
  · rw [ifF z]
    constructor
    · intro q
      have := nIq q (by omega) (by omega)
      omega
    · intro q; congr 1; omega
theorem TtA.low (h : TtA S P s) (i : TjI S c P) (hS : S ≤ 180) (he : e < S) (hw : wkT P e ≠ 0) (hv : 1 ≤ v ∧ v < 1000) : TtA S (lowT P e v) (tsA s 216 e (mmin (nI (loT P e - 1)) (nI (v - 1)))) := by
  obtain ⟨h1, h2, h3, h4, h5, h6, h7⟩ := h
  have bd := i.bd
  have i1 := i.1 e hw
  refine ⟨fun f hf => ?_, ⟨h2.1, fun i hi => ?_⟩, h3, h4, h5, h6, h7⟩
  · obtain ⟨a1, a2, a3, a4⟩ := h1 f hf
    refine ⟨?_, fun hz => ?_, ?_, ?_⟩
    · rw [tA_tsA, ifF (by omega)]; exact a1
    · rw [tA_tsA]
      show _ = nI (sN (loT P) e (min (loT P e) v) f - 1)
      by_cases y : f = e
      · subst y
        rw [ifT ⟨rfl, rfl⟩, sN_eq, nI_min (by omega) (by omega)]
        congr 1; omega
      · rw [ifF (fun q => y q.2), sN_ne _ _ y]; exact a2 hz
    · rw [tA_tsA, ifF (by omega)]; exact a3
    · rw [tA_tsA, ifF (by omega)]; exact a4
  · rw [tA_tsA, ifF (by omega)]; exact h2.2 i hi
theorem TtL.st (h : TtL S U gv ct li P s) (e : bkT Q = bkT P ∧ (∀ f, blT Q f = blT P f) ∧ ∀ b, bfT Q b = bfT P b) (a : ∀ k j, k ∈ [209, 210, 211, 212, 213] → tA s' k j = tA s k j) : TtL S U gv ct li Q s' := by
  obtain ⟨e1, e2, e3⟩ := e
  have e2 : blT Q = blT P := funext e2
  have e3 : bfT Q = bfT P := funext e3
  intro b hb
  rw [e1] at hb
  obtain ⟨q1, q2, q3, q4⟩ := h b hb
  rw [e2, e3, a 209 _ (by decide), a 210 _ (by decide), a 213 _ (by decide), a 211 _ (by decide), a 212 _ (by decide)]
  exact ⟨q1, fun f hf hz => by rw [a 211 _ (by decide)]; exact q2 f hf hz, fun u hu hc hz => by rw [a 212 _ (by decide)]; exact q3 u hu hc hz, q4⟩
theorem t_pop (hS : S ≤ 180) (i : TjI S c Q) (hx : stT Q = x ++ y) (hy : y = e :: L) : ∀ (d j tf : Nat) (s : TS) (x4 : Int32), j + d = y.length → d < tf → tI s 220 = nI (x.length + d) → (∀ i, i < (stT Q).length → tA s 217 i = nI ((stT Q).getD i 0)) → (∀ f, f < S → (tA s 196 f = if f ∈ y.drop d then nI (bkT Q) else blI (blT Q f)) ∧ tA s 218 f = if f ∈ y.drop d then 0 else (if wkT Q f ≠ 0 ∧ blT Q f = 0 then 1 else 0)) → (x4 = 0 ↔ d = 0) →
    ∃ s', L_endBlock_30 tf (nI e) (nI (bkT Q)) (nI j) x4 s = some (nI y.length, s') ∧ Ft [196, 218, 220] s s' ∧ tI s' 220 = nI x.length ∧ ∀ f, f < S → (tA s' 196 f = if f ∈ y then nI (bkT Q) else blI (blT Q f)) ∧ tA s' 218 f = if f ∈ y then 0 else (if wkT Q f ≠ 0 ∧ blT Q f = 0 then 1 else 0) := by
  have ln := i.len
  have ly : (stT Q).length = x.length + y.length := by rw [hx, List.length_append]
  have nd := List.nodup_append.mp (by have := i.2.1.1; rw [hx] at this; exact this)
  have me : ∀ f, f ∈ y → f < S := fun f hf => (i.1 f ((i.2.1.2 f).mp (by rw [hx]; exact List.mem_append_right _ hf)).1).1.1
  have e0 : nZ 0 = 0 := by decide
  intro d
  induction d with
  | zero =>
    intro j tf s x4 hj htf h1 h2 h4 h5
    obtain ⟨tf, rfl⟩ : ∃ g, tf = g + 1 := ⟨tf - 1, by omega⟩
    refine ⟨s, ?_, Ft.rf _ s, h1, h4⟩
    unfold L_endBlock_30
    rw [ifT (h5.mpr rfl), show j = y.length by omega]
  | succ d ih =>
    intro j tf s x4 hj htf h1 h2 h4 h5
    obtain ⟨tf, rfl⟩ : ∃ g, tf = g + 1 := ⟨tf - 1, by omega⟩
    obtain ⟨g, hg⟩ : ∃ g, g = y.getD d 0 := ⟨_, rfl⟩
    have gm : g ∈ y := by rw [hg]; exact getD_mm (by omega)
    have gS := me g gm
    obtain ⟨s1, hs1⟩ : ∃ q, q = tsI s 220 (nI (x.length + d)) := ⟨_, rfl⟩
    obtain ⟨s2, hs2⟩ : ∃ q, q = tsA s1 218 g 0 := ⟨_, rfl⟩
    obtain ⟨s3, hs3⟩ : ∃ q, q = tsA s2 196 g (nI (bkT Q)) := ⟨_, rfl⟩
    have f3 : Ft [196, 218, 220] s s3 := by rw [hs3, hs2, hs1]; exact (((Ft.rf _ s).p_tsI rfl).p_tsA rfl).p_tsA rfl
    have e1 : tI s 220 - 1 = nI (x.length + d) := by
      rw [h1, show (1 : Int32) = nI 1 from rfl, nI_sub (by omega)]; congr 1
    have dr : y.drop d = g :: y.drop (d + 1) := by
      rw [List.drop_eq_getElem_cons (by omega), hg, List.getD_eq_getElem?_getD, List.getElem?_eq_getElem (by omega)]; rfl
    have v : ∀ f, f < S → (tA s3 196 f = if f ∈ y.drop d then nI (bkT Q) else blI (blT Q f)) ∧ tA s3 218 f = if f ∈ y.drop d then 0 else (if wkT Q f ≠ 0 ∧ blT Q f = 0 then 1 else 0) := fun f hf => by
      rw [hs3, tA_tsA, tA_tsA, hs2, tA_tsA, tA_tsA, dr, hs1]
      obtain ⟨w1, w2⟩ := h4 f hf
      by_cases q : f = g
      · have : f ∈ g :: y.drop (d + 1) := by rw [q]; exact List.mem_cons_self ..
        rw [ifT ⟨rfl, q⟩, ifT this, ifF (by omega), ifT ⟨rfl, q⟩, ifT this]
        exact ⟨rfl, rfl⟩
      · rw [ifF (show ¬ ((196 : Nat) = 196 ∧ f = g) from fun z => q z.2), ifF (show ¬ ((196 : Nat) = 218 ∧ f = g) by omega), ifF (show ¬ ((218 : Nat) = 196 ∧ f = g) by omega), ifF (show ¬ ((218 : Nat) = 218 ∧ f = g) from fun z => q z.2)]
        show tA s 196 f = _ ∧ tA s 218 f = _
        rw [w1, w2]
        by_cases r : f ∈ y.drop (d + 1)
        · rw [ifT r, ifT r, ifT (List.mem_cons_of_mem _ r), ifT (List.mem_cons_of_mem _ r)]
          exact ⟨rfl, rfl⟩
        · have r' : ¬ f ∈ g :: y.drop (d + 1) := fun z => (List.mem_cons.mp z).elim q r
          rw [ifF r, ifF r, ifF r', ifF r']
          exact ⟨rfl, rfl⟩
    have ge : g = e ↔ d = 0 := by
      constructor
      · intro z
        by_cases q : d = 0
        · exact q
        · exfalso
          obtain ⟨d', rfl⟩ : ∃ d', d = d' + 1 := ⟨d - 1, by omega⟩
          rw [hy] at hg hj
          have hg : g = L.getD d' 0 := hg
          have : g ∈ L := by rw [hg]; exact getD_mm (by rw [List.length_cons] at hj; omega)
          have n2 := nd.2.1
          rw [hy] at n2
          rw [z] at this
          exact (List.nodup_cons.mp n2).1 this
      · intro z; rw [hg, hy, z]; rfl
    have eS : e < S := me e (by rw [hy]; exact List.mem_cons_self ..)
    obtain ⟨x5, hx5, hx6⟩ : ∃ x5 : Int32, (x5 = if nI g = nI e then 0 else 1) ∧ (x5 = 0 ↔ d = 0) := by
      refine ⟨_, rfl, ?_⟩
      by_cases z : nI g = nI e
      · rw [ifT z]
        exact ⟨fun _ => ge.mp (nIq z (by omega) (by omega)), fun _ => rfl⟩
      · rw [ifF z]
        exact ⟨fun q => absurd q (by decide), fun q => absurd (by rw [ge.mpr q]) z⟩
    obtain ⟨s', a1, a2, a3, a4⟩ := ih (j + 1) tf s3 x5 (by omega) (by omega) (by rw [hs3, hs2, hs1]; rfl) (fun i hi => by rw [(f3 217 rfl).2.2.1]; exact h2 i hi) v hx6
    refine ⟨s', ?_, f3.tr a2, a3, a4⟩
    unfold L_endBlock_30
    have n5 : ¬ x4 = 0 := fun z => by have := h5.mp z; omega
    have g217 : tA s1 217 (x.length + d) = nI g := by
      rw [hs1]
      show tA s 217 _ = _
      rw [h2 _ (by omega), hx, getD_r, hg]
    rw [ifF n5, e1, ← hs1, nm_eq, show tI s1 220 = nI (x.length + d) by rw [hs1, tI_tsI, ifT rfl], ifT (inb_nI' (by omega) (by decide)), ix_nI (by omega), g217, nm_eq, ifT (inb_nI' (by omega) (by decide)), ix_nI (by omega), e0, ← hs2, nm_eq, ifT (inb_nI' (by omega) (by decide)), ← hs3, nm_eq, nI_addL, nm_eq]
    by_cases z : nI g = nI e
    · rw [ifT z] at hx5 ⊢
      rw [← hx5]; exact a1
    · rw [ifF z] at hx5 ⊢
      rw [← hx5]; exact a1
/-- equations of a block come to the row -/
theorem t_107 (h143 : tI s0 143 = nI S) (hS : S ≤ 180) (x2 x3 : Int32) (p : Nat → Bool) (h1 : ∀ f, f < S → (p f = true ↔ tA s0 196 f = x2)) (h2 : ∀ f, f < S → p f = true → tA s0 180 f = 0) (a : Nat) (ha : a + cnB p S ≤ 400) : ∀ (d j tf : Nat) (s : TS), j + d = S → d < tf → Ft [211] s0 s → (∀ f, f < j → p f = true → tA s 211 (a + cnB p f) = nI f) → (∀ i, i < a → tA s 211 i = tA s0 211 i) → ∃ s', L_endBlock_107 tf x2 x3 (nI (a + cnB p j)) (nI j) s = some ((), s') ∧ Ft [211] s0 s' ∧ (∀ f, f < S → p f = true → tA s' 211 (a + cnB p f) = nI f) ∧ ∀ i, i < a → tA s' 211 i = tA s0 211 i := by
  intro d
  induction d with
  | zero =>
    intro j tf s hj htf f h3 h4
    obtain ⟨tf, rfl⟩ : ∃ g, tf = g + 1 := ⟨tf - 1, by omega⟩
    obtain rfl : j = S := by omega
    refine ⟨s, ?_, f, h3, h4⟩
    unfold L_endBlock_107
    rw [(f 143 rfl).1, h143, ifT ((bI_le (by omega) (by omega)).mpr (Nat.le_refl _))]
  | succ d ih =>
    intro j tf s hj htf f h3 h4
    obtain ⟨tf, rfl⟩ : ∃ g, tf = g + 1 := ⟨tf - 1, by omega⟩
    have le : ¬ nI S ≤ nI j := fun z => by have := (bI_le (by omega) (by omega)).mp z; omega
    have nx : nI j + 1 = nI (j + 1) := nI_addL j 1
    have ij : inb (nI j) 400 := inb_nI' (by omega) (by decide)
    have xj : ix (nI j) = j := ix_nI (by omega)
    by_cases z : p j = true
    · have lt := cnB_lt (p := p) (show j < S by omega) z
      have st : cnB p (j + 1) = cnB p j + 1 := by rw [cnB_step, ifT z]
      obtain ⟨s1, hs1⟩ : ∃ q, q = tsA s 211 (a + cnB p j) (nI j) := ⟨_, rfl⟩
      have f1 : Ft [211] s0 s1 := by rw [hs1]; exact f.p_tsA rfl
      obtain ⟨s', b1, b2, b3⟩ := ih (j + 1) tf s1 (by omega) (by omega) f1 (fun g hg hp => by
        rw [hs1, tA_tsA]
        by_cases y : g = j
        · subst y; rw [ifT ⟨rfl, rfl⟩]
        · have := cnB_lt (p := p) (show g < j by omega) hp
          rw [ifF (by omega)]; exact h3 g (by omega) hp) (fun i hi => by
        rw [hs1, tA_tsA, ifF (by omega)]; exact h4 i hi)
      refine ⟨s', ?_, b2, b3⟩
      unfold L_endBlock_107
      rw [(f 143 rfl).1, h143, ifF le, ifT ij, xj, (f 196 rfl).2.2.1, ifT ((h1 j (by omega)).mp z), ifT ij, (f 180 rfl).2.2.1, ifT (h2 j (by omega) z), ifT (inb_nI' (by omega) (by decide)), ix_nI (by omega), ← hs1, nm_eq, nI_addL, nm_eq, nx, nm_eq, show a + cnB p j + 1 = a + cnB p (j + 1) by omega]
      exact b1
    · have st : cnB p (j + 1) = cnB p j := by rw [cnB_step, ifF z]; rfl
      obtain ⟨s', b1, b2, b3⟩ := ih (j + 1) tf s (by omega) (by omega) f (fun g hg hp => h3 g (by
        have : g ≠ j := fun y => z (by rw [← y]; exact hp)
        omega) hp) h4
      refine ⟨s', ?_, b2, b3⟩
      unfold L_endBlock_107
      rw [(f 143 rfl).1, h143, ifF le, ifT ij, xj, (f 196 rfl).2.2.1, ifF (fun y => z ((h1 j (by omega)).mpr y)), nx, nm_eq, ← st]
      exact b1
/-- unknowns of a block come to the row -/
theorem t_167 (h197 : tI s0 197 = nI U) (hU : U ≤ 180) (hS : S ≤ 180) (x2 x3 : Int32) (ct p : Nat → Bool) (h1 : ∀ u, u < U → (ct u = true ↔ ¬ tA s0 192 u = 2)) (h2 : ∀ u, u < U → ct u = true → gv u < S ∧ tA s0 191 u = nI (gv u)) (h3 : ∀ u, u < U → ct u = true → (p u = true ↔ tA s0 196 (gv u) = x2)) (h4 : ∀ u, u < U → p u = true → ct u = true) (a : Nat) (ha : a + cnB p U ≤ 400) : ∀ (d j tf : Nat) (s : TS), j + d = U → d < tf → Ft [212] s0 s → (∀ f, f < j → p f = true → tA s 212 (a + cnB p f) = nI f) → (∀ i, i < a → tA s 212 i = tA s0 212 i) → ∃ s', L_endBlock_167 tf x2 x3 (nI (a + cnB p j)) (nI j) s = some ((), s') ∧ Ft [212] s0 s' ∧ (∀ f, f < U → p f = true → tA s' 212 (a + cnB p f) = nI f) ∧ ∀ i, i < a → tA s' 212 i = tA s0 212 i := by
  intro d
  induction d with
  | zero =>
    intro j tf s hj htf f g3 g4
    obtain ⟨tf, rfl⟩ : ∃ g, tf = g + 1 := ⟨tf - 1, by omega⟩
    obtain rfl : j = U := by omega
    refine ⟨s, ?_, f, g3, g4⟩
    unfold L_endBlock_167
    rw [(f 197 rfl).1, h197, ifT ((bI_le (by omega) (by omega)).mpr (Nat.le_refl _))]
  | succ d ih =>
    intro j tf s hj htf f g3 g4
    obtain ⟨tf, rfl⟩ : ∃ g, tf = g + 1 := ⟨tf - 1, by omega⟩
    have le : ¬ nI U ≤ nI j := fun z => by have := (bI_le (by omega) (by omega)).mp z; omega
    have nx : nI j + 1 = nI (j + 1) := nI_addL j 1
    have ij : inb (nI j) 200 := inb_nI' (by omega) (by decide)
    have xj : ix (nI j) = j := ix_nI (by omega)
    have skip : ¬ p j = true → L_endBlock_167 (tf + 1) x2 x3 (nI (a + cnB p j)) (nI j) s = L_endBlock_167 tf x2 x3 (nI (a + cnB p j)) (nI (j + 1)) s → ∃ s', L_endBlock_167 (tf + 1) x2 x3 (nI (a + cnB p j)) (nI j) s = some ((), s') ∧ Ft [212] s0 s' ∧ (∀ f, f < U → p f = true → tA s' 212 (a + cnB p f) = nI f) ∧ ∀ i, i < a → tA s' 212 i = tA s0 212 i := fun z e => by
      have st : cnB p (j + 1) = cnB p j := by rw [cnB_step, ifF z]; rfl
      obtain ⟨s', b1, b2, b3⟩ := ih (j + 1) tf s (by omega) (by omega) f (fun g hg hp => g3 g (by
        have : g ≠ j := fun y => z (by rw [← y]; exact hp)
        omega) hp) g4
      refine ⟨s', ?_, b2, b3⟩
      rw [e, ← st]; exact b1
    by_cases hc : ct j = true
    · obtain ⟨v1, v2⟩ := h2 j (by omega) hc
      have nl : ¬ nI (gv j) < 0 := fun y => lt_nn.mp y (nn_nI (by omega))
      have body : L_endBlock_167 (tf + 1) x2 x3 (nI (a + cnB p j)) (nI j) s = if tA s0 196 (gv j) = x2 then (if inb (nI (a + cnB p j)) 400 then L_endBlock_167 tf x2 x3 (nI (a + cnB p j) + 1) (nI (j + 1)) (tsA s 212 (ix (nI (a + cnB p j))) (nI j)) else none) else L_endBlock_167 tf x2 x3 (nI (a + cnB p j)) (nI (j + 1)) s := by
        conv => lhs; unfold L_endBlock_167
        rw [(f 197 rfl).1, h197, ifF le, ifT ij, xj, (f 192 rfl).2.2.1, ifF ((h1 j (by omega)).mp hc), ifT ij, (f 191 rfl).2.2.1, v2, ifF nl, ifT ij, ifT (inb_nI' (by omega) (by decide)), ix_nI (n := gv j) (by omega), (f 196 rfl).2.2.1, nx]
        rfl
      by_cases z : p j = true
      · have lt := cnB_lt (p := p) (show j < U by omega) z
        have st : cnB p (j + 1) = cnB p j + 1 := by rw [cnB_step, ifT z]
        obtain ⟨s1, hs1⟩ : ∃ q, q = tsA s 212 (a + cnB p j) (nI j) := ⟨_, rfl⟩
        have f1 : Ft [212] s0 s1 := by rw [hs1]; exact f.p_tsA rfl
        obtain ⟨s', b1, b2, b3⟩ := ih (j + 1) tf s1 (by omega) (by omega) f1 (fun g hg hp => by
          rw [hs1, tA_tsA]
          by_cases y : g = j
          · subst y; rw [ifT ⟨rfl, rfl⟩]
          · have := cnB_lt (p := p) (show g < j by omega) hp
            rw [ifF (by omega)]; exact g3 g (by omega) hp) (fun i hi => by
          rw [hs1, tA_tsA, ifF (by omega)]; exact g4 i hi)
        refine ⟨s', ?_, b2, b3⟩
        rw [body, ifT ((h3 j (by omega) hc).mp z), ifT (inb_nI' (by omega) (by decide)), ix_nI (by omega), ← hs1, nI_addL, show a + cnB p j + OfNat.ofNat 1 = a + cnB p (j + 1) by rw [st]; rfl]
        exact b1
      · exact skip z (by rw [body, ifF (fun y => z ((h3 j (by omega) hc).mpr y))])
    · refine skip (fun y => hc (h4 j (by omega) y)) ?_
      conv => lhs; unfold L_endBlock_167
      have : tA s0 192 j = 2 := by
        by_cases q : tA s0 192 j = 2
        · exact q
        · exact absurd ((h1 j (by omega)).mpr q) hc
      rw [(f 197 rfl).1, h197, ifF le, ifT ij, xj, (f 192 rfl).2.2.1, ifT this, nx, nm_eq]
end TWALK
