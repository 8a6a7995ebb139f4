/-! Layer B: the flat model: members of an instance, by their names -/
set_option maxRecDepth 100000
/-- the twin's chain of members -/
def ChR (σ : TS) : List Nat → Int32 → Prop
  | [], x => x = -1
  | b :: r, x => x = nI b ∧ ChR σ r (tA σ 87 b)
section MEMBER
variable {C C' : PC} {D D' : FQ} {M M' M2 : CM} {σ σ' : TS} {mss fss xs bs qs r : List Nat} {B l k n o m u w Q I L : Nat} {P X T : Nat → Prop} {S S' : List Nat} {y : Int64}
theorem t_memL : ∀ (r : List Nat) (x : Int32) (f : Nat), r.length < f → ChR σ r x → (∀ b, b ∈ r → b < 96001 ∧ ∃ e, tA σ 84 b = nI e ∧ e < 481) → (∃ b, b ∈ r ∧ tB σ 50 (ix (tA σ 84 b)) = y ∧ L_memberOf_8 f y x σ = some (.inr (nI b), σ)) ∨ ((∀ b, b ∈ r → tB σ 50 (ix (tA σ 84 b)) ≠ y) ∧ L_memberOf_8 f y x σ = some (.inl (), σ))
  | [], x, f, hf, hc, _ => by
    obtain ⟨f, rfl⟩ : ∃ g, f = g + 1 := ⟨f - 1, by omega⟩
    right
    have hx : x = -1 := hc
    refine ⟨fun b hb => absurd hb List.not_mem_nil, ?_⟩
    rw [L_memberOf_8, hx, ifT (by decide)]
  | b :: r, x, f, hf, hc, hb => by
    obtain ⟨f, rfl⟩ : ∃ g, f = g + 1 := ⟨f - 1, by omega⟩
    obtain ⟨h1, h2⟩ := hc
    obtain ⟨hb1, e, he, he2⟩ := hb b List.mem_cons_self
    have hn : ¬ x < 0 := by rw [h1, nI_ltL (by omega) (by decide)]; exact Nat.not_lt_zero _
    have hstep : L_memberOf_8 (f + 1) y x σ = if lg_cmp (tB σ 50 (ix (tA σ 84 b))) y = 0 then some (.inr (nI b), σ) else L_memberOf_8 f y (tA σ 87 b) σ := by
      rw [L_memberOf_8, ifF hn, h1, ifT (inb_nI' hb1 (by decide)), ix_nI (by omega), ifT (by rw [he]; exact inb_nI' he2 (by decide)), ifT (inb_nI' hb1 (by decide)), nm_eq]
    rw [hstep]
    by_cases q : tB σ 50 (ix (tA σ 84 b)) = y
    · left
      exact ⟨b, List.mem_cons_self, q, by rw [ifT (lg_eq.mpr q)]⟩
    · rw [ifF (fun z => q (lg_eq.mp z))]
      rcases t_memL r _ f (by have : (b :: r).length = r.length + 1 := rfl; omega) h2 (fun c hc => hb c (List.mem_cons_of_mem _ hc)) with ⟨c, c1, c2, c3⟩ | ⟨c1, c2⟩
      · exact Or.inl ⟨c, List.mem_cons_of_mem _ c1, c2, c3⟩
      · refine Or.inr ⟨fun c hc => ?_, c2⟩
        rcases List.mem_cons.mp hc with g | g
        · rw [g]; exact q
        · exact c1 c g
theorem k_memL {io lo : Nat} (hk : mk M io = 14) (hlo : mR M 2605 io = lo) (hL : Ls M lo xs) (hx : ∀ x, x ∈ xs → mk M x = 16) : ∀ (d j f : Nat), j + d = xs.length → d < f → (∃ i, i < xs.length ∧ mI M 3000 (xs.getD i 0) = nI w ∧ KL_X14_member_2 f io (nI w) (nI j) M = some (.inr (xs.getD i 0), M)) ∨ ((∀ i, j ≤ i → i < xs.length → mI M 3000 (xs.getD i 0) ≠ nI w) ∧ KL_X14_member_2 f io (nI w) (nI j) M = some (.inl (), M)) := by
  have h6 := hL.2.2.1
  intro d
  induction d with
  | zero =>
    intro j f hj hf
    obtain ⟨f, rfl⟩ : ∃ g, f = g + 1 := ⟨f - 1, by omega⟩
    right
    refine ⟨fun i h1 h2 => by omega, ?_⟩
    rw [KL_X14_member_2, ifT hk, hlo, ifT hL.1, ls_size hL, ob_some, ifT ((bI_le (by omega) (by omega)).mpr (by omega))]
  | succ d ih =>
    intro j f hj hf
    obtain ⟨f, rfl⟩ : ∃ g, f = g + 1 := ⟨f - 1, by omega⟩
    have hjl : j < xs.length := by omega
    have hm : mk M (xs.getD j 0) = 16 := hx _ (by
      rw [List.getD_eq_getElem?_getD, List.getElem?_eq_getElem hjl]; exact List.getElem_mem hjl)
    have hstep : KL_X14_member_2 (f + 1) io (nI w) (nI j) M = if mI M 3000 (xs.getD j 0) = nI w then some (.inr (xs.getD j 0), M) else KL_X14_member_2 f io (nI w) (nI (j + 1)) M := by
      rw [KL_X14_member_2, ifT hk, hlo, ifT hL.1, ls_size hL, ob_some, ifF (fun z => by have := (bI_le (by omega) (by omega)).mp z; omega), ifT hk, hlo, ifT hL.1, ls_get hL hjl, ob_some, ifT (Or.inr hm), ifT hm, ifT hk, hlo, ifT hL.1, ls_get hL hjl, ob_some, ifT (Or.inr hm), nm_eq, nI_addL]
    rw [hstep]
    by_cases q : mI M 3000 (xs.getD j 0) = nI w
    · left
      exact ⟨j, hjl, q, by rw [ifT q]⟩
    · rw [ifF q]
      rcases ih (j + 1) f (by omega) (by omega) with ⟨i, c1, c2, c3⟩ | ⟨c1, c2⟩
      · exact Or.inl ⟨i, c1, c2, c3⟩
      · refine Or.inr ⟨fun i h1 h2 => ?_, c2⟩
        by_cases e : i = j
        · rw [e]; exact q
        · exact c1 i (by omega) h2
theorem getD_map {bs : List Nat} {f : Nat → Nat} {i : Nat} (h : i < bs.length) : (bs.map f).getD i 0 = f (bs.getD i 0) := by
  rw [List.getD_eq_getElem?_getD, List.getElem?_map, List.getD_eq_getElem?_getD, List.getElem?_eq_getElem h]; rfl
theorem getD_mem {bs : List Nat} {i : Nat} (h : i < bs.length) : bs.getD i 0 ∈ bs := by
  rw [List.getD_eq_getElem?_getD, List.getElem?_eq_getElem h]; exact List.getElem_mem h
theorem mem_getD {bs : List Nat} {b : Nat} (h : b ∈ bs) : ∃ i, i < bs.length ∧ bs.getD i 0 = b := by
  obtain ⟨i, h1, h2⟩ := List.getElem_of_mem h
  exact ⟨i, h1, by rw [List.getD_eq_getElem?_getD, List.getElem?_eq_getElem h1]; exact h2⟩
/-- the member of a name, both sides; mo: the objects of members -/
theorem z_member {io lo : Nat} {mo : Nat → Nat} (hk : mk M io = 14) (hlo : mR M 2605 io = lo) (hL : Ls M lo (bs.map mo)) (hn : n < 200) (hc : ChR σ bs.reverse (tA σ 88 n)) (hb : ∀ b, b ∈ bs → mk M (mo b) = 16 ∧ b < 96001 ∧ ∃ e wb, tA σ 84 b = nI e ∧ e < 481 ∧ mI M 3000 (mo b) = nI wb ∧ wb < 38 + cm C ∧ tB σ 50 e = wc M wb) (hd : ∀ b c, b ∈ bs → c ∈ bs → mI M 3000 (mo b) = mI M 3000 (mo c) → b = c) (W : WN M (cm C) L) (h1280 : cm C ≤ 1280) (hw : w < 38 + cm C) : (∃ b, b ∈ bs ∧ mI M 3000 (mo b) = nI w ∧ K_X14_member io (nI w) M = some (mo b, M) ∧ F_memberOf (nI n) (wc M w) σ = some (nI b, σ)) ∨ ((∀ b, b ∈ bs → mI M 3000 (mo b) ≠ nI w) ∧ K_X14_member io (nI w) M = some (0, M) ∧ F_memberOf (nI n) (wc M w) σ = some (-1, σ)) := by
  have fu := FUb
  have h6 := hL.2.2.1
  have hlen : (bs.map mo).length = bs.length := List.length_map _
  have hname : ∀ b, b ∈ bs → (tB σ 50 (ix (tA σ 84 b)) = wc M w ↔ mI M 3000 (mo b) = nI w) := fun b hb' => by
    obtain ⟨_, _, e, wb, e1, e2, e3, e4, e5⟩ := hb b hb'
    rw [e1, ix_nI (by omega), e3, e5]
    constructor
    · intro z; rw [(wc_inj W e4 hw).mp z]
    · intro z; rw [(bI_eq (by omega) (by omega)).mp z]
  have hT : F_memberOf (nI n) (wc M w) σ = obS (L_memberOf_8 FU (wc M w) (tA σ 88 n) σ) (fun r13 s10 => some (r13, s10)) fun _ s10 => some ((-1), s10) := by
    unfold F_memberOf
    rw [ifT (inb_nI' hn (by decide)), nm_eq, ix_nI (by omega)]
  have hK : K_X14_member io (nI w) M = obS (KL_X14_member_2 FU io (nI w) (nI 0) M) (fun r29 M26 => some (r29, M26)) fun _ M26 => some (0, M26) := rfl
  rw [hT, hK]
  rcases k_memL (w := w) hk hlo hL (fun x hx => by
    obtain ⟨b, h1, h2⟩ := List.mem_map.mp hx
    rw [← h2]; exact (hb b h1).1) (bs.map mo).length 0 FU (by omega) (by omega) with ⟨i, c1, c2, c3⟩ | ⟨c1, c2⟩ <;>
  rcases t_memL (y := wc M w) bs.reverse _ FU (by rw [List.length_reverse]; omega) hc (fun b hb' => by
    obtain ⟨_, e0, e, wb, e1, e2, _⟩ := hb b (List.mem_reverse.mp hb')
    exact ⟨e0, e, e1, e2⟩) with ⟨b, d1, d2, d3⟩ | ⟨d1, d2⟩
  · rw [hlen] at c1
    rw [getD_map c1] at c2 c3
    have hbm := List.mem_reverse.mp d1
    have e := hd _ _ (getD_mem c1) hbm (by rw [c2, (hname b hbm).mp d2])
    rw [e] at c2 c3
    left
    exact ⟨b, hbm, c2, by rw [c3, obS_inr], by rw [d3, obS_inr]⟩
  · rw [hlen] at c1
    rw [getD_map c1] at c2
    exact absurd ((hname _ (getD_mem c1)).mpr c2) (d1 _ (List.mem_reverse.mpr (getD_mem c1)))
  · have hbm := List.mem_reverse.mp d1
    obtain ⟨i, i1, i2⟩ := mem_getD hbm
    exact absurd (by rw [getD_map i1, i2]; exact (hname b hbm).mp d2) (c1 i (Nat.zero_le _) (by rw [hlen]; exact i1))
  · right
    refine ⟨fun b hb' => ?_, by rw [c2, obS_inl], by rw [d2, obS_inl]⟩
    exact fun z => d1 b (List.mem_reverse.mpr hb') ((hname b hb').mpr z)
end MEMBER
