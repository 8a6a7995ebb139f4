/-! Layer B: memories, what stays -/
set_option maxRecDepth 100000
/-- an object or array is as it was -/
def So (M M' : CM) (o : Nat) : Prop := (mk M' o = mk M o ∧ ml M' o = ml M o) ∧ (∀ g, mI M' g o = mI M g o) ∧ (∀ g, mR M' g o = mR M g o) ∧ (∀ i, mA M' o i = mA M o i) ∧ (∀ i, mL M' o i = mL M o i) ∧ ∀ i, mX M' o i = mX M o i
theorem So.rf (M : CM) (o : Nat) : So M M o := ⟨⟨rfl, rfl⟩, fun _ => rfl, fun _ => rfl, fun _ => rfl, fun _ => rfl, fun _ => rfl⟩
theorem So.tr {M M1 M2 : CM} {o : Nat} (h : So M M1 o) (k : So M1 M2 o) : So M M2 o := ⟨⟨k.1.1.trans h.1.1, k.1.2.trans h.1.2⟩, fun g => (k.2.1 g).trans (h.2.1 g), fun g => (k.2.2.1 g).trans (h.2.2.1 g), fun i => (k.2.2.2.1 i).trans (h.2.2.2.1 i), fun i => (k.2.2.2.2.1 i).trans (h.2.2.2.2.1 i), fun i => (k.2.2.2.2.2 i).trans (h.2.2.2.2.2 i)⟩
theorem So.k {M M' : CM} {o : Nat} (h : So M M' o) : mk M' o = mk M o := h.1.1
theorem So.l {M M' : CM} {o : Nat} (h : So M M' o) : ml M' o = ml M o := h.1.2
theorem So.i {M M' : CM} {o : Nat} (h : So M M' o) (g : Nat) : mI M' g o = mI M g o := h.2.1 g
theorem So.r {M M' : CM} {o : Nat} (h : So M M' o) (g : Nat) : mR M' g o = mR M g o := h.2.2.1 g
theorem So.a {M M' : CM} {o : Nat} (h : So M M' o) (i : Nat) : mA M' o i = mA M o i := h.2.2.2.1 i
theorem So.lo {M M' : CM} {o : Nat} (h : So M M' o) (i : Nat) : mL M' o i = mL M o i := h.2.2.2.2.1 i
theorem So.x {M M' : CM} {o : Nat} (h : So M M' o) (i : Nat) : mX M' o i = mX M o i := h.2.2.2.2.2 i
/-- of what was there nothing has changed but what X names -/
def Fz (X : Nat → Prop) (M M' : CM) : Prop := mn M ≤ mn M' ∧ (∀ o, o < mn M → mk M' o = mk M o ∧ ml M' o = ml M o) ∧ ∀ o, o < mn M → ¬ X o → So M M' o
section FZ
variable {X Y : Nat → Prop} {M M1 M2 : CM}
theorem Fz.rf : Fz X M M := ⟨Nat.le_refl _, fun _ _ => ⟨rfl, rfl⟩, fun o _ _ => So.rf M o⟩
theorem Fz.tr2 (h : Fz X M M1) (k : Fz Y M1 M2) (hY : ∀ o, o < mn M → Y o → X o) : Fz X M M2 := ⟨Nat.le_trans h.1 k.1, fun o ho => ⟨((k.2.1 o (Nat.lt_of_lt_of_le ho h.1)).1).trans (h.2.1 o ho).1, ((k.2.1 o (Nat.lt_of_lt_of_le ho h.1)).2).trans (h.2.1 o ho).2⟩, fun o ho hx => (h.2.2 o ho hx).tr (k.2.2 o (Nat.lt_of_lt_of_le ho h.1) (fun q => hx (hY o ho q)))⟩
theorem Fz.tr (h : Fz X M M1) (k : Fz X M1 M2) : Fz X M M2 := h.tr2 k (fun _ _ q => q)
theorem Fz.mono (h : Fz X M M1) (hX : ∀ o, o < mn M → X o → Y o) : Fz Y M M1 := ⟨h.1, h.2.1, fun o ho hy => h.2.2 o ho (fun q => hy (hX o ho q))⟩
theorem Fz.so (h : Fz X M M1) {o : Nat} (ho : o < mn M) (hx : ¬ X o) : So M M1 o := h.2.2 o ho hx
theorem Fz.k (h : Fz X M M1) {o : Nat} (ho : o < mn M) : mk M1 o = mk M o := (h.2.1 o ho).1
theorem Fz.msI (h : Fz X M M1) {g o : Nat} {v : Int32} (hx : o < mn M → X o) : Fz X M (msI M1 g o v) := ⟨h.1, h.2.1, fun x hx1 hx2 => by
  have := h.2.2 x hx1 hx2
  exact ⟨this.1, fun g' => by rw [mI_msI, ifF (fun q => hx2 (by rw [q.2]; exact hx (by rw [← q.2]; exact hx1)))]; exact this.2.1 g', this.2.2⟩⟩
theorem Fz.msR (h : Fz X M M1) {g o : Nat} {v : Nat} (hx : o < mn M → X o) : Fz X M (msR M1 g o v) := ⟨h.1, h.2.1, fun x hx1 hx2 => by
  have := h.2.2 x hx1 hx2
  exact ⟨this.1, this.2.1, fun g' => by rw [mR_msR, ifF (fun q => hx2 (by rw [q.2]; exact hx (by rw [← q.2]; exact hx1)))]; exact this.2.2.1 g', this.2.2.2⟩⟩
theorem Fz.mwA (h : Fz X M M1) {a i : Nat} {v : Int32} (hx : a < mn M → X a) : Fz X M (mwA M1 a i v) := ⟨h.1, h.2.1, fun x hx1 hx2 => by
  have := h.2.2 x hx1 hx2
  exact ⟨this.1, this.2.1, this.2.2.1, fun j => by rw [mA_mwA, ifF (fun q => hx2 (by rw [q.1]; exact hx (by rw [← q.1]; exact hx1)))]; exact this.2.2.2.1 j, this.2.2.2.2⟩⟩
theorem Fz.mwX (h : Fz X M M1) {a i : Nat} {v : Nat} (hx : a < mn M → X a) : Fz X M (mwX M1 a i v) := ⟨h.1, h.2.1, fun x hx1 hx2 => by
  have := h.2.2 x hx1 hx2
  exact ⟨this.1, this.2.1, this.2.2.1, this.2.2.2.1, this.2.2.2.2.1, fun j => by rw [mX_mwX, ifF (fun q => hx2 (by rw [q.1]; exact hx (by rw [← q.1]; exact hx1)))]; exact this.2.2.2.2.2 j⟩⟩
theorem Fz.mcX (h : Fz X M M1) {sr sp d dp n : Nat} (hx : d < mn M → X d) : Fz X M (mcX M1 sr sp d dp n) := ⟨h.1, h.2.1, fun x hx1 hx2 => by
  have := h.2.2 x hx1 hx2
  exact ⟨this.1, this.2.1, this.2.2.1, this.2.2.2.1, this.2.2.2.2.1, fun j => by rw [mX_mcX, ifF (fun q => hx2 (by rw [q.1]; exact hx (by rw [← q.1]; exact hx1)))]; exact this.2.2.2.2.2 j⟩⟩
theorem Fz.mcA (h : Fz X M M1) {sr sp d dp n : Nat} (hx : d < mn M → X d) : Fz X M (mcA M1 sr sp d dp n) := ⟨h.1, h.2.1, fun x hx1 hx2 => by
  have := h.2.2 x hx1 hx2
  exact ⟨this.1, this.2.1, this.2.2.1, fun j => by rw [mA_mcA, ifF (fun q => hx2 (by rw [q.1]; exact hx (by rw [← q.1]; exact hx1)))]; exact this.2.2.2.1 j, this.2.2.2.2⟩⟩
theorem Fz.mnew (h : Fz X M M1) {c len N : Nat} : Fz X M (mnew M1 c len N) := by
  have hn := h.1
  refine ⟨by rw [mn_mnew]; omega, fun o ho => ?_, fun x hx1 hx2 => ?_⟩
  · rw [mk_mnew, ml_mnew, ifF (by omega), ifF (by omega)]; exact h.2.1 o ho
  · have := h.2.2 x hx1 hx2
    refine ⟨by rw [mk_mnew, ml_mnew, ifF (by omega), ifF (by omega)]; exact this.1, fun g => by rw [mI_mnew, ifF (by omega)]; exact this.2.1 g, fun g => by rw [mR_mnew, ifF (by omega)]; exact this.2.2.1 g, fun i => by rw [mA_mnew, ifF (by omega)]; exact this.2.2.2.1 i, fun i => by rw [mL_mnew, ifF (by omega)]; exact this.2.2.2.2.1 i, fun i => by rw [mX_mnew, ifF (by omega)]; exact this.2.2.2.2.2 i⟩
end FZ
/-- nobody -/
def none_ : Nat → Prop := fun _ => False
/-- what a row may hold -/
def gR (M : CM) (x : Nat) : Prop := (x < mn M ∧ mk M x ≠ 0 ∧ mk M x ≤ 24) ∨ (1099511627776 ≤ x ∧ x < 1099511628032)
theorem gR.good {M : CM} {x : Nat} (h : gR M x) : goodRef M x := by
  rcases h with h | h
  · exact Or.inr (Or.inl h.2)
  · exact Or.inr (Or.inr ⟨h.1, by show x < 1099511627776 + 256; omega⟩)
theorem gR.kp {M M' : CM} {x : Nat} (h : gR M x) (hn : mn M ≤ mn M') (hk : ∀ o, o < mn M → mk M' o = mk M o) : gR M' x := by
  rcases h with h | h
  · exact Or.inl ⟨by omega, by rw [hk x h.1]; exact h.2⟩
  · exact Or.inr h
/-- a row of references: an ArrayList with its elements -/
def Ls (M : CM) (l : Nat) (xs : List Nat) : Prop := mk M l = 22 ∧ mI M 4202 l = nI xs.length ∧ xs.length < 1000000 ∧ (∀ i, i < xs.length → gR M (xs.getD i 0)) ∧ ((mR M 4201 l = 4398046511104 ∧ xs = []) ∨ ((mR M 4201 l < mn M ∧ mR M 4201 l ≠ 4398046511104) ∧ mk M (mR M 4201 l) = 55 ∧ xs.length ≤ ml M (mR M 4201 l) ∧ ml M (mR M 4201 l) < 2000000 ∧ 1 ≤ ml M (mR M 4201 l) ∧ ∀ i, i < xs.length → mX M (mR M 4201 l) i = xs.getD i 0))
theorem Ls.kp {M M' : CM} {l : Nat} {xs : List Nat} (h : Ls M l xs) (hn : mn M ≤ mn M') (hk : ∀ o, o < mn M → mk M' o = mk M o) (h1 : So M M' l) (h2 : mR M 4201 l ≠ 4398046511104 → So M M' (mR M 4201 l)) : Ls M' l xs := by
  obtain ⟨a1, a2, a3, a5, a4⟩ := h
  refine ⟨by rw [h1.k]; exact a1, by rw [h1.i]; exact a2, a3, fun i hi => (a5 i hi).kp hn hk, ?_⟩
  rw [h1.r]
  rcases a4 with q | ⟨q1, q2, q3, q4, q5, q6⟩
  · exact Or.inl q
  · have h2 := h2 q1.2
    exact Or.inr ⟨⟨by omega, q1.2⟩, by rw [h2.k]; exact q2, by rw [h2.l]; exact q3, by rw [h2.l]; exact q4, by rw [h2.l]; exact q5, fun i hi => by rw [h2.x]; exact q6 i hi⟩
theorem nI_shr1 {c : Nat} (h : c < 2147483648) : nI c >>> ((1 : Int32) &&& 31) = nI (c / 2) := by
  apply Int32.toBitVec_inj.mp
  have e : (nI c >>> ((1 : Int32) &&& 31)).toBitVec = (nI c).toBitVec.sshiftRight 1 := rfl
  rw [e]
  have hb : ∀ k : Nat, k < 4294967296 → (nI k).toBitVec.toNat = k := fun k hk => by
    show (Int32.ofNat k).toBitVec.toNat = k
    rw [Int32.toBitVec_ofNat', BitVec.toNat_ofNat]; omega
  have hm : (nI c).toBitVec.msb = false := by
    rw [BitVec.msb_eq_false_iff_two_mul_lt, hb c (by omega)]; omega
  rw [BitVec.sshiftRight_eq_of_msb_false hm]
  apply BitVec.eq_of_toNat_eq
  rw [BitVec.toNat_ushiftRight, hb c (by omega), hb _ (by omega), Nat.shiftRight_eq_div_pow]
theorem nI_max {a c : Nat} (ha : a < 2147483648) (hc : c < 2147483648) : mmax (nI a) (nI c) = nI (max a c) := by
  unfold mmax
  by_cases h : a < c
  · rw [ifT ((bI_lt ha hc).mpr h)]; congr 1; omega
  · rw [ifF (by rw [bI_lt ha hc]; exact h)]; congr 1; omega
theorem nI_min {a c : Nat} (ha : a < 2147483648) (hc : c < 2147483648) : mmin (nI a) (nI c) = nI (min a c) := by
  unfold mmin
  by_cases h : c < a
  · rw [ifT ((bI_lt hc ha).mpr h)]; congr 1; omega
  · rw [ifF (by rw [bI_lt hc ha]; exact h)]; congr 1; omega
section LISTS
variable {M : CM} {l : Nat} {xs : List Nat}
theorem ls_size (h : Ls M l xs) : K_J2_size l M = some (nI xs.length, M) := by
  unfold K_J2_size
  rw [ifT h.1, h.2.1]
theorem ls_get (h : Ls M l xs) {i : Nat} (hi : i < xs.length) : K_J2_get l (nI i) M = some (xs.getD i 0, M) := by
  obtain ⟨a1, a2, a3, a5, a4⟩ := h
  rcases a4 with ⟨_, q⟩ | ⟨q1, q2, q3, q4, q5, q6⟩
  · subst q; exact absurd hi (Nat.not_lt_zero _)
  have h0 : ¬ nI i < 0 := by rw [nI_ltL (by omega) (by decide)]; exact Nat.not_lt_zero _
  have h1 : nI i < nI xs.length := by rw [bI_lt (by omega) (by omega)]; exact hi
  simp only [K_J2_get, K_J10_checkIndex, K_J5_checkIndex, K_J2_elementData, nm_eq, ob_some, obS_inl, obS_inr, a1, a2, ifF h0, ifT h1, if_true]
  rw [ifT ⟨q2, inb_nI' (by omega) (by omega)⟩, ix_nI (by omega), q6 i hi]
  rfl
/-- a new, empty one -/
theorem ls_init (h : mk M l = 22) (h0 : l ≠ 0) (hs : mI M 4202 l = 0) : K_J2_init l M = some ((), msR (msI M 4200 l 0) 4201 l 4398046511104) ∧ Ls (msR (msI M 4200 l 0) 4201 l 4398046511104) l [] := by
  constructor
  · unfold K_J2_init K_J1_init K_J0_init
    rw [ifT h0, ifT h0, ifT h0, ob_some, ifT h, nm_eq, ob_some, ifT (show mk (msI M 4200 l 0) l = 22 from h), nm_eq]
  · refine ⟨h, ?_, by decide, fun i hi => absurd hi (Nat.not_lt_zero _), Or.inl ⟨by rw [mR_msR, ifT ⟨rfl, rfl⟩], rfl⟩⟩
    rw [mI_msR, mI_msI, ifF (by omega)]; exact hs
/-- a full row gets a new array -/
theorem ls_grow (h : Ls M l xs) (hf : mR M 4201 l = 4398046511104 ∨ xs.length = ml M (mR M 4201 l)) (hl : l < mn M) (hm : xs.length < 900000) (hc : mn M ≤ 601024 ∧ ms M + (xs.length + xs.length / 2 + 10) ≤ 7293034) : ∃ M2 nc, K_J2_grow l M = some (mn M, M2) ∧ mn M2 = mn M + 1 ∧ ms M2 = ms M + nc ∧ nc ≤ xs.length + xs.length / 2 + 10 ∧ xs.length < nc ∧ mk M2 (mn M) = 55 ∧ ml M2 (mn M) = nc ∧ (∀ i, i < xs.length → mX M2 (mn M) i = xs.getD i 0) ∧ mR M2 4201 l = mn M ∧ (∀ o, o < mn M → o ≠ l → So M M2 o) ∧ (mk M2 l = 22 ∧ ml M2 l = ml M l) ∧ (∀ g, mI M2 g l = mI M g l) ∧ (∀ g, g ≠ 4201 → mR M2 g l = mR M g l) ∧ (mR M 4201 l = 4398046511104 ∧ nc = 10 ∨ mR M 4201 l ≠ 4398046511104 ∧ nc = xs.length + max 1 (xs.length / 2)) := by
  obtain ⟨a1, a2, a3, a5, a4⟩ := h
  have soNew : ∀ (c : Nat) (o : Nat), o < mn M → o ≠ l → So M (msR (mnew M 55 c c) 4201 l (mn M)) o := fun c o ho hne => ((Fz.rf (X := fun o => o = l)).mnew.msR (fun _ => rfl)).so ho hne
  rcases a4 with ⟨q, qx⟩ | ⟨q1, q2, q3, q4, q5, q6⟩
  · subst qx
    refine ⟨msR (mnew M 55 10 10) 4201 l (mn M), 10, ?_, rfl, rfl, by decide, by decide, ?_, ?_, fun i hi => absurd hi (Nat.not_lt_zero _), ?_, soNew 10, ⟨?_, ?_⟩, fun g => ?_, fun g hg => ?_, Or.inl ⟨q, rfl⟩⟩
    · unfold K_J2_grow K_J2_grow_2
      rw [ifT a1, ifT a1, ifT a1, q, ifT (Or.inl rfl), nm_eq, show alen M 4398046511104 = 0 from by unfold alen; rw [ifT rfl], ifF (by decide), ifT a1, ifT (Or.inl rfl), ifT rfl, a2]
      rw [show mmax 10 (nI ([] : List Nat).length + 1) = 10 from by decide, ifT ⟨by decide, by omega, by show ms M + 10 ≤ 7293034; have := hc.2; simp at this; omega⟩, nm_eq, nm_eq, ifT (show mk (mnew M 55 (ix 10) (ix 10)) l = 22 from by rw [mk_mnew, ifF (by omega)]; exact a1), nm_eq, ob_some]
      rfl
    · show mk (mnew M 55 10 10) (mn M) = 55; rw [mk_mnew, ifT rfl]
    · show ml (mnew M 55 10 10) (mn M) = 10; rw [ml_mnew, ifT rfl]
    · rw [mR_msR, ifT ⟨rfl, rfl⟩]
    · show mk (mnew M 55 10 10) l = 22; rw [mk_mnew, ifF (by omega)]; exact a1
    · show ml (mnew M 55 10 10) l = _; rw [ml_mnew, ifF (by omega)]
    · show mI (mnew M 55 10 10) g l = _; rw [mI_mnew, ifF (by omega)]
    · rw [mR_msR, ifF (fun z => hg z.1), mR_mnew, ifF (by omega)]
  · have hf : xs.length = ml M (mR M 4201 l) := by
      rcases hf with z | z
      · exact absurd z q1.2
      · exact z
    generalize hA : mR M 4201 l = A at *
    have hAl : A ≠ 4398046511104 := q1.2
    generalize hC : ml M A = C at *
    have hxc : xs.length = C := hf
    rw [hxc] at hc hm q6 a2 a5 a3 ⊢
    have hmax : max 1 (C / 2) ≤ C / 2 + 1 := by omega
    have hal : alen M A = nI C := by unfold alen; rw [ifF hAl, hC]
    refine ⟨msR (mcX (mnew M 55 (C + max 1 (C / 2)) (C + max 1 (C / 2))) A 0 (mn M) 0 C) 4201 l (mn M), C + max 1 (C / 2), ?_, rfl, rfl, by omega, by omega, ?_, ?_, fun i hi => ?_, ?_, fun o ho hne => ?_, ⟨?_, ?_⟩, fun g => ?_, fun g hg => ?_, Or.inr ⟨hAl, rfl⟩⟩
    · unfold K_J2_grow K_J2_grow_2
      rw [ifT a1, ifT a1, ifT a1, hA, ifT (Or.inr (by omega)), nm_eq, hal, ifT ((nI_Llt (by omega) (by decide)).mpr (by show 0 < C; omega)), a2, nI_addL]
      unfold KJ_J2_grow_2_20 K_J9_newLength
      rw [nI_sub (by omega), nI_shr1 (by omega), nI_max (by omega) (by omega), bI_add, nm_eq, show C + 1 - C = 1 by omega, ifF (by rw [show (0 : Int32) = nI 0 from rfl, bI_le (by omega) (by decide)]; omega), ifF (by rw [show (2147483639 : Int32) = nI 2147483639 from rfl, bI_lt (by decide) (by omega)]; omega), ob_some, ifT a1, hA]
      unfold K_J7_copyOf K_J7_copyOf_2
      rw [ifT (Or.inr q2), ifT rfl, ix_nI (by omega), ifT ⟨by rw [show (0 : Int32) = nI 0 from rfl, bI_lt (by omega) (by decide)]; omega, by omega, by omega⟩, nm_eq, nm_eq]
      have hka : mk (mnew M 55 (C + max 1 (C / 2)) (C + max 1 (C / 2))) A = 55 := by rw [mk_mnew, ifF (by omega)]; exact q2
      have hla : ml (mnew M 55 (C + max 1 (C / 2)) (C + max 1 (C / 2))) A = C := by rw [ml_mnew, ifF (by omega)]; exact hC
      have hal2 : alen (mnew M 55 (C + max 1 (C / 2)) (C + max 1 (C / 2))) A = nI C := by unfold alen; rw [ifF hAl, hla]
      rw [ifT (Or.inr (by rw [hka]; decide)), hal2, nI_min (by omega) (by omega), show min C (C + max 1 (C / 2)) = C by omega]
      have hok : okCopy (mnew M 55 (C + max 1 (C / 2)) (C + max 1 (C / 2))) A 0 (mn M) 0 (nI C) := by
        refine ⟨by rw [mk_mnew, ifT rfl], by decide, by decide, by rw [show (0 : Int32) = nI 0 from rfl, bI_lt (by omega) (by decide)]; omega, ?_, Or.inr ⟨hka, ?_, ?_⟩⟩
        · rw [ml_mnew, ifT rfl, ix_nI (by omega)]; show 0 + C ≤ _; omega
        · rw [hla, ix_nI (by omega)]; show 0 + C ≤ _; omega
        · unfold goodRefs
          rw [List.all_eq_true]
          intro i hi
          rw [ix_nI (by omega), List.mem_range] at hi
          have : goodRef (mnew M 55 (C + max 1 (C / 2)) (C + max 1 (C / 2))) (mX (mnew M 55 (C + max 1 (C / 2)) (C + max 1 (C / 2))) A (ix 0 + i)) := by
            rw [mX_mnew, ifF (by omega), show ix 0 + i = i from by show 0 + i = i; omega, q6 i hi]
            exact ((a5 i hi).kp (M' := mnew M 55 (C + max 1 (C / 2)) (C + max 1 (C / 2))) (by rw [mn_mnew]; omega) (fun o ho => by rw [mk_mnew, ifF (by omega)])).good
          exact decide_eq_true this
      rw [ifT hok, nm_eq, ob_some, ix_nI (by omega), ob_some, ifT (show mk (mcX (mnew M 55 (C + max 1 (C / 2)) (C + max 1 (C / 2))) A (ix 0) (mn M) (ix 0) C) l = 22 from by show mk (mnew M 55 (C + max 1 (C / 2)) (C + max 1 (C / 2))) l = 22; rw [mk_mnew, ifF (by omega)]; exact a1), nm_eq, ob_some]
      rfl
    · show mk (mnew M 55 _ _) (mn M) = 55; rw [mk_mnew, ifT rfl]
    · show ml (mnew M 55 _ _) (mn M) = _; rw [ml_mnew, ifT rfl]
    · rw [mX_msR, mX_mcX, ifT ⟨rfl, by omega, by omega⟩, mX_mnew, ifF (by omega), show 0 + (i - 0) = i by omega]; exact q6 i hi
    · rw [mR_msR, ifT ⟨rfl, rfl⟩]
    · exact (((Fz.rf (X := fun o => o = l)).mnew.mcX (fun z => absurd z (Nat.lt_irrefl _))).msR (fun _ => rfl)).so ho hne
    · show mk (mnew M 55 _ _) l = 22; rw [mk_mnew, ifF (by omega)]; exact a1
    · show ml (mnew M 55 _ _) l = _; rw [ml_mnew, ifF (by omega)]
    · rw [mI_msR, mI_mcX, mI_mnew, ifF (by omega)]
    · rw [mR_msR, ifF (fun z => hg z.1), mR_mcX, mR_mnew, ifF (by omega)]
/-- one more: in the row's own array, or in a new one -/
theorem ls_addC (h : Ls M l xs) {x : Nat} (hx : gR M x) (hl : l < mn M) (hla : mR M 4201 l ≠ l) (hm : xs.length < 900000) (hc : mn M ≤ 601024 ∧ ms M + (xs.length + xs.length / 2 + 10) ≤ 7293034) : ∃ M', K_J2_add l x M = some (1, M') ∧ Ls M' l (xs ++ [x]) ∧ (∀ o, o < mn M → o ≠ l → ¬ (o = mR M 4201 l ∧ mR M' 4201 l = o) → So M M' o) ∧ (mR M' 4201 l = mR M 4201 l ∧ mn M' = mn M ∧ ms M' = ms M ∨ mR M' 4201 l = mn M ∧ mn M' = mn M + 1 ∧ ms M' ≤ ms M + (xs.length + xs.length / 2 + 10) ∧ (mR M 4201 l = 4398046511104 ∨ xs.length = ml M (mR M 4201 l)) ∧ ms M' = ms M + ml M' (mn M) ∧ (mR M 4201 l = 4398046511104 ∧ ml M' (mn M) = 10 ∨ mR M 4201 l ≠ 4398046511104 ∧ ml M' (mn M) = xs.length + max 1 (xs.length / 2))) ∧ (∀ o, o < mn M → mk M' o = mk M o ∧ ml M' o = ml M o) ∧ (∀ g, g ≠ 4200 → g ≠ 4202 → mI M' g l = mI M g l) ∧ (∀ g, g ≠ 4201 → mR M' g l = mR M g l) ∧ mR M' 4201 l ≠ l := by
  have hL := h
  obtain ⟨a1, a2, a3, a5, a4⟩ := h
  have hlen : (xs ++ [x]).length = xs.length + 1 := by simp
  have hgl : ∀ i, i < xs.length → (xs ++ [x]).getD i 0 = xs.getD i 0 := fun i hi => by
    rw [List.getD_eq_getElem?_getD, List.getD_eq_getElem?_getD, List.getElem?_append_left hi]
  have hgx : (xs ++ [x]).getD xs.length 0 = x := by
    rw [List.getD_eq_getElem?_getD, List.getElem?_append_right (Nat.le_refl _), Nat.sub_self]; rfl
  -- the memory in which the count of changes is one more
  have hL1 : Ls (msI M 4200 l (mI M 4200 l + 1)) l xs := ⟨a1, by rw [mI_msI, ifF (by omega)]; exact a2, a3, a5, a4⟩
  have s1 : ∀ o, o < mn M → o ≠ l → So M (msI M 4200 l (mI M 4200 l + 1)) o := fun o ho hne => ((Fz.rf (X := fun o => o = l)).msI (fun _ => rfl)).so ho hne
  have i1 : ∀ g, g ≠ 4200 → mI (msI M 4200 l (mI M 4200 l + 1)) g l = mI M g l := fun g hg => by rw [mI_msI, ifF (fun z => hg z.1)]
  unfold K_J2_add
  rw [ifT a1, ifT a1, nm_eq, ifT hL1.1, ifT hL1.1, ifT hL1.1, hL1.2.1]
  have e1 : mn (msI M 4200 l (mI M 4200 l + 1)) = mn M ∧ ms (msI M 4200 l (mI M 4200 l + 1)) = ms M ∧ mR (msI M 4200 l (mI M 4200 l + 1)) 4201 l = mR M 4201 l ∧ (∀ g o, mR (msI M 4200 l (mI M 4200 l + 1)) g o = mR M g o) ∧ (∀ o, mk (msI M 4200 l (mI M 4200 l + 1)) o = mk M o ∧ ml (msI M 4200 l (mI M 4200 l + 1)) o = ml M o) := ⟨rfl, rfl, rfl, fun _ _ => rfl, fun _ => ⟨rfl, rfl⟩⟩
  generalize msI M 4200 l (mI M 4200 l + 1) = M1 at *
  obtain ⟨e1, e2, e3, e4, e5⟩ := e1
  unfold K_J2_add_2
  rw [e3]
  by_cases hf : mR M 4201 l = 4398046511104 ∨ xs.length = ml M (mR M 4201 l)
  · obtain ⟨M2, nc, b1, b2, b3, b4, b5, b6, b7, b8, b9, b10, b11, b12, b13, b14⟩ := ls_grow hL1 (by rw [e3, (e5 _).2]; exact hf) (by omega) hm (by rw [e1, e2]; exact hc)
    rw [e1] at b1 b2 b6 b7 b8 b9 b10
    have hnx : mR M 4201 l = 4398046511104 ∨ 50 ≤ mk M1 (mR M 4201 l) := by
      rcases a4 with ⟨q, _⟩ | ⟨q1, q2, _⟩
      · exact Or.inl q
      · right; rw [(e5 _).1, q2]; decide
    have hal : nI xs.length = alen M1 (mR M 4201 l) := by
      unfold alen
      rcases a4 with ⟨q, qx⟩ | ⟨q1, q2, _⟩
      · rw [ifT q, qx]; rfl
      · have hne : mR M 4201 l ≠ 4398046511104 := q1.2
        rw [ifF hne, (e5 _).2]
        rcases hf with z | z
        · exact absurd z hne
        · rw [z]
    have hx2 : gR M2 x := hx.kp (by omega) (fun o ho => by
      by_cases eo : o = l
      · subst eo; rw [b11.1, a1]
      · rw [(b10 o ho eo).k, (e5 o).1])
    rw [ifT hnx, ifT hal, ifT hL1.1, b1, ob_some, ifT ⟨b6, by rw [b7]; exact inb_nI' b5 (by omega), hx2.good⟩, nm_eq, ifT (show mk (mwX M2 (mn M) (ix (nI xs.length)) x) l = 22 from b11.1), nm_eq, ob_some, ix_nI (by omega), nI_addL]
    have F2 : ∀ o, o < mn M → o ≠ l → So M (msI (mwX M2 (mn M) xs.length x) 4202 l (nI (xs.length + 1))) o := fun o ho hne => by
      have h1 : So M M2 o := (s1 o ho hne).tr (b10 o ho hne)
      have h2 : So M2 (msI (mwX M2 (mn M) xs.length x) 4202 l (nI (xs.length + 1))) o := ((Fz.rf (X := fun o => o = l ∨ o = mn M) (M := M2)).mwX (fun _ => Or.inr rfl)).msI (fun _ => Or.inl rfl) |>.so (by omega) (fun z => by rcases z with z | z <;> omega)
      exact h1.tr h2
    have hk : ∀ o, o < mn M → mk M2 o = mk M o ∧ ml M2 o = ml M o := fun o ho => by
      by_cases eo : o = l
      · subst eo; exact ⟨by rw [b11.1, a1], by rw [b11.2, (e5 o).2]⟩
      · exact ⟨by rw [(b10 o ho eo).k, (e5 o).1], by rw [(b10 o ho eo).l, (e5 o).2]⟩
    refine ⟨_, rfl, ⟨b11.1, ?_, by omega, fun i hi => ?_, Or.inr ?_⟩, fun o ho hne _ => F2 o ho hne, Or.inr ⟨b9, b2, by show ms M2 ≤ _; omega, hf, by show ms M2 = ms M + ml M2 (mn M); rw [b7, b3, e2], by show _ ∧ ml M2 (mn M) = _ ∨ _ ∧ ml M2 (mn M) = _; rw [b7, ← e3]; exact b14⟩, hk, fun g g1 g2 => ?_, fun g g1 => ?_, ?_⟩
    · rw [mI_msI, ifT ⟨rfl, rfl⟩, hlen]
    · rw [hlen] at hi
      by_cases ei : i < xs.length
      · rw [hgl i ei]; exact (a5 i ei).kp (M' := msI (mwX M2 (mn M) xs.length x) 4202 l (nI (xs.length + 1))) (by show mn M ≤ mn M2; omega) (fun o ho => (hk o ho).1)
      · rw [show i = xs.length by omega, hgx]; exact hx2
    · have e9 : mR (msI (mwX M2 (mn M) xs.length x) 4202 l (nI (xs.length + 1))) 4201 l = mn M := b9
      rw [e9, hlen]
      refine ⟨⟨by show mn M < mn M2; omega, by have := hc.1; omega⟩, b6, by show _ ≤ ml M2 (mn M); omega, by show ml M2 (mn M) < _; omega, by show 1 ≤ ml M2 (mn M); omega, fun i hi => ?_⟩
      rw [mX_msI, mX_mwX]
      by_cases ei : i < xs.length
      · rw [ifF (by omega), hgl i ei]; exact b8 i ei
      · rw [ifT ⟨rfl, by omega⟩, show i = xs.length by omega, hgx]
    · rw [mI_msI, ifF (fun z => g2 z.1), mI_mwX, b12]; exact i1 g g1
    · show mR M2 g l = _; rw [b13 g g1, e4]
    · show mR M2 4201 l ≠ l; omega
  · rcases a4 with ⟨q, qx⟩ | ⟨q1, q2, q3, q4, q5, q6⟩
    · exact absurd (Or.inl q) hf
    have hlt : xs.length < ml M (mR M 4201 l) := by
      rcases Nat.lt_or_ge xs.length (ml M (mR M 4201 l)) with z | z
      · exact z
      · exact absurd (Or.inr (by omega)) hf
    generalize hA : mR M 4201 l = A at *
    have hAl : A ≠ 4398046511104 := q1.2
    rw [ifT (Or.inr (by rw [(e5 A).1, q2]; decide)), ifF, ifT ⟨by rw [(e5 A).1]; exact q2, by rw [(e5 A).2]; exact inb_nI' hlt (by omega), (hx.kp (M' := M1) (by omega) (fun o _ => (e5 o).1)).good⟩, nm_eq, ifT (show mk (mwX M1 A (ix (nI xs.length)) x) l = 22 from hL1.1), nm_eq, ob_some, ix_nI (by omega), nI_addL]
    rotate_left
    · unfold alen
      rw [ifF hAl, (e5 A).2]
      intro z
      rw [bI_eq (by omega) (by omega)] at z; omega
    refine ⟨_, rfl, ⟨hL1.1, ?_, by omega, fun i hi => ?_, Or.inr ?_⟩, fun o ho hne hne2 => ?_, Or.inl ⟨by show mR M1 4201 l = A; rw [e3], e1, e2⟩, fun o ho => e5 o, fun g g1 g2 => ?_, fun g g1 => e4 g l, by show mR M1 4201 l ≠ l; rw [e3]; exact hla⟩
    · rw [mI_msI, ifT ⟨rfl, rfl⟩, hlen]
    · rw [hlen] at hi
      by_cases ei : i < xs.length
      · rw [hgl i ei]; exact (a5 i ei).kp (M' := msI (mwX M1 A xs.length x) 4202 l (nI (xs.length + 1))) (by show mn M ≤ mn M1; omega) (fun o _ => (e5 o).1)
      · rw [show i = xs.length by omega, hgx]; exact hx.kp (M' := msI (mwX M1 A xs.length x) 4202 l (nI (xs.length + 1))) (by show mn M ≤ mn M1; omega) (fun o _ => (e5 o).1)
    · have e9 : mR (msI (mwX M1 A xs.length x) 4202 l (nI (xs.length + 1))) 4201 l = A := e3
      rw [e9, hlen]
      refine ⟨⟨by show A < mn M1; omega, hAl⟩, by show mk M1 A = 55; rw [(e5 A).1]; exact q2, by show _ ≤ ml M1 A; rw [(e5 A).2]; omega, by show ml M1 A < _; rw [(e5 A).2]; exact q4, by show 1 ≤ ml M1 A; rw [(e5 A).2]; exact q5, fun i hi => ?_⟩
      rw [mX_msI, mX_mwX]
      by_cases ei : i < xs.length
      · rw [ifF (by omega), hgl i ei]
        have hAs := s1 A q1.1 (by rw [← hA] at hla ⊢; exact hla)
        rw [hAs.x]; exact q6 i ei
      · rw [ifT ⟨rfl, by omega⟩, show i = xs.length by omega, hgx]
    · have hoA : o ≠ A := fun z => hne2 ⟨z, by show mR M1 4201 l = o; rw [e3, z]⟩
      have h2 : So M1 (msI (mwX M1 A xs.length x) 4202 l (nI (xs.length + 1))) o := ((Fz.rf (X := fun o => o = l ∨ o = A) (M := M1)).mwX (fun _ => Or.inr rfl)).msI (fun _ => Or.inl rfl) |>.so (by omega) (fun z => by rcases z with z | z <;> contradiction)
      exact (s1 o ho hne).tr h2
    · rw [mI_msI, ifF (fun z => g2 z.1), mI_mwX]; exact i1 g g1
/-- the same, without the lengths of arrays -/
theorem ls_add (h : Ls M l xs) {x : Nat} (hx : gR M x) (hl : l < mn M) (hla : mR M 4201 l ≠ l) (hm : xs.length < 900000) (hc : mn M ≤ 601024 ∧ ms M + (xs.length + xs.length / 2 + 10) ≤ 7293034) : ∃ M', K_J2_add l x M = some (1, M') ∧ Ls M' l (xs ++ [x]) ∧ (∀ o, o < mn M → o ≠ l → ¬ (o = mR M 4201 l ∧ mR M' 4201 l = o) → So M M' o) ∧ (mR M' 4201 l = mR M 4201 l ∧ mn M' = mn M ∧ ms M' = ms M ∨ mR M' 4201 l = mn M ∧ mn M' = mn M + 1 ∧ ms M' ≤ ms M + (xs.length + xs.length / 2 + 10) ∧ (mR M 4201 l = 4398046511104 ∨ xs.length = ml M (mR M 4201 l))) ∧ (∀ o, o < mn M → mk M' o = mk M o ∧ ml M' o = ml M o) ∧ (∀ g, g ≠ 4200 → g ≠ 4202 → mI M' g l = mI M g l) ∧ (∀ g, g ≠ 4201 → mR M' g l = mR M g l) ∧ mR M' 4201 l ≠ l := by
  obtain ⟨M', a1, a2, a3, a4, a5⟩ := ls_addC h hx hl hla hm hc
  refine ⟨M', a1, a2, a3, ?_, a5⟩
  rcases a4 with q | ⟨q1, q2, q3, q4, _⟩
  · exact Or.inl q
  · exact Or.inr ⟨q1, q2, q3, q4⟩
end LISTS
