/-! Layer B: printing: names, both sides -/
set_option maxRecDepth 100000
/-- printing is under way: it began at M0, s0 -/
def OuE (M0 : CM) (s0 : TS) (M : CM) (σ : TS) : Prop := OuR M σ ∧ OuK M0 M ∧ Ft [6, 9, 170, 171] s0 σ
section NAME
variable {C : PC} {P : Nat → Prop} {mss fss : List Nat} {D : FQ} {M0 M M' M1 M2 : CM} {s0 σ σ' σ1 σ2 : TS} {B w d n k f g V I Bm v kf tf : Nat} {z7 : Nat → Nat} {kc : CM → Option (Unit × CM)} {tc : TS → Option (Unit × TS)} {kr : Option (Unit × CM)} {tq : Option (Unit × TS)}
theorem ob_cg {α β τ : Type} {X : Option (α × τ)} {p q : α → τ → Option β} (h : ∀ a s, X = some (a, s) → p a s = q a s) : ob X p = ob X q := by
  cases e : X with
  | none => rfl
  | some y => obtain ⟨a, s⟩ := y; exact h a s e
theorem OuE.go (o : OuE M0 s0 M σ) (r : OuR M1 σ1) (k : OuK M M1) (t : OuT σ σ1) : OuE M0 s0 M1 σ1 := ⟨r, o.2.1.tr k, o.2.2.tr t.1⟩
theorem OuE.rf (r : OuR M σ) : OuE M σ M σ := ⟨r, OuK.rf, Ft.rf _ _⟩
theorem PrJ.go (o : OuE M0 s0 M σ) (h : PrJ M σ kr tq) (g : ∀ M1 σ1, OuE M0 s0 M1 σ1 → PrJ M1 σ1 (kc M1) (tc σ1)) : PrJ M σ (ob kr fun _ M1 => kc M1) (ob tq fun _ s1 => tc s1) := h.seq (fun M1 σ1 r k t => g M1 σ1 (o.go r k t))
theorem OuE.ta (t : OuE M0 s0 M σ) {k : Nat} (h : ([6, 9, 170, 171] : List Nat).contains k = false) (j : Nat) : tA σ k j = tA s0 k j := (t.2.2 k h).2.2.1 j
theorem z_plet (o : OuE M0 s0 M σ) (c : Int32) (hc : LtO c := by decide) : PrJ M σ (K_X0_put c M) (F_letter c σ) := z_letter o.1 c hc
/-- one step of a name -/
theorem z_pstep (W : FW C B P mss fss D M0 s0) (o : OuE M0 s0 M σ) (hw : 38 ≤ w ∧ w < 38 + cm C) (hd : d ≤ 9) : PrJ M σ (K_X0_putStep (nI w) (nI d) M) (ob (F_printName (wc M0 w) σ) fun _ s => F_printIndex (nI d) s) := by
  obtain ⟨L, WN0⟩ := W.1.1.2.1
  have H0 : KeysOK M0 := W.1.1.1
  obtain ⟨k, rfl⟩ : ∃ k, w = 38 + k := ⟨w - 38, by omega⟩
  have ew : wc M0 (38 + k) = mL M0 (mR M0 201 4) k := by unfold wc; rw [ifF (by omega), Nat.add_sub_cancel_left]
  obtain ⟨x, n, dd⟩ := nm_wd (WN0.2.2.2.2.2.2.2.2.1 k (by omega))
  have ev : mL M (mR M 201 4) k = mL M0 (mR M0 201 4) k := by rw [o.2.1.2.1, o.2.1.2.2.2.2.1]
  have H := o.2.1.keys H0
  have WN1 := o.2.1.wn WN0
  have fu := FUb
  have n8 := dd.2.2.1.2
  have e1 := k_wordL (x2 := nI d) H WN1 (show k < cm C by omega) (by rw [ev]; exact dd) n 0 FU M (by omega) (by omega) OuK.rf
  unfold K_X0_putStep
  rw [ew, t_wordN dd, show (0 : Int32) = nI 0 from rfl, e1, Nat.sub_zero]
  refine (z_list _ M σ (wls_lt n (fun i hi => (dd.2.2.2.2.1 i hi).2)) o.1).go o (fun M1 σ1 o1 => ?_)
  unfold F_printIndex
  by_cases q : d = 0
  · subst q
    rw [ifT (show nI 0 ≤ nI 0 by decide), ifT (show nI 0 = 0 by decide)]
    exact PrJ.rf o1.1
  · rw [ifF (show ¬ nI d ≤ nI 0 from fun z => by have := (bI_le (by omega) (by decide)).mp z; omega), ifF (show ¬ nI d = 0 from fun z => by have := (bI_eq (b := 0) (by omega) (by decide)).mp z; omega)]
    refine (z_plet o1 91).go o1 (fun M2 σ2 o2 => ?_)
    refine (z_pnum o2.1 (by omega)).go o2 (fun M3 σ3 o3 => ?_)
    exact (z_plet o3 93).go o3 (fun M4 σ4 o4 => PrJ.rf o4.1)
/-- what an instance has for its name -/
theorem inst_nm (W : FW C B P mss fss D M0 s0) (X : FlY z7 C P D mss M0 s0 V I Bm) (hn : n < I) (h1 : 1 ≤ n) : ∃ p e w x, (p < n ∧ mR M0 2601 ((pl D 99).getD n 0) = (pl D 99).getD p 0 ∧ tA s0 75 n = nI p) ∧ (tA s0 76 n = nI e ∧ e < 480) ∧ (mI M0 2603 ((pl D 99).getD n 0) = nI w ∧ (38 ≤ w ∧ w < 38 + cm C) ∧ tB s0 50 e = wc M0 w) ∧ x ≤ 9 ∧ mI M0 2604 ((pl D 99).getD n 0) = nI x ∧ tA s0 77 n = nI x := by
  have E480 : ix (tI s0 58) ≤ 480 := by
    obtain ⟨E0, e1, e2⟩ := W.1.2.2.2.2.2.2.1
    have h24 := W.1.2.2.2.2.1.1.1
    rw [e1, ix_nI (by omega)]; omega
  obtain ⟨-, a2, -⟩ := X.1.2.1 n hn
  rcases a2 with ⟨q, -⟩ | ⟨-, p, b, e, a1, ⟨b1, b2, b3, b4, b5⟩, x, ⟨x1, x2⟩, x3, x4, -⟩
  · omega
  · obtain ⟨n', e', eo, w, -, ⟨c1, c2, -⟩, -, ⟨c3, c4, c5, c6⟩, -⟩ := X.1.2.2.1 b b1
    have l1 : e < ix (tI s0 58) := x2.1.1
    have : e' = e := nIq (c1.symm.trans b3) (by omega) (by omega)
    subst this
    exact ⟨p, e', w, x, a1, ⟨b4, by omega⟩, ⟨b5.trans c3, ⟨c4, c5⟩, c6⟩, x1, x3, x4⟩
/-- the way to an instance; what comes behind -/
theorem z_path (W : FW C B P mss fss D M0 s0) (X : FlY z7 C P D mss M0 s0 V I Bm) : ∀ (n kf tf : Nat) (M : CM) (σ : TS) (kc : CM → Option (Unit × CM)) (tc : TS → Option (Unit × TS)), n < I → n < kf → n < tf → OuE M0 s0 M σ → (∀ M1 σ1, OuE M0 s0 M1 σ1 → PrJ M1 σ1 (kc M1) (tc σ1)) → PrJ M σ (ob (KG_X0_putPath kf ((pl D 99).getD n 0) M) fun _ M1 => kc M1) (ob (G_printInstance tf (nI n) σ) fun _ s => if nI n ≤ 0 then tc s else ob (F_letter 46 s) fun _ s1 => tc s1)
  | n, 0, _, _, _, _, _, _, h, _, _, _ => absurd h (Nat.not_lt_zero _)
  | n, _ + 1, 0, _, _, _, _, _, _, h, _, _ => absurd h (Nat.not_lt_zero _)
  | 0, kf + 1, tf + 1, M, σ, kc, tc, hn, _, _, o, g => by
    have k14 : mk M ((pl D 99).getD 0 0) = 14 := by rw [(o.2.1.2.2.2.2.2.1 _).1]; exact (W.2.1.2.1 99 (by decide) 0 (by have := X.1.1.2.1; omega)).1
    have r0 : mR M 2601 ((pl D 99).getD 0 0) = 0 := by
      rw [o.2.1.2.1]
      obtain ⟨-, a2, -⟩ := X.1.2.1 0 hn
      rcases a2 with ⟨-, q, -⟩ | ⟨q, -⟩
      · exact q
      · omega
    show PrJ M σ (ob (KB_X0_putPath (KG_X0_putPath kf) _ M) fun _ M1 => kc M1) (ob (B_printInstance (G_printInstance tf) (nI 0) σ) fun _ s => if nI 0 ≤ 0 then tc s else ob (F_letter 46 s) fun _ s1 => tc s1)
    unfold KB_X0_putPath B_printInstance
    rw [ifT k14, ifT r0, ifT (show nI 0 = 0 by decide), ob_some, ob_some, ifT (show nI 0 ≤ 0 by decide)]
    exact g M σ o
  | n + 1, kf + 1, tf + 1, M, σ, kc, tc, hn, hk, ht, o, g => by
    obtain ⟨p, e, w, x, ⟨p1, p2, p3⟩, ⟨e1, e2⟩, ⟨w1, w2, w3⟩, x1, x2, x3⟩ := inst_nm W X hn (by omega)
    have l99 := X.1.1.2.1
    have I200 := X.2.1.2.1
    have w99 := W.2.1.2.1 99 (by decide)
    have k14 : ∀ M1, OuK M0 M1 → mk M1 ((pl D 99).getD (n + 1) 0) = 14 := fun M1 k => by rw [(k.2.2.2.2.2.1 _).1]; exact (w99 (n + 1) (by omega)).1
    have rp : mR M 2601 ((pl D 99).getD (n + 1) 0) = (pl D 99).getD p 0 := (o.2.1.2.1 _ _).trans p2
    have np : ¬ (pl D 99).getD p 0 = 0 := by have := (w99 p (by omega)).2.1.1; omega
    have i200 : inb (nI (n + 1)) 200 := inb_nI' (by omega) (by decide)
    have xi_ : ix (nI (n + 1)) = n + 1 := ix_nI (by omega)
    have i481 : inb (nI e) 481 := inb_nI' (by omega) (by decide)
    have xe : ix (nI e) = e := ix_nI (by omega)
    show PrJ M σ (ob (KB_X0_putPath (KG_X0_putPath kf) _ M) fun _ M1 => kc M1) (ob (B_printInstance (G_printInstance tf) (nI (n + 1)) σ) fun _ s => if nI (n + 1) ≤ 0 then tc s else ob (F_letter 46 s) fun _ s1 => tc s1)
    have ng : ¬ nI (n + 1) ≤ 0 := fun z => by have := (bI_le (b := 0) (by omega) (by decide)).mp z; omega
    have n0 : ¬ nI (n + 1) = 0 := fun z => by have := (bI_eq (b := 0) (by omega) (by decide)).mp z; omega
    unfold KB_X0_putPath B_printInstance
    rw [ifT (k14 M o.2.1), rp, ifF np, ifT (k14 M o.2.1), ifF n0, ifT i200, xi_, o.ta rfl, p3, ob_assoc, ob_assoc]
    -- the twin: the same for the parent, then this one
    have tw : (ob (G_printInstance tf (nI p) σ) fun _ s2 => ob (if inb (nI (n + 1)) 200 then (if tA s2 75 (n + 1) ≤ 0 then J_printInstance_30 (G_printInstance tf) (nI (n + 1)) s2 else ob (F_letter 46 s2) fun _ s18 => J_printInstance_30 (G_printInstance tf) (nI (n + 1)) s18) else none) fun _ s => if nI (n + 1) ≤ 0 then tc s else ob (F_letter 46 s) fun _ s1 => tc s1) = ob (G_printInstance tf (nI p) σ) fun _ s2 => if nI p ≤ 0 then (ob (J_printInstance_30 (G_printInstance tf) (nI (n + 1)) s2) fun _ s => ob (F_letter 46 s) fun _ s1 => tc s1) else ob (F_letter 46 s2) fun _ s2 => ob (J_printInstance_30 (G_printInstance tf) (nI (n + 1)) s2) fun _ s => ob (F_letter 46 s) fun _ s1 => tc s1 := by
      refine ob_cg (fun a s2 e => ?_)
      have f := fS_G_printInstance tf (nI p) σ a s2 e
      rw [ifT i200, (f 75 rfl).2.2.1, o.ta rfl, p3]
      simp only [ifF ng]
      by_cases q : nI p ≤ 0
      · rw [ifT q, ifT q]
      · rw [ifF q, ifF q, ob_assoc]
    rw [tw]
    refine z_path W X p kf tf M σ (fun M3 => ob (if mk M3 ((pl D 99).getD (n + 1) 0) = 14 then if mk M3 ((pl D 99).getD (n + 1) 0) = 14 then ob (K_X0_putStep (mI M3 2603 ((pl D 99).getD (n + 1) 0)) (mI M3 2604 ((pl D 99).getD (n + 1) 0)) M3) fun _ M9 => ob (K_X0_put 46 M9) fun _ M13 => some ((), M13) else none else none) fun _ M1 => kc M1) (fun s2 => ob (J_printInstance_30 (G_printInstance tf) (nI (n + 1)) s2) fun _ s => ob (F_letter 46 s) fun _ s1 => tc s1) (by omega) (by omega) (by omega) o (fun M1 σ1 o1 => ?_)
    rw [ifT (k14 M1 o1.2.1), ifT (k14 M1 o1.2.1), o1.2.1.1 _ _ (by omega), o1.2.1.1 _ _ (by omega), w1, x2]
    have tw2 : J_printInstance_30 (G_printInstance tf) (nI (n + 1)) σ1 = ob (F_printName (wc M0 w) σ1) fun _ s => F_printIndex (nI x) s := by
      unfold J_printInstance_30
      rw [ifT i200, xi_, o1.ta rfl, e1, ifT i481, xe, (o1.2.2 50 rfl).2.2.2, w3]
      refine ob_cg (fun a s e => ?_)
      have f := fS_F_printName _ _ a s e
      rw [ifT i200, (f 77 rfl).2.2.1, o1.ta rfl, x3, ob_idu]
    rw [tw2, ob_assoc]
    refine (z_pstep W o1 w2 x1).go o1 (fun M2 σ2 o2 => ?_)
    rw [ob_assoc]
    refine (z_plet o2 46).go o2 (fun M3 σ3 o3 => ?_)
    rw [ob_some]
    exact g M3 σ3 o3
/-- a variable's name -/
theorem z_pname (W : FW C B P mss fss D M0 s0) (X : FlY z7 C P D mss M0 s0 V I Bm) (hv : v < V) (o : OuE M0 s0 M σ) : PrJ M σ (K_X0_putName (nI v) M) (F_printVariable (nI v) σ) := by
  have E480 : ix (tI s0 58) ≤ 480 := by
    obtain ⟨E0, e1, e2⟩ := W.1.2.2.2.2.2.2.1
    have h24 := W.1.2.2.2.2.1.1.1
    rw [e1, ix_nI (by omega)]; omega
  obtain ⟨⟨n, e, w, ⟨a1, a2, a3⟩, ⟨a4, a5⟩, a6, a7, a8, a9⟩, ⟨x, c1, c2, c3⟩, -⟩ := X.1.2.2.2 v hv
  obtain ⟨k17, -, l98, v96⟩ := X.vr W hv
  have I200 := X.2.1.2.1
  have iv : inb (nI v) 96 := inb_nI' v96 (by decide)
  have xv : ix (nI v) = v := ix_nI (by omega)
  have i481 : inb (nI e) 481 := inb_nI' (by omega) (by decide)
  have xe : ix (nI e) = e := ix_nI (by omega)
  have gt : ∀ M1, OuK M0 M1 → K_J2_get 98 (nI v) M1 = some ((pl D 98).getD v 0, M1) ∧ mk M1 ((pl D 98).getD v 0) = 17 := fun M1 k => by
    refine ⟨?_, by rw [(k.2.2.2.2.2.1 _).1]; exact k17⟩
    have ls : Ls M1 98 (pl D 98) := ((W.2.1.1 98 (by decide)).1).fz k.2.2.2.2.2.2.2 (by have := W.n167; omega) (fun o z => by
      rcases z with z | z
      · rw [z, W.k1]; exact ⟨by decide, by decide⟩
      · have : mk M0 3 = 51 := (W.2.2.2.1.1 (3, 51, 500) (by decide)).1
        rw [z, this]; exact ⟨by decide, by decide⟩)
    exact ls_get ls l98
  have fu := FUb
  unfold K_X0_putName F_printVariable F_printInstance K_X0_putPath
  rw [(gt M o.2.1).1, ob_some, ifT (Or.inr (gt M o.2.1).2), ifT (gt M o.2.1).2, o.2.1.2.1, a2, ifT iv, xv, o.ta rfl, a3]
  have tw : (ob (G_printInstance 300 (nI n) σ) fun _ s2 => if inb (nI v) 96 then (if tA s2 96 v ≤ 0 then J_printVariable_25 (nI v) s2 else ob (F_letter 46 s2) fun _ s18 => J_printVariable_25 (nI v) s18) else none) = ob (G_printInstance 300 (nI n) σ) fun _ s2 => if nI n ≤ 0 then J_printVariable_25 (nI v) s2 else ob (F_letter 46 s2) fun _ s18 => J_printVariable_25 (nI v) s18 := by
    refine ob_cg (fun a s2 e => ?_)
    have f := fS_G_printInstance 300 (nI n) σ a s2 e
    rw [ifT iv, (f 96 rfl).2.2.1, o.ta rfl, a3]
  rw [tw]
  refine z_path W X n 300 300 M σ _ (fun s => J_printVariable_25 (nI v) s) a1 (by omega) (by omega) o (fun M1 σ1 o1 => ?_)
  have g1 := gt M1 o1.2.1
  rw [g1.1, ob_some, ifT (Or.inr g1.2), ifT g1.2, g1.1, ob_some, ifT (Or.inr g1.2), ifT g1.2, o1.2.1.1 _ _ (by omega), o1.2.1.1 _ _ (by omega), a6, c2, ob_idk]
  have tw2 : J_printVariable_25 (nI v) σ1 = ob (F_printName (wc M0 w) σ1) fun _ s => F_printIndex (nI x) s := by
    unfold J_printVariable_25
    rw [ifT iv, xv, o1.ta rfl, a4, ifT i481, xe, (o1.2.2 50 rfl).2.2.2, a9]
    refine ob_cg (fun a s e => ?_)
    have f := fS_F_printName _ _ a s e
    rw [ifT iv, (f 98 rfl).2.2.1, o1.ta rfl, c3, ob_idu]
  rw [tw2]
  exact z_pstep W o1 ⟨a7, a8⟩ c1
end NAME
