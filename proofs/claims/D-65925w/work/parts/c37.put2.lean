/-! Layer B: printing: trees, both sides, put together -/
set_option maxRecDepth 100000
section PUT2
variable {M0 M M' M1 M2 : CM} {s0 σ σ' σ1 σ2 : TS} {a n q h d j j' kf tf : Nat} {cfK : Nat → CM → Option (Unit × CM)} {cfN : Int32 → TS → Option (Unit × TS)} {cfC : Nat → Int32 → Int32 → TS → Option (Unit × TS)} {cfH : Int32 → TS → Option (Unit × TS)} {Lf : Nat → Nat → Prop} {op c c' : Int32}
/-- a relation: one sign or two -/
theorem z_prel (o : OuQ M0 s0 q M σ) (ka : mk M0 a = 18) (hn : n < 70000) (hr : (mI M0 3400 a, tA s0 122 n) ∈ rlF) (ih : ∀ M σ, OuQ M0 s0 q M σ → PrJ M σ (cfK (mR M0 3405 a) M) (cfN (tA s0 123 n) σ)) (ih2 : ∀ M σ, OuQ M0 s0 q M σ → PrJ M σ (cfK (mR M0 3406 a) M) (cfN (tA s0 124 n) σ)) : PrJ M σ (ob (K_X0_put 40 M) fun _ M1 => if mk M1 a = 18 then ob (cfK (mR M1 3405 a) M1) fun _ M2 => if mk M2 a = 18 then ob (K_X0_sign (mI M2 3400 a) M2) fun r M3 => ob (K_X0_put_3 r M3) fun _ M4 => if mk M4 a = 18 then ob (cfK (mR M4 3406 a) M4) fun _ M5 => ob (K_X0_put 41 M5) fun _ M6 => some ((), M6) else none else none else none) (ob (F_letter 40 σ) fun _ s1 => if inb (nI n) 70000 then ob (cfN (tA s1 123 (ix (nI n))) s1) fun _ s2 => if inb (nI n) 70000 then if tA s2 122 (ix (nI n)) ≤ 255 then J_printNode_521 cfN cfC cfH (nI n) s2 else if inb (nI n) 70000 then ob (F_letter ((tA s2 122 (ix (nI n))) >>> (8 &&& 31)) s2) fun _ s3 => J_printNode_521 cfN cfC cfH (nI n) s3 else none else none else none) := by
  have i70 : inb (nI n) 70000 := inb_nI' hn (by decide)
  have xn : ix (nI n) = n := ix_nI (by omega)
  refine (z_qlet o 40).goq o (fun M1 σ1 o1 => ?_)
  rw [ifT (o1.k18 ka), o1.r, ifT i70, xn, o1.1.ta (k := 123) rfl]
  refine (ih M1 σ1 o1).goq o1 (fun M2 σ2 o2 => ?_)
  rw [ifT (o2.k18 ka), o2.i (by decide), ifT i70, o2.1.ta (k := 122) rfl]
  have tail : ∀ M3 σ3, OuQ M0 s0 q M3 σ3 → PrJ M3 σ3 (if mk M3 a = 18 then ob (cfK (mR M3 3406 a) M3) fun _ M5 => ob (K_X0_put 41 M5) fun _ M6 => some ((), M6) else none) (if inb (nI n) 70000 then ob (cfN (tA σ3 124 (ix (nI n))) σ3) fun _ s157 => ob (F_letter 41 s157) fun _ s161 => some ((), s161) else none) := fun M3 σ3 o3 => by
    rw [ifT (o3.k18 ka), o3.r, ifT i70, xn, o3.1.ta (k := 124) rfl]
    refine (ih2 M3 σ3 o3).goq o3 (fun M4 σ4 o4 => ?_)
    exact (z_qlet o4 41).goq o4 (fun M5 σ5 o5 => PrJ.rf o5.1.1)
  have one : ∀ j c, j < 34 → csB_.getD j [] = [c] → tA s0 122 n = c → c &&& 255 = c → c ≤ 255 → (∀ M, K_X0_sign (mI M0 3400 a) M = some (2199023255552 + j, M)) → PrJ M2 σ2 (ob (K_X0_sign (mI M0 3400 a) M2) fun r M3 => ob (K_X0_put_3 r M3) fun _ M4 => if mk M4 a = 18 then ob (cfK (mR M4 3406 a) M4) fun _ M5 => ob (K_X0_put 41 M5) fun _ M6 => some ((), M6) else none) (if tA s0 122 n ≤ 255 then J_printNode_521 cfN cfC cfH (nI n) σ2 else if inb (nI n) 70000 then ob (F_letter (tA s0 122 n >>> (8 &&& 31)) σ2) fun _ s3 => J_printNode_521 cfN cfC cfH (nI n) s3 else none) := fun j c hj hc e e2 e3 hs => by
    unfold J_printNode_521
    rw [hs, ob_some, e, ifT e3, ifT i70, xn, o2.1.ta (k := 122) rfl, e, e2]
    refine (z_sgn o2 hj hc).goq o2 (fun M3 σ3 o3 => ?_)
    have := tail M3 σ3 o3
    rw [xn] at this; exact this
  have two : ∀ j c c1 c2, j < 34 → csB_.getD j [] = [c1, c2] → tA s0 122 n = c → c &&& 255 = c2 → ¬ c ≤ 255 → c >>> (8 &&& 31) = c1 → (∀ M, K_X0_sign (mI M0 3400 a) M = some (2199023255552 + j, M)) → PrJ M2 σ2 (ob (K_X0_sign (mI M0 3400 a) M2) fun r M3 => ob (K_X0_put_3 r M3) fun _ M4 => if mk M4 a = 18 then ob (cfK (mR M4 3406 a) M4) fun _ M5 => ob (K_X0_put 41 M5) fun _ M6 => some ((), M6) else none) (if tA s0 122 n ≤ 255 then J_printNode_521 cfN cfC cfH (nI n) σ2 else if inb (nI n) 70000 then ob (F_letter (tA s0 122 n >>> (8 &&& 31)) σ2) fun _ s3 => J_printNode_521 cfN cfC cfH (nI n) s3 else none) := fun j c c1 c2 hj hc e e2 e3 e4 hs => by
    unfold J_printNode_521
    rw [hs, ob_some, e, ifF e3, ifT i70, e4]
    have tw : (ob (F_letter c1 σ2) fun _ s3 => if inb (nI n) 70000 then ob (F_letter (tA s3 122 (ix (nI n)) &&& 255) s3) fun _ s152 => if inb (nI n) 70000 then ob (cfN (tA s152 124 (ix (nI n))) s152) fun _ s157 => ob (F_letter 41 s157) fun _ s161 => some ((), s161) else none else none) = ob (ob (F_letter c1 σ2) fun _ s => F_letter c2 s) fun _ s152 => if inb (nI n) 70000 then ob (cfN (tA s152 124 (ix (nI n))) s152) fun _ s157 => ob (F_letter 41 s157) fun _ s161 => some ((), s161) else none := by
      rw [ob_assoc]
      refine ob_cg (fun _ s3 e5 => ?_)
      have f := fS_F_letter _ _ _ s3 e5
      rw [ifT i70, xn, (f 122 rfl).2.2.1, o2.1.ta (k := 122) rfl, e, e2]
    rw [tw]
    exact (z_sgn2 o2 hj hc).goq o2 (fun M3 σ3 o3 => tail M3 σ3 o3)
  simp only [List.mem_cons, List.not_mem_nil, or_false, Prod.mk.injEq] at hr
  rcases hr with ⟨e, e'⟩ | ⟨e, e'⟩ | ⟨e, e'⟩ | ⟨e, e'⟩ | ⟨e, e'⟩ | ⟨e, e'⟩
  · exact one 4 60 (by decide) rfl e' (by decide) (by decide) (fun M => by rw [e]; rfl)
  · exact one 5 62 (by decide) rfl e' (by decide) (by decide) (fun M => by rw [e]; rfl)
  · exact two 6 15421 60 61 (by decide) rfl e' (by decide) (by decide) (by decide) (fun M => by rw [e]; rfl)
  · exact two 7 15933 62 61 (by decide) rfl e' (by decide) (by decide) (by decide) (fun M => by rw [e]; rfl)
  · exact two 8 15677 61 61 (by decide) rfl e' (by decide) (by decide) (by decide) (fun M => by rw [e]; rfl)
  · exact two 9 15422 60 62 (by decide) rfl e' (by decide) (by decide) (by decide) (fun M => by rw [e]; rfl)
/-- trees print alike -/
theorem z_put : ∀ d, PuH M0 s0 (PlR M0 s0) d
  | 0 => fun h kf a n q M σ z hk hd => absurd hd (Nat.not_lt_zero _)
  | 1 => fun h kf a n q M σ z hk hd => by
    have : h = 0 := by omega
    subst this
    exact z.elim
  | d + 2 => fun h kf a n q M σ z hk hd hq o => by
    have Z1 := z_put (d + 1)
    have Z0 := z_put d
    cases h with
    | zero => exact z.elim
    | succ h =>
    obtain ⟨kf, rfl⟩ : ∃ f, kf = f + 1 := ⟨kf - 1, by omega⟩
    obtain ⟨⟨ka, hn⟩, z0⟩ := id z
    have i70 : inb (nI n) 70000 := inb_nI' hn (by decide)
    have xn : ix (nI n) = n := ix_nI (by omega)
    have k18 := o.k18 ka
    have kI : mI M 3400 a = mI M0 3400 a := o.i (by decide) a
    have ch1 : ∀ {a' x : Nat} {y : Int32}, y = nI x → PnR M0 s0 (PlR M0 s0) h a' x → ∀ M σ, OuQ M0 s0 q M σ → PrJ M σ (KG_X0_put_2 kf a' M) ((G_printCall (d + 1)).2.2 y σ) := fun {a' x y} e z M σ o => by rw [e]; exact Z1 h kf a' x q M σ z (by omega) (by omega) (by omega) o
    have ch0 : ∀ {a' x : Nat} {y : Int32}, y = nI x → PnR M0 s0 (PlR M0 s0) h a' x → ∀ M σ, OuQ M0 s0 q M σ → PrJ M σ (KG_X0_put_2 kf a' M) ((G_printCall d).2.2 y σ) := fun {a' x y} e z M σ o => by rw [e]; exact Z0 h kf a' x q M σ z (by omega) (by omega) (by omega) o
    have t121 : ∀ c, tA s0 121 n = c → tA σ 121 (ix (nI n)) = c := fun c e => by rw [xn, o.1.ta (k := 121) rfl]; exact e
    show PrJ M σ (KB_X0_put_2 (KG_X0_put_2 kf) a M) (B_printNode (G_printCall (d + 1)).2.2 (B_printCall (G_printCall d).2.2) (B_printChain (G_printCall d).2.2) (nI n) σ)
    rcases z0 with ⟨lf, -⟩ | ⟨hop, x, x1, x2⟩ | ⟨hop, ⟨x, x1, x2⟩, y, y1, y2⟩ | ⟨hop, ⟨x, x1, x2⟩, y, y1, y2⟩ | ⟨⟨e, e'⟩, ⟨x, x1, x2⟩, ⟨y, y1, y2⟩, w, w1, w2⟩ | ⟨⟨ek, hr⟩, ⟨x, x1, x2⟩, y, y1, y2⟩ | ⟨⟨e, e'⟩, x, y, v1, v2, v3, v4, v5, v6⟩
    · exact lf kf _ _ _ M σ (by omega) o.1
    · simp only [List.mem_cons, List.not_mem_nil, or_false, Prod.mk.injEq] at hop
      unfold KB_X0_put_2 B_printNode
      refine PrJ.b9 o.1.1 ?_
      rw [ifT k18, kI, ifT i70, nm_eq]
      rcases hop with ⟨e, e'⟩ | ⟨e, e'⟩ | ⟨e, e'⟩ | ⟨e, e'⟩ | ⟨e, e'⟩ | ⟨e, e'⟩ <;> rw [e, t121 _ e'] <;> simp +decide only [↓reduceIte, k18]
      · rw [show K_X0_sign 7 M = some (2199023255552 + 20, M) from rfl, ob_some]
        exact z_pun (j' := 5) o ka hn ⟨by decide, by decide, rfl⟩ (ch1 x1 x2)
      · rw [show K_X0_sign 8 M = some (2199023255552 + 12, M) from rfl, ob_some, ob_idu]
        unfold B_printCall
        simp +decide only [↓reduceIte]
        exact z_pun (j' := 10) o ka hn ⟨by decide, by decide, rfl⟩ (ch0 x1 x2)
      · rw [show K_X0_sign 9 M = some (2199023255552 + 13, M) from rfl, ob_some, ob_idu]
        unfold B_printCall
        simp +decide only [↓reduceIte]
        exact z_pun (j' := 11) o ka hn ⟨by decide, by decide, rfl⟩ (ch0 x1 x2)
      · rw [show K_X0_sign 12 M = some (2199023255552 + 14, M) from rfl, ob_some, ob_idu]
        unfold B_printCall
        simp +decide only [↓reduceIte]
        exact z_pun (j' := 12) o ka hn ⟨by decide, by decide, rfl⟩ (ch0 x1 x2)
      · rw [show K_X0_sign 13 M = some (2199023255552 + 15, M) from rfl, ob_some, ob_idu]
        unfold B_printCall
        simp +decide only [↓reduceIte]
        exact z_pun (j' := 13) o ka hn ⟨by decide, by decide, rfl⟩ (ch0 x1 x2)
      · exact z_pun (j := 25) (j' := 21) o ka hn ⟨by decide, by decide, rfl⟩ (ch1 x1 x2)
    · simp only [List.mem_cons, List.not_mem_nil, or_false, Prod.mk.injEq] at hop
      unfold KB_X0_put_2 B_printNode
      refine PrJ.b9 o.1.1 ?_
      rw [ifT k18, kI, ifT i70, nm_eq]
      rcases hop with ⟨e, e'⟩ | ⟨e, e'⟩ | ⟨e, e'⟩ | ⟨e, e'⟩ <;> rw [e, t121 _ e'] <;> simp +decide only [↓reduceIte, k18]
      · rw [show K_X0_sign 10 M = some (2199023255552 + 16, M) from rfl, ob_some, ob_idu]
        unfold B_printCall
        simp +decide only [↓reduceIte]
        exact z_pbi (j' := 14) o ka hn ⟨by decide, by decide, rfl⟩ (ch0 x1 x2) (ch0 y1 y2)
      · rw [show K_X0_sign 11 M = some (2199023255552 + 17, M) from rfl, ob_some, ob_idu]
        unfold B_printCall
        simp +decide only [↓reduceIte]
        exact z_pbi (j' := 15) o ka hn ⟨by decide, by decide, rfl⟩ (ch0 x1 x2) (ch0 y1 y2)
      · exact z_co (j := 10) (j' := 19) o ka hn ⟨by decide, by decide, rfl⟩ e (fun M => rfl) (ch1 x1 x2) (ch1 y1 y2)
      · exact z_co (j := 11) (j' := 20) o ka hn ⟨by decide, by decide, rfl⟩ e (fun M => rfl) (ch1 x1 x2) (ch1 y1 y2)
    · -- a chain
      obtain ⟨m, M', σ', b1, r, k, t, bm, b2⟩ := z_chain Z0 (base := q) (h + 1) (kf + 1) a n q M σ z (by omega) (by omega) (fun ng => absurd (by
        simp only [List.mem_cons, List.not_mem_nil, or_false, Prod.mk.injEq] at hop
        rcases hop with ⟨-, e'⟩ | ⟨-, e'⟩ | ⟨-, e'⟩ | ⟨-, e'⟩ <;> rw [e'] <;> decide) ng) hq (Nat.le_refl _) o
      have fu := FUb
      have ch : B_printChain (G_printCall d).2.2 (nI n) σ = some ((), σ') := by
        unfold B_printChain
        rw [nm_eq, o.2]
        have := b2 FU (FU - m) (nI q) (by omega)
        rw [show FU - m + m = FU by omega] at this
        have e : (ob (L_printChain_7 (G_printCall d).2.2 FU (nI q) (nI n) σ) fun q17 s18 => ob ((G_printCall d).2.2 q17 s18) fun _ s20 => ob (L_printChain_60 (G_printCall d).2.2 FU (nI q) s20) fun _ s86 => some ((), s86)) = ob (L_printChain_7 (G_printCall d).2.2 FU (nI q) (nI n) σ) fun x s => ob ((G_printCall d).2.2 x s) fun _ s => L_printChain_60 (G_printCall d).2.2 FU (nI q) s := ob_cg (fun _ s _ => ob_cg (fun _ s _ => ob_idu))
        rw [e, this]
        obtain ⟨g, hg⟩ : ∃ g, FU - m = g + 1 := ⟨FU - m - 1, by omega⟩
        rw [hg, L_printChain_60, t.2.1.1, o.2, ifT (Int32.le_refl _)]
      have b1' : KB_X0_put_2 (KG_X0_put_2 kf) a M = some ((), M') := b1
      rw [b1']
      unfold B_printNode
      refine PrJ.b9 o.1.1 ?_
      have gl : (ob (B_printChain (G_printCall d).2.2 (nI n) σ) fun _ s => some ((), s)) = some ((), σ') := by rw [ch]; rfl
      simp only [List.mem_cons, List.not_mem_nil, or_false, Prod.mk.injEq] at hop
      rw [ifT i70, nm_eq]
      rcases hop with ⟨-, e'⟩ | ⟨-, e'⟩ | ⟨-, e'⟩ | ⟨-, e'⟩ <;> rw [t121 _ e'] <;> simp +decide only [↓reduceIte] <;> rw [gl] <;> exact PrJ.mk r k t
    · -- if
      unfold KB_X0_put_2 B_printNode
      refine PrJ.b9 o.1.1 ?_
      rw [ifT k18, kI, ifT i70, nm_eq, e, t121 _ e']
      simp +decide only [↓reduceIte, k18]
      refine (z_qtext (j := 22) (j' := 16) o ⟨by decide, by decide, rfl⟩).goq o (fun M1 σ1 o1 => ?_)
      rw [ifT (o1.k18 ka), o1.r, ifT i70, xn, o1.1.ta (k := 122) rfl]
      refine (ch1 x1 x2 M1 σ1 o1).goq o1 (fun M2 σ2 o2 => ?_)
      refine (z_qtext (j := 23) (j' := 17) o2 ⟨by decide, by decide, rfl⟩).goq o2 (fun M3 σ3 o3 => ?_)
      rw [ifT (o3.k18 ka), o3.r, ifT i70, o3.1.ta (k := 123) rfl]
      refine (ch1 y1 y2 M3 σ3 o3).goq o3 (fun M4 σ4 o4 => ?_)
      refine (z_qtext (j := 24) (j' := 18) o4 ⟨by decide, by decide, rfl⟩).goq o4 (fun M5 σ5 o5 => ?_)
      rw [ifT (o5.k18 ka), o5.r, ifT i70, o5.1.ta (k := 124) rfl]
      refine (ch1 w1 w2 M5 σ5 o5).goq o5 (fun M6 σ6 o6 => ?_)
      exact (z_qlet o6 41).goq o6 (fun M7 σ7 o7 => PrJ.rf o7.1.1)
    · -- a relation
      have hr' := hr
      simp only [List.mem_cons, List.not_mem_nil, or_false, Prod.mk.injEq] at hr'
      have kb : KB_X0_put_2 (KG_X0_put_2 kf) a M = ob (K_X0_put 40 M) fun _ M1 => if mk M1 a = 18 then ob (KG_X0_put_2 kf (mR M1 3405 a) M1) fun _ M2 => if mk M2 a = 18 then ob (K_X0_sign (mI M2 3400 a) M2) fun r M3 => ob (K_X0_put_3 r M3) fun _ M4 => if mk M4 a = 18 then ob (KG_X0_put_2 kf (mR M4 3406 a) M4) fun _ M5 => ob (K_X0_put 41 M5) fun _ M6 => some ((), M6) else none else none else none := by
        unfold KB_X0_put_2
        rw [ifT k18, kI]
        rcases hr' with ⟨e, -⟩ | ⟨e, -⟩ | ⟨e, -⟩ | ⟨e, -⟩ | ⟨e, -⟩ | ⟨e, -⟩ <;> rw [e] <;> simp +decide only [↓reduceIte]
      rw [kb]
      unfold B_printNode
      refine PrJ.b9 o.1.1 ?_
      rw [ifT i70, nm_eq]
      rcases ek with e' | e' <;> rw [t121 _ e'] <;> simp +decide only [↓reduceIte]
      · exact z_prel o ka hn hr (ch1 x1 x2) (ch1 y1 y2)
      · exact z_prel o ka hn hr (ch1 x1 x2) (ch1 y1 y2)
    · -- sample
      unfold KB_X0_put_2 B_printNode
      refine PrJ.b9 o.1.1 ?_
      rw [ifT k18, kI, ifT i70, nm_eq, e, t121 _ e']
      simp +decide only [↓reduceIte, k18]
      refine (z_qtext (j := 26) (j' := 22) o ⟨by decide, by decide, rfl⟩).goq o (fun M1 σ1 o1 => ?_)
      rw [ifT (o1.k18 ka), o1.i (by decide), ifT i70, xn, o1.1.ta (k := 122) rfl, v1, v3]
      refine (z_pnum o1.1.1 v5).goq o1 (fun M2 σ2 o2 => ?_)
      refine (z_qlet o2 44).goq o2 (fun M3 σ3 o3 => ?_)
      rw [ifT (o3.k18 ka), o3.i (by decide), ifT i70, o3.1.ta (k := 123) rfl, v2, v4]
      refine (z_pnum o3.1.1 v6).goq o3 (fun M4 σ4 o4 => ?_)
      exact (z_qlet o4 41).goq o4 (fun M5 σ5 o5 => PrJ.rf o5.1.1)
end PUT2
