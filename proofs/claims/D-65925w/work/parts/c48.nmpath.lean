/-! Layer B: the whole name of a variable -/
set_option maxRecDepth 100000
section NMPATH
variable {C : PC} {P : Nat → Prop} {mss fss : List Nat} {D : FQ} {M : CM} {σ0 σ σ' s : TS} {B w d n k f g V I Bm v e b x m : Nat} {z7 : Nat → Nat} {T : Nat → Int32} {c r r' : Int32} {A L L' S : List Int32} {dp : Nat → Nat}
theorem tpL_fr : ∀ (L : List Int32) (σ : TS) (a : Unit) (s : TS), tpL L σ = some (a, s) → Ft nmS σ s
  | [], σ, a, s, h => by
    have : σ = s := congrArg Prod.snd (Option.some.inj h)
    rw [← this]; exact Ft.rf _ _
  | c :: L, σ, a, s, h => by
    have h : (ob (F_letter c σ) fun _ s1 => tpL L s1) = some (a, s) := h
    cases e : F_letter c σ with
    | none => rw [e] at h; exact absurd h (by intro z; cases z)
    | some p =>
      obtain ⟨b, s1⟩ := p
      rw [e, ob_some] at h
      exact ((fS_F_letter _ _ _ _ e).mono (by decide)).tr (tpL_fr L s1 a s h)
/-- the way to an instance -/
theorem path_nm (W : FW C B P mss fss D M σ0) (X : FlY z7 C P D mss M σ0 V I Bm) (hdp : DpI dp σ0 I) : ∀ (N n : Nat), n < N → n < I → ∃ L, L.length ≤ 12 * dp n ∧ (∀ c, c ∈ L → LtC c) ∧ (∀ f x, n < f → KL_X0_nameLength_48 f (nI x) ((pl D 99).getD n 0) M = some (nI (x + L.length), M)) ∧ (∀ f e, n < f → e ≤ 2000 → ∃ r, KL_X0_isName_52 f (nI e) ((pl D 99).getD n 0) M = some (r, M) ∧ SfR (mA M 2) e L r) ∧ (∀ f r, n < f → r < 0 → KL_X0_isName_52 f r ((pl D 99).getD n 0) M = some (r, M)) ∧ ∀ (f : Nat) (σ : TS) (tc : TS → Option (Unit × TS)), n < f → Ft nmS σ0 σ → (ob (G_printInstance f (nI n) σ) fun _ s => if nI n ≤ 0 then tc s else ob (F_letter 46 s) fun _ s1 => tc s1) = ob (tpL L σ) fun _ s => tc s
  | 0, n, h, _ => absurd h (Nat.not_lt_zero _)
  | N + 1, 0, _, hn => by
    have k14 : mk M ((pl D 99).getD 0 0) = 14 := (W.2.1.2.1 99 (by decide) 0 (by have := X.1.1.2.1; omega)).1
    have r0 : mR M 2601 ((pl D 99).getD 0 0) = 0 := by
      obtain ⟨-, a2, -⟩ := X.1.2.1 0 hn
      rcases a2 with ⟨-, q, -⟩ | ⟨q, -⟩
      · exact q
      · omega
    refine ⟨[], Nat.zero_le _, fun c hc => absurd hc List.not_mem_nil, fun f x hf => ?_, fun f e hf he => ?_, fun f r hf hr => ?_, fun f σ tc hf _ => ?_⟩
    · obtain ⟨f, rfl⟩ : ∃ g, f = g + 1 := ⟨f - 1, by omega⟩
      rw [KL_X0_nameLength_48, ifT k14, ifT r0]; rfl
    · obtain ⟨f, rfl⟩ : ∃ g, f = g + 1 := ⟨f - 1, by omega⟩
      rw [KL_X0_isName_52, ifT k14, ifT r0]
      exact ⟨_, rfl, Or.inl ⟨Sfx_nil, rfl⟩⟩
    · obtain ⟨f, rfl⟩ : ∃ g, f = g + 1 := ⟨f - 1, by omega⟩
      rw [KL_X0_isName_52, ifT k14, ifT r0]
    · obtain ⟨f, rfl⟩ : ∃ g, f = g + 1 := ⟨f - 1, by omega⟩
      show (ob (B_printInstance (G_printInstance f) (nI 0) σ) fun _ s => if nI 0 ≤ 0 then tc s else ob (F_letter 46 s) fun _ s1 => tc s1) = ob (some ((), σ)) fun _ s => tc s
      unfold B_printInstance
      rw [ifT (show nI 0 = 0 by decide), ob_some, ob_some, ifT (show nI 0 ≤ 0 by decide)]
  | N + 1, n + 1, hN, hn => by
    obtain ⟨p, e0, w, x0, ⟨p1, p2, p3⟩, ⟨e1, e2⟩, ⟨w1, w2, w3⟩, x1, x2, x3⟩ := inst_nm W X hn (by omega)
    obtain ⟨L', l1, l2, l3, l4, l5, l6⟩ := path_nm W X hdp N p (by omega) (by omega)
    obtain ⟨S, s1, s2, s3, s4, s5⟩ := step_nm W w2 x1
    have dlt := (hdp (n + 1) hn).2 p p1 p3
    have w99 := W.2.1.2.1 99 (by decide)
    have l99 := X.1.1.2.1
    have I200 := X.2.1.2.1
    have k14 : mk M ((pl D 99).getD (n + 1) 0) = 14 := (w99 (n + 1) (by omega)).1
    have np : ¬ (pl D 99).getD p 0 = 0 := by have := (w99 p (by omega)).2.1.1; omega
    have hl : (L' ++ (S ++ [46])).length = L'.length + (S.length + 1) := by rw [List.length_append, List.length_append]; rfl
    have hl2 : (S ++ [46]).length = S.length + 1 := by rw [List.length_append]; rfl
    refine ⟨L' ++ (S ++ [46]), by rw [hl]; omega, fun c hc => ?_, fun f x hf => ?_, fun f e hf he => ?_, fun f r hf hr => ?_, fun f σ tc hf fσ => ?_⟩
    · rcases List.mem_append.mp hc with h | h
      · exact l2 c h
      · rcases List.mem_append.mp h with h | h
        · exact s2 c h
        · exact ⟨46, by decide, List.mem_singleton.mp h⟩
    · obtain ⟨f, rfl⟩ : ∃ g, f = g + 1 := ⟨f - 1, by omega⟩
      rw [KL_X0_nameLength_48, ifT k14, p2, ifF np, ifT k14, ifT k14, w1, x2, s3, ob_some, nI_addL, bI_add, nm_eq, ifT k14, p2, nm_eq, l3 f _ (by omega), hl]
      congr 3
      show x + (S.length + 1) + L'.length = _
      omega
    · obtain ⟨f, rfl⟩ : ∃ g, f = g + 1 := ⟨f - 1, by omega⟩
      have n1 : (-1 : Int32) < 0 := by decide
      rw [KL_X0_isName_52, ifT k14, p2, ifF np, ifF (n_neg (by omega)), nm_eq]
      by_cases z : e = 0
      · subst z
        rw [ifT (show nI 0 + (-1) < 0 by decide), ifT k14, p2, nm_eq, l5 f _ (by omega) n1]
        exact ⟨_, rfl, Or.inr ⟨fun y => by have := y.1; omega, n1⟩⟩
      · have ee : nI e + (-1) = nI (e - 1) := by
          rw [← nI_subL (a := e) 1 (by show 1 ≤ e; omega), Int32.sub_eq_add_neg]
        rw [ee, ifF (n_neg (by omega)), ifT (inb_nI' (by omega) (by decide)), ix_nI (by omega)]
        by_cases q : mA M 2 (e - 1) = 46
        · have o1 : Sfx (mA M 2) e [46] := Sfx_one.mpr ⟨by omega, q⟩
          obtain ⟨r, r1, r2⟩ := s4 (e - 1) (by omega)
          have r3 : SfR (mA M 2) e (S ++ [46]) r := SfR.app (r := nI (e - 1)) (Or.inl ⟨o1, rfl⟩) (fun _ => r2) (fun z => absurd o1 z)
          rw [ifT q, ifT k14, ifT k14, w1, x2, r1, ob_some, ifT k14, p2, nm_eq]
          rcases r3 with ⟨g1, g2⟩ | ⟨g1, g2⟩
          · rw [g2]
            obtain ⟨r', t1, t2⟩ := l4 f (e - (S ++ [46]).length) (by omega) (by omega)
            exact ⟨r', t1, SfR.app (Or.inl ⟨g1, rfl⟩) (fun _ => t2) (fun z => absurd g1 z)⟩
          · rw [l5 f r (by omega) g2]
            exact ⟨r, rfl, Or.inr ⟨fun y => g1 (Sfx_app.mp y).1, g2⟩⟩
        · rw [ifF q, ifT k14, p2, nm_eq, l5 f _ (by omega) n1]
          exact ⟨_, rfl, Or.inr ⟨fun y => q (Sfx_one.mp (Sfx_app.mp (Sfx_app.mp y).1).1).2, n1⟩⟩
    · obtain ⟨f, rfl⟩ : ∃ g, f = g + 1 := ⟨f - 1, by omega⟩
      rw [KL_X0_isName_52, ifT k14, p2, ifF np, ifT hr]
    · obtain ⟨f, rfl⟩ : ∃ g, f = g + 1 := ⟨f - 1, by omega⟩
      have i200 : inb (nI (n + 1)) 200 := inb_nI' (by omega) (by decide)
      have xi_ : ix (nI (n + 1)) = n + 1 := ix_nI (by omega)
      have i481 : inb (nI e0) 481 := inb_nI' (by omega) (by decide)
      have xe : ix (nI e0) = e0 := ix_nI (by omega)
      have ng : ¬ nI (n + 1) ≤ 0 := fun z => by have := (bI_le (b := 0) (by omega) (by decide)).mp z; omega
      have n0 : ¬ nI (n + 1) = 0 := fun z => by have := (bI_eq (b := 0) (by omega) (by decide)).mp z; omega
      have ta : ∀ {s : TS}, Ft nmS σ0 s → tA s 75 (n + 1) = nI p ∧ tA s 76 (n + 1) = nI e0 ∧ tA s 77 (n + 1) = nI x0 ∧ tB s 50 e0 = wc M w := fun f => ⟨((f 75 rfl).2.2.1 _).trans p3, ((f 76 rfl).2.2.1 _).trans e1, ((f 77 rfl).2.2.1 _).trans x3, ((f 50 rfl).2.2.2 _).trans w3⟩
      show (ob (B_printInstance (G_printInstance f) (nI (n + 1)) σ) fun _ s => if nI (n + 1) ≤ 0 then tc s else ob (F_letter 46 s) fun _ s1 => tc s1) = _
      unfold B_printInstance
      rw [ifF n0, ifT i200, xi_, (ta fσ).1, ob_assoc]
      have tw : (ob (G_printInstance f (nI p) σ) fun _ s2 => ob (if inb (nI (n + 1)) 200 then (if tA s2 75 (n + 1) ≤ 0 then J_printInstance_30 (G_printInstance f) (nI (n + 1)) s2 else ob (F_letter 46 s2) fun _ s18 => J_printInstance_30 (G_printInstance f) (nI (n + 1)) s18) else none) fun _ s => if nI (n + 1) ≤ 0 then tc s else ob (F_letter 46 s) fun _ s1 => tc s1) = ob (G_printInstance f (nI p) σ) fun _ s2 => if nI p ≤ 0 then (ob (J_printInstance_30 (G_printInstance f) (nI (n + 1)) s2) fun _ s => ob (F_letter 46 s) fun _ s1 => tc s1) else ob (F_letter 46 s2) fun _ s2 => ob (J_printInstance_30 (G_printInstance f) (nI (n + 1)) s2) fun _ s => ob (F_letter 46 s) fun _ s1 => tc s1 := by
        refine ob_cg (fun a s2 e => ?_)
        have fg := fS_G_printInstance f (nI p) σ a s2 e
        rw [ifT i200, (fg 75 rfl).2.2.1, (ta fσ).1]
        simp only [ifF ng]
        by_cases q : nI p ≤ 0
        · rw [ifT q, ifT q]
        · rw [ifF q, ifF q, ob_assoc]
      rw [tw, l6 f σ (fun s2 => ob (J_printInstance_30 (G_printInstance f) (nI (n + 1)) s2) fun _ s => ob (F_letter 46 s) fun _ s1 => tc s1) (by omega) fσ, tpL_app, ob_assoc]
      refine ob_cg (fun a s2 e => ?_)
      have f2 : Ft nmS σ0 s2 := fσ.tr (tpL_fr _ _ _ _ e)
      have tw2 : J_printInstance_30 (G_printInstance f) (nI (n + 1)) s2 = ob (F_printName (wc M w) s2) fun _ s => F_printIndex (nI x0) s := by
        unfold J_printInstance_30
        rw [ifT i200, xi_, (ta f2).2.1, ifT i481, xe, (ta f2).2.2.2]
        refine ob_cg (fun a s e => ?_)
        have fg := fS_F_printName _ _ a s e
        rw [ifT i200, (fg 77 rfl).2.2.1, (ta f2).2.2.1, ob_idu]
      rw [tw2, s5, tpL_app, ob_assoc]
      refine ob_cg (fun a s3 _ => ?_)
      rw [tpL_one]
/-- a variable's name: its length; whether it stands in the bytes that wait; what the twin tells -/
theorem var_nm (W : FW C B P mss fss D M σ0) (X : FlY z7 C P D mss M σ0 V I Bm) (hv : v < V) : ∃ L, L.length ≤ 180 ∧ (∀ c, c ∈ L → LtC c) ∧ K_X0_nameLength (nI v) M = some (nI L.length, M) ∧ (∀ e, e ≤ 2000 → ∃ r, K_X0_isName (nI v) (nI e) M = some (r, M) ∧ (r = 0 ∨ r = 1) ∧ (r = 1 ↔ Sfx (mA M 2) e L ∧ e = L.length)) ∧ ∀ σ, Ft nmS σ0 σ → F_printVariable (nI v) σ = tpL L σ := by
  have E480 : ix (tI σ0 58) ≤ 480 := by
    obtain ⟨E0, e1, e2⟩ := W.1.2.2.2.2.2.2.1
    have h24 := W.1.2.2.2.2.1.1.1
    rw [e1, ix_nI (by omega)]; omega
  obtain ⟨⟨n, e, w, ⟨a1, a2, a3⟩, ⟨a4, a5⟩, a6, a7, a8, a9⟩, ⟨x, c1, c2, c3⟩, -⟩ := X.1.2.2.2 v hv
  obtain ⟨k17, -, l98, v96⟩ := X.vr W hv
  have I200 := X.2.1.2.1
  obtain ⟨dp, hdp⟩ := X.2.1.2.2.2.2.2
  obtain ⟨L', l1, l2, l3, l4, l5, l6⟩ := path_nm W X hdp (n + 1) n (Nat.lt_succ_self _) a1
  obtain ⟨S, s1, s2, s3, s4, s5⟩ := step_nm W ⟨a7, a8⟩ c1
  have d13 := (hdp n a1).1
  have iv : inb (nI v) 96 := inb_nI' v96 (by decide)
  have xv : ix (nI v) = v := ix_nI (by omega)
  have i481 : inb (nI e) 481 := inb_nI' (by omega) (by decide)
  have xe : ix (nI e) = e := ix_nI (by omega)
  have gt : K_J2_get 98 (nI v) M = some ((pl D 98).getD v 0, M) := ls_get (W.2.1.1 98 (by decide)).1 l98
  have fu := FUb
  refine ⟨L' ++ S, by rw [List.length_append]; omega, fun c hc => (List.mem_append.mp hc).elim (l2 c) (s2 c), ?_, fun e he => ?_, fun σ fσ => ?_⟩
  · unfold K_X0_nameLength
    rw [gt, ob_some, ifT (Or.inr k17), ifT k17, gt, ob_some, ifT (Or.inr k17), ifT k17, a6, c2, s3, ob_some, gt, ob_some, ifT (Or.inr k17), ifT k17, a2, nm_eq, l3 FU _ (by omega), ob_some, List.length_append, Nat.add_comm]
  · unfold K_X0_isName
    obtain ⟨r, r1, r2⟩ := s4 e he
    have fin : ∀ r', SfR (mA M 2) e (L' ++ S) r' → (if r' = 0 then (1 : Int32) else 0) = 1 ↔ Sfx (mA M 2) e (L' ++ S) ∧ e = (L' ++ S).length := fun r' h => by
      rcases h with ⟨g1, g2⟩ | ⟨g1, g2⟩
      · have hle := g1.1
        by_cases q : r' = 0
        · rw [ifT q]
          have := (bI_eq (b := 0) (by omega) (by decide)).mp (g2.symm.trans q)
          exact ⟨fun _ => ⟨g1, by omega⟩, fun _ => rfl⟩
        · rw [ifF q]
          exact ⟨fun z => absurd z (by decide), fun z => absurd (by rw [g2, z.2, Nat.sub_self]; rfl) q⟩
      · have : ¬ r' = 0 := fun z => by rw [z] at g2; exact absurd g2 (by decide)
        rw [ifF this]
        exact ⟨fun z => absurd z (by decide), fun z => absurd z.1 g1⟩
    have lp : ∃ r', KL_X0_isName_52 FU r ((pl D 99).getD n 0) M = some (r', M) ∧ SfR (mA M 2) e (L' ++ S) r' := by
      rcases r2 with ⟨g1, g2⟩ | ⟨g1, g2⟩
      · obtain ⟨r', t1, t2⟩ := l4 FU (e - S.length) (by omega) (by omega)
        exact ⟨r', by rw [g2]; exact t1, SfR.app (Or.inl ⟨g1, rfl⟩) (fun _ => t2) (fun z => absurd g1 z)⟩
      · exact ⟨r, l5 FU r (by omega) g2, Or.inr ⟨fun y => g1 (Sfx_app.mp y).1, g2⟩⟩
    obtain ⟨r', t1, t2⟩ := lp
    rw [gt, ob_some, ifT (Or.inr k17), ifT k17, gt, ob_some, ifT (Or.inr k17), ifT k17, a6, c2, r1, ob_some, gt, ob_some, ifT (Or.inr k17), ifT k17, a2, nm_eq, t1, ob_some]
    have f2 := fin r' t2
    by_cases q : r' = 0
    · rw [ifT q] at f2 ⊢
      exact ⟨_, rfl, Or.inr rfl, f2⟩
    · rw [ifF q] at f2 ⊢
      exact ⟨_, rfl, Or.inl rfl, f2⟩
  · have ta : ∀ {s : TS}, Ft nmS σ0 s → tA s 96 v = nI n ∧ tA s 97 v = nI e ∧ tA s 98 v = nI x ∧ tB s 50 e = wc M w := fun f => ⟨((f 96 rfl).2.2.1 _).trans a3, ((f 97 rfl).2.2.1 _).trans a4, ((f 98 rfl).2.2.1 _).trans c3, ((f 50 rfl).2.2.2 _).trans a9⟩
    unfold F_printVariable F_printInstance
    rw [ifT iv, xv, (ta fσ).1]
    have tw : (ob (G_printInstance 300 (nI n) σ) fun _ s2 => if inb (nI v) 96 then (if tA s2 96 v ≤ 0 then J_printVariable_25 (nI v) s2 else ob (F_letter 46 s2) fun _ s18 => J_printVariable_25 (nI v) s18) else none) = ob (G_printInstance 300 (nI n) σ) fun _ s2 => if nI n ≤ 0 then J_printVariable_25 (nI v) s2 else ob (F_letter 46 s2) fun _ s18 => J_printVariable_25 (nI v) s18 := by
      refine ob_cg (fun a s2 e => ?_)
      have f := fS_G_printInstance 300 (nI n) σ a s2 e
      rw [ifT iv, (f 96 rfl).2.2.1, (ta fσ).1]
    rw [tw, l6 300 σ (fun s => J_printVariable_25 (nI v) s) (by omega) fσ, tpL_app]
    refine ob_cg (fun a s2 e => ?_)
    have f2 : Ft nmS σ0 s2 := fσ.tr (tpL_fr _ _ _ _ e)
    rw [← s5]
    unfold J_printVariable_25
    rw [ifT iv, xv, (ta f2).2.1, ifT i481, xe, (ta f2).2.2.2]
    refine ob_cg (fun a s e => ?_)
    have fg := fS_F_printName _ _ a s e
    rw [ifT iv, (fg 98 rfl).2.2.1, (ta f2).2.2.1, ob_idu]
end NMPATH
