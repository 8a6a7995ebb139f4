/-! Layer B: the flat model: all outer members, both sides -/
set_option maxRecDepth 100000
/-- an outer member has its inner one -/
def InnR (D : FQ) (σ : TS) (Bm : Nat) (z7 : Nat → Nat) (b : Nat) : Prop := ∃ c e', c < Bm ∧ tA σ 84 c = nI e' ∧ e' < 480 ∧ ¬ tA σ 52 e' &&& 8 = 0 ∧ z7 b = (pl D 100).getD c 0 ∧ F_innerOf (nI b) σ = some (nI c, σ)
section OUTS2
variable {C C' : PC} {D D' D1 D2 : FQ} {M M' M1 M2 : CM} {σ σ' σ0 σ1 σ2 σ4 s : TS} {mss fss xs bs qs os es : List Nat} {B l k n o m u w Q I I' L V V' Bm Bm' b c v r R R' E E' E0 cr i e eo ec fl z mo mc : Nat} {P P' X T : Nat → Prop} {S S' O : List Nat} {x : Int64} {x1 : Int32} {z7 z7' : Nat → Nat}
theorem outs_loop (hB1 : B ≤ 1280) (hI : I ≤ 200) (hBm : Bm ≤ 20000) (hV : V ≤ 96) (h0 : tI σ 0 = 0) (h89 : tI σ 89 = nI Bm) (hrow : pl D 102 = os.map fun b => (pl D 100).getD b 0) : ∀ (d b f g : Nat) (M : CM) (z7 : Nat → Nat) (done rest : List Nat), b + d = Bm → d < f → d < g → FW C B P mss fss D M σ → FInZ z7 C P D mss M σ V I Bm → os = done ++ rest → rest.Pairwise (· < ·) → (∀ x, x ∈ rest → b ≤ x ∧ x < Bm ∧ outT σ x) → (∀ x, b ≤ x → x < Bm → outT σ x → x ∈ rest) →
    (∃ M' σ' w, KL_X0_findOuters_2 f (nI done.length) M = some (.inr (.inr w), M') ∧ L_makeFlat_158 g (nI b) σ = some ((), σ') ∧ FfO C B P mss fss TFf fiS [15, 16, 17, 18, 31] D D M M' σ σ' w) ∨
    (∃ M' z7', KL_X0_findOuters_2 f (nI done.length) M = some (.inl (), M') ∧ L_makeFlat_158 g (nI b) σ = some ((), σ) ∧ FW C B P mss fss D M' σ ∧ FInZ z7' C P D mss M' σ V I Bm ∧ Wz C C P M M' σ σ ∧ Fq D T100 M M' ∧ O1 [] M M' ∧ (∀ f o, mI M' f o = mI M f o) ∧ (∀ f o, f ≠ 3007 → mR M' f o = mR M f o) ∧ (∀ x, x < b → z7' x = z7 x) ∧ ∀ x, b ≤ x → x < Bm → (¬ outT σ x → z7' x = z7 x) ∧ (outT σ x → InnR D σ Bm z7' x)) := by
  intro d
  induction d with
  | zero =>
    intro b f g M z7 done rest hb hf hg W N ho hs hr hc
    obtain ⟨f, rfl⟩ : ∃ n, f = n + 1 := ⟨f - 1, by omega⟩
    obtain ⟨g, rfl⟩ : ∃ n, g = n + 1 := ⟨g - 1, by omega⟩
    have hre : rest = [] := by
      cases rest with
      | nil => rfl
      | cons a l => have := hr a List.mem_cons_self; omega
    have hL := (W.2.1.1 102 (by decide)).1
    have hlen := (W.2.1.1 102 (by decide)).2.2
    have e102 : flX 102 = 20000 := rfl
    have hl : (pl D 102).length = done.length := by rw [hrow, List.length_map, ho, hre, List.append_nil]
    refine Or.inr ⟨M, z7, ?_, ?_, W, N, Wz.rf (by have := W.1.2.2.2.2.1; omega), Fq.rf, O1.rf _ _, fun _ _ => rfl, fun _ _ _ => rfl, fun _ _ => rfl, fun x h1 h2 => by omega⟩
    · rw [KL_X0_findOuters_2, ls_size hL, ob_some, ifT ((bI_le (by omega) (by omega)).mpr (by omega))]
    · rw [L_makeFlat_158, h89, ifT ((bI_le (by omega) (by omega)).mpr (by omega))]
  | succ d ih =>
    intro b f g M z7 done rest hb hf hg W N ho hs hr hc
    obtain ⟨f, rfl⟩ : ∃ n, f = n + 1 := ⟨f - 1, by omega⟩
    obtain ⟨g, rfl⟩ : ∃ n, g = n + 1 := ⟨g - 1, by omega⟩
    have hL := (W.2.1.1 102 (by decide)).1
    have hlen := (W.2.1.1 102 (by decide)).2.2
    have e102 : flX 102 = 20000 := rfl
    have bB : b < Bm := by omega
    obtain ⟨n, e, eo, w, -, ⟨a4, a5, a6⟩, -⟩ := N.2.2.1 b bB
    have e480 := W.e480 a5
    have ib : inb (nI b) 96001 := inb_nI' (by omega) (by decide)
    have xb : ix (nI b) = b := ix_nI (by omega)
    have ie : inb (nI e) 481 := inb_nI' (by omega) (by decide)
    have xe : ix (nI e) = e := ix_nI (by omega)
    have nle : ¬ nI Bm ≤ nI b := fun z => by have := (bI_le (by omega) (by omega)).mp z; omega
    have th : L_makeFlat_158 (g + 1) (nI b) σ = if tA σ 52 e &&& 16 = 0 then L_makeFlat_158 g (nI (b + 1)) σ else ob (F_innerOf (nI b) σ) fun _ s => L_makeFlat_158 g (nI (b + 1)) s := by
      rw [L_makeFlat_158, h89, ifF nle, t_isBad0 h0, ob_some, ifT (rfl : (0 : Int32) = 0), ifT ib, xb, a4, ifT ie, xe]
      simp only [nI_addL, nm_eq]
    have oE : outT σ b ↔ ¬ tA σ 52 e &&& 16 = 0 := by
      constructor
      · rintro ⟨e', ⟨q1, q3⟩, q2⟩
        rw [a4] at q1
        have := (bI_eq (by omega) (by omega)).mp q1
        rw [this]; exact q2
      · intro q; exact ⟨e, ⟨a4, e480⟩, q⟩
    rw [th]
    by_cases q : tA σ 52 e &&& 16 = 0
    · -- it isn't outer
      rw [ifT q]
      have nb : b ∉ rest := fun z => (oE.mp (hr b z).2.2) q
      rcases ih (b + 1) (f + 1) g M z7 done rest (by omega) (by omega) (by omega) W N ho hs (fun x hx => ⟨by
        have := hr x hx
        by_cases y : x = b
        · rw [y] at hx; exact absurd hx nb
        · omega, (hr x hx).2⟩) (fun x h1 h2 h3 => hc x (by omega) h2 h3) with ⟨M', σ', w', g1, g2, g3⟩ | ⟨M', z', g1, g2, g3, g4, g5, g6, g7, g8, g9, g10, g11⟩
      · exact Or.inl ⟨M', σ', w', g1, g2, g3⟩
      · refine Or.inr ⟨M', z', g1, g2, g3, g4, g5, g6, g7, g8, g9, fun x hx => g10 x (by omega), fun x h1 h2 => ?_⟩
        by_cases y : x = b
        · rw [y]; exact ⟨fun _ => g10 b (by omega), fun z => absurd q (oE.mp z)⟩
        · exact g11 x (by omega) h2
    · -- it is
      rw [ifF q]
      have hb' := hc b (Nat.le_refl _) bB (oE.mpr q)
      obtain ⟨l, hl⟩ : ∃ l, rest = b :: l := by
        cases rest with
        | nil => exact absurd hb' List.not_mem_nil
        | cons a l =>
          have := hr a List.mem_cons_self
          rcases List.mem_cons.mp hb' with y | y
          · exact ⟨l, by rw [y]⟩
          · have := (List.pairwise_cons.mp hs).1 b y
            omega
      rw [hl] at hs hr hc ho
      obtain ⟨hs1, hs2⟩ := List.pairwise_cons.mp hs
      have lenE : (pl D 102).length = done.length + (l.length + 1) := by rw [hrow, List.length_map, ho, List.length_append]; rfl
      have getE : (pl D 102).getD done.length 0 = (pl D 100).getD b 0 := by
        rw [hrow, ho, List.map_append, List.getD_eq_getElem?_getD, List.getElem?_append_right (by rw [List.length_map]; exact Nat.le_refl _), List.length_map, Nat.sub_self]
        rfl
      have get := ls_get hL (show done.length < (pl D 102).length by omega)
      rw [getE] at get
      obtain ⟨m1, m2, m3⟩ := W.2.1.2.1 100 (by decide) b (by have := N.1.2.2; omega)
      have m1 : mk M ((pl D 100).getD b 0) = 16 := m1
      have kh : KL_X0_findOuters_2 (f + 1) (nI done.length) M = innK (KL_X0_findOuters_2 f) (nI done.length) ((pl D 100).getD b 0) M := by
        rw [KL_X0_findOuters_2, ls_size hL, ob_some, ifF (fun z => by have := (bI_le (by omega) (by omega)).mp z; omega), get, ob_some, ifT (Or.inr m1), ifT m1]
        rfl
      rw [kh]
      rcases z_inner hB1 W N hI hBm h0 bB with ⟨r, r1, r2, r3⟩ | ⟨c, e', c1, c2, c3, c4, c5, c6⟩
      · left
        obtain ⟨b1, b2, b3⟩ := W.bad (r := r) r1 h0
        refine ⟨_, _, _, r2 _ _, ?_, b3.mono (fun _ z => z) (by decide) (by decide)⟩
        rw [r3, ob_some]
        have hb0 := badT_ne (σ := σ) r1
        obtain ⟨g, rfl⟩ : ∃ n, g = n + 1 := ⟨g - 1, by omega⟩
        rw [L_makeFlat_158]
        by_cases y : tI (badT σ r) 89 ≤ nI (b + 1)
        · rw [ifT y]
        · rw [ifF y, t_isBad1 hb0, ob_some, ifF (show ¬ (1 : Int32) = 0 by decide)]
      · obtain ⟨W1, N1, v1, q1, o1⟩ := W.put7 N hI hBm hV bB (u := (pl D 100).getD c 0)
        have hd1 : (done ++ [b]).length = done.length + 1 := List.length_append
        rcases ih (b + 1) f g _ _ (done ++ [b]) l (by omega) (by omega) (by omega) W1 N1 (by rw [ho, List.append_assoc]; rfl) hs2 (fun x hx => ⟨by have := hs1 x hx; omega, (hr x (List.mem_cons_of_mem _ hx)).2⟩) (fun x h1 h2 h3 => by
          rcases List.mem_cons.mp (hc x (by omega) h2 h3) with y | y
          · omega
          · exact y) with ⟨M', σ', w', g1, g2, g3⟩ | ⟨M', z', g1, g2, g3, g4, g5, g6, g7, g8, g9, g10, g11⟩
        · left
          rw [hd1] at g1
          exact ⟨M', σ', w', by rw [c5, nI_addL]; exact g1, by rw [c6, ob_some]; exact g2, g3.tr v1 (Dx.rf _ _) (q1.mono (fun t y => by rw [y]; unfold TFf tg; omega)) (o1.mono (by decide)) (Ft.rf _ _)⟩
        · right
          rw [hd1] at g1
          refine ⟨M', z', by rw [c5, nI_addL]; exact g1, by rw [c6, ob_some]; exact g2, g3, g4, v1.tr g5 (fun _ z => z), (q1.mono (fun t y => by rw [y]; unfold T100 tg; omega)).tr g6 (Dx.rf _ _), o1.tr g7, fun f o => (g8 f o).trans rfl, fun f o hf => by rw [g9 f o hf, mR_msR, ifF (fun z => hf z.1)], fun x hx => by rw [g10 x (by omega)]; exact ifF (by omega), fun x h1 h2 => ?_⟩
          by_cases y : x = b
          · rw [y]
            refine ⟨fun z => absurd (oE.mpr q) z, fun _ => ⟨c, e', c1, c2, W.e480 c3, c4, ?_, c6⟩⟩
            rw [g10 b (by omega)]; exact ifT rfl
          · obtain ⟨p1, p2⟩ := g11 x (by omega) h2
            exact ⟨fun z => by rw [p1 z]; exact ifF y, p2⟩
end OUTS2
