/-! Layer B: parameters: expressions of them, both sides -/
set_option maxRecDepth 100000
def k0c (c : Nat) : Nat := 3 + 102 * c
def t0c (c : Nat) : Nat := 4 + 203 * c
def Lc (c : Nat) : Nat := 60000 - 100 * c
def LfF (V : Nat) (M0 : CM) (σ0 : TS) (s a n : Nat) : Prop := s = 0 ∧ mI M0 3400 a = 1 ∧ tA σ0 121 n = 2 ∧ ∃ v, v < V ∧ mI M0 3401 a = nI v ∧ tA σ0 122 n = nI v ∧ tA σ0 94 v = 1
section FIXED
variable {C : PC} {D D' : FQ} {M M' M1 M2 M3 M0 : CM} {σ σ' σ1 σ2 σ0 s1 : TS} {mss fss : List Nat} {B V I Bm k0 t0 h kf tf d s a n x z q K N K2 N2 u v l : Nat} {P T : Nat → Prop} {x2 y r : Int32} {z7 : Nat → Nat} {t : Nat → Int32} {S : List Nat}
variable {c : Nat}
theorem nd_noc (l : Nat) (r : NdR 1 D M0 σ0 l V (h + 1) s K N a n) : NoC M0 σ0 (LfF V M0 σ0) (fun s a n => NdR 1 D M0 σ0 l V h s K N a n) s a n := by
  obtain ⟨-, -, z⟩ := r
  rcases z with z | z | z | z | z | z | z | z | z | z
  · exact Or.inr (Or.inl ⟨z.1, z.2.1, z.2.2.1, z.2.2.2.1⟩)
  · obtain ⟨z1, z2, ⟨v, v1, v2, v3, v4⟩, z3⟩ := z
    obtain ⟨v5, v6⟩ := v4.1 rfl
    refine Or.inl ⟨z1, v5, ?_, v, v1, v2, v3, v6⟩
    simp only [List.mem_cons, List.not_mem_nil, or_false, Prod.mk.injEq, v5] at z2
    rcases z2 with ⟨-, q⟩ | ⟨q, -⟩ | ⟨q, -⟩
    · exact q
    · exact absurd q (by decide)
    · exact absurd q (by decide)
  · exact absurd rfl z.2.2.2.1
  · obtain ⟨z1, z2, z3, z4⟩ := z
    exact Or.inr (Or.inr (Or.inl ⟨z1, z2, z3⟩))
  · obtain ⟨z1, z2, z3, z4, z5⟩ := z
    exact Or.inr (Or.inr (Or.inr (Or.inl ⟨z1, z2, z3, z4⟩)))
  · exact Or.inr (Or.inr (Or.inr (Or.inr (Or.inl z))))
  · obtain ⟨z1, z2, z3, z4, z5, z6⟩ := z
    exact Or.inr (Or.inr (Or.inr (Or.inr (Or.inr (Or.inl ⟨z1, z2, z3, z4, z5⟩)))))
  · obtain ⟨z1, z2, z3, z4, z5⟩ := z
    exact Or.inr (Or.inr (Or.inr (Or.inr (Or.inr (Or.inr (Or.inl ⟨z1, z2, z3, z4⟩))))))
  · obtain ⟨z1, z2, z3, z4, z5⟩ := z
    exact Or.inr (Or.inr (Or.inr (Or.inr (Or.inr (Or.inr (Or.inr ⟨z1, z2, z3, z4⟩))))))
  · exact absurd rfl z.2.2.2.1
theorem NoC.mono {Lf : Nat → Nat → Nat → Prop} {R R' : Nat → Nat → Nat → Prop} (hR : ∀ s a n, R s a n → R' s a n) (h : NoC M0 σ0 Lf R s a n) : NoC M0 σ0 Lf R' s a n := by
  rcases h with z | z | ⟨z1, z2, x, z3, z4⟩ | ⟨z1, z2, ⟨x, z3, z4⟩, y, z5, z6⟩ | ⟨z1, z2, z3, ⟨x, z4, z5⟩, ⟨y, z6, z7⟩, w, z8, z9⟩ | ⟨z1, z2, z3, ⟨x, z4, z5⟩, y, z6, z7⟩ | ⟨z1, z2, ⟨x, z3, z4⟩, y, z5, z6⟩ | ⟨z1, z2, z3, x, z4, z5⟩
  · exact Or.inl z
  · exact Or.inr (Or.inl z)
  · exact Or.inr (Or.inr (Or.inl ⟨z1, z2, x, z3, hR _ _ _ z4⟩))
  · exact Or.inr (Or.inr (Or.inr (Or.inl ⟨z1, z2, ⟨x, z3, hR _ _ _ z4⟩, y, z5, hR _ _ _ z6⟩)))
  · exact Or.inr (Or.inr (Or.inr (Or.inr (Or.inl ⟨z1, z2, z3, ⟨x, z4, hR _ _ _ z5⟩, ⟨y, z6, hR _ _ _ z7⟩, w, z8, hR _ _ _ z9⟩))))
  · exact Or.inr (Or.inr (Or.inr (Or.inr (Or.inr (Or.inl ⟨z1, z2, z3, ⟨x, z4, hR _ _ _ z5⟩, y, z6, hR _ _ _ z7⟩)))))
  · exact Or.inr (Or.inr (Or.inr (Or.inr (Or.inr (Or.inr (Or.inl ⟨z1, z2, ⟨x, z3, hR _ _ _ z4⟩, y, z5, hR _ _ _ z6⟩))))))
  · exact Or.inr (Or.inr (Or.inr (Or.inr (Or.inr (Or.inr (Or.inr ⟨z1, z2, z3, x, z4, hR _ _ _ z5⟩))))))
/-- a variable in an expression of parameters -/
theorem fx_leaf {L1 k1 t1 : Nat} (W : FW C B P mss fss D M0 σ0) (hV : V ≤ (pl D 98).length ∧ V ≤ 96) (hl : (K ≤ (pl D 106).length ∧ N ≤ 70000) ∧ K2 ≤ (pl D 108).length ∧ N2 ≤ 70000) (hX : ∀ v, v < V → Vx1 D M0 σ0 V K N v) (hu8 : u ≤ 8) (rec : u < 8 → EvN (PrI D V M0 σ0 (u + 1)) (PrB C B P mss fss M0 σ0) (PrN D M0 σ0 V K N K2 N2) fxV k1 t1 L1 0 100) (r0 : PrN D M0 σ0 V K N K2 N2 (h + 1) 0 a n) (lf : LfF V M0 σ0 0 a n) (hk : 2 ≤ kf ∧ (u < 8 → k1 + 102 ≤ kf)) (ht : 3 ≤ tf ∧ (u < 8 → t1 + 203 ≤ tf)) (hs : u < 8 → s + 100 ≤ L1) (J : PrI D V M0 σ0 u s t M σ) : VO (PrI D V M0 σ0 u) (PrB C B P mss fss M0 σ0) s t (fxV kf a M) (gW tf (nI n) x2 σ) := by
  obtain ⟨kf, rfl⟩ : ∃ g, kf = g + 1 := ⟨kf - 1, by omega⟩
  obtain ⟨tf, rfl⟩ : ∃ g, tf = g + 1 + 1 := ⟨tf - 2, by omega⟩
  obtain ⟨-, l1, l2, v, hv, l3, l4, l5⟩ := lf
  obtain ⟨⟨i1, i2, i3⟩, -, i6⟩ := (PrI.sk (u := u) W hV hl).1 s t M σ J
  obtain ⟨⟨n1, n2⟩, ⟨n3, n4, n5, n6, n7⟩, n8, n9, n10, n11⟩ := i6 _ _ _ _ r0
  have iv : inb (nI v) 96 := inb_nI' (by omega) (by decide)
  have xv : ix (nI v) = v := ix_nI (by omega)
  have f94 : tA σ 94 v = 1 := by rw [(J.1.2 94 rfl).2.2.1]; exact l5
  have par := z_par (v := v) (kf := kf) (tf := tf) W hV hl.1 hX hu8 rec hv ⟨by omega, fun z => by have := hk.2 z; omega⟩ ⟨by omega, fun z => by have := ht.2 z; omega⟩ hs J
  rw [fx_var n1 (n3.trans l1), n4, l3, t_wVar i1 n2 (n8.trans l2), n9, l4, gV_s]
  unfold B_valueOf
  rw [ifT iv, xv, ifT f94, ifT iv]
  by_cases q : tA σ 160 v = 2
  · obtain ⟨tf, rfl⟩ : ∃ g, tf = g + 1 := ⟨tf - 1, by omega⟩
    have e : gP (tf + 1) (nI v) σ = some ((), σ) := by
      rw [gP_s]
      unfold B_parameter
      rw [ifT iv, xv, ifT q]
    rw [ifT q, ifT iv]
    rcases par with ⟨M', σ', w, a1, a2, a3⟩ | ⟨x, M', σ', a1, a2, a3, a4, a5⟩
    · rw [e] at a2
      have e2 : σ = σ' := (Prod.mk.inj (Option.some.inj a2)).2
      exact absurd i1 (by rw [e2]; exact a3.1.2.1.2.2.1)
    · rw [e] at a2
      have e2 : σ = σ' := (Prod.mk.inj (Option.some.inj a2)).2
      exact Or.inr ⟨x, M', σ', a1, by rw [← a4, e2], a3⟩
  · rw [ifF q]
    rcases par with ⟨M', σ', w, a1, a2, a3⟩ | ⟨x, M', σ', a1, a2, a3, a4, a5⟩
    · rw [a1, a2, ob_some, ifT iv]
      exact Or.inl ⟨M', σ', w, _, rfl, rfl, a3⟩
    · rw [a1, a2, ob_some, ifT iv, a4]
      exact Or.inr ⟨x, M', σ', rfl, rfl, a3⟩
theorem fx_all (W : FW C B P mss fss D M0 σ0) (hV : V ≤ (pl D 98).length ∧ V ≤ 96) (hl : (K ≤ (pl D 106).length ∧ N ≤ 70000) ∧ K2 ≤ (pl D 108).length ∧ N2 ≤ 70000) (hX : ∀ v, v < V → Vx1 D M0 σ0 V K N v) : ∀ c u, u + c = 8 → ∀ h, EvN (PrI D V M0 σ0 u) (PrB C B P mss fss M0 σ0) (PrN D M0 σ0 V K N K2 N2) fxV (k0c c) (t0c c) (Lc c) 0 h ∧ EvC (PrI D V M0 σ0 u) (PrB C B P mss fss M0 σ0) (PrN D M0 σ0 V K N K2 N2) fxC (k0c c) (t0c c) (Lc c) 0 h := by
  have step : ∀ c u, u + c = 8 → (u < 8 → EvN (PrI D V M0 σ0 (u + 1)) (PrB C B P mss fss M0 σ0) (PrN D M0 σ0 V K N K2 N2) fxV (k0c (c - 1)) (t0c (c - 1)) (Lc (c - 1)) 0 100) → ∀ h, EvN (PrI D V M0 σ0 u) (PrB C B P mss fss M0 σ0) (PrN D M0 σ0 V K N K2 N2) fxV (k0c c) (t0c c) (Lc c) 0 h ∧ EvC (PrI D V M0 σ0 u) (PrB C B P mss fss M0 σ0) (PrN D M0 σ0 V K N K2 N2) fxC (k0c c) (t0c c) (Lc c) 0 h := by
    intro c u hu rec h
    have sk := PrI.sk (u := u) W hV hl
    have := ev_all (x2 := 0) (Lf := LfF V M0 σ0) (L := Lc c) (k0 := k0c c) (t0 := t0c c) sk fx_keq (by unfold Lc; omega) (by unfold k0c; omega) (by unfold t0c; omega) (fun s a n z => by rcases z with z | z <;> exact z) (fun h s a n z => by
      rcases z with z | z
      · exact (nd_noc 106 z).mono (fun _ _ _ w => Or.inl w)
      · exact (nd_noc 108 z).mono (fun _ _ _ w => Or.inr w)) ⟨fun h kf tf s t M σ a n hk ht r0 lf J hs => by
        unfold k0c at hk
        unfold t0c at ht
        unfold Lc at hs
        exact fx_leaf W hV hl hX (by omega) rec r0 lf ⟨by omega, fun z => by unfold k0c; omega⟩ ⟨by omega, fun z => by unfold t0c; omega⟩ (fun z => by unfold Lc; omega) J, fun a n lf => by
        rw [lf.2.2.1]; decide, fun h kf tf s t M σ a n hk ht r0 lf J hs => absurd lf.1 (by decide), fun h evn kf tf s t M σ a n x z hk ht r0 h1 h2 h3 h4 h5 h6 J hs => by
        obtain ⟨kf, rfl⟩ : ∃ g, kf = g + 1 := ⟨kf - 1, by omega⟩
        obtain ⟨tf, rfl⟩ : ∃ g, tf = g + 1 := ⟨tf - 1, by omega⟩
        obtain ⟨⟨i1, i2, i3⟩, -, i6⟩ := sk.1 s t M σ J
        obtain ⟨⟨n1, n2⟩, ⟨n3, n4, n5, n6, n7⟩, n8, n9, n10, n11⟩ := i6 _ _ _ _ r0
        have nr : ¬ mI M 3400 a = 26 ∧ ¬ mI M 3400 a = 27 ∧ ¬ mI M 3400 a = 28 := by
          rw [n3]
          have h2 := h2
          simp only [List.mem_cons, List.not_mem_nil, or_false, Prod.mk.injEq] at h2
          rcases h2 with ⟨q, -⟩ | ⟨q, -⟩ | ⟨q, -⟩ | ⟨q, -⟩ | ⟨q, -⟩ | ⟨q, -⟩ <;> rw [q] <;> decide
        rw [fx_rel n1 nr, t_hRel i1 n2 (n8.trans h1) (by decide)]
        exact ev_live sk (by unfold t0c; omega) evn r0 h2 h3 h4 h5 h6 (by omega) (by omega) J hs⟩ h
    exact ⟨this.1, this.2.1⟩
  intro c
  induction c with
  | zero => exact fun u hu => step 0 u hu (fun z => absurd z (by omega))
  | succ c ih => exact fun u hu => step (c + 1) u hu (fun z => (ih (u + 1) (by omega) 100).1)
end FIXED
