/-! Layer B: the flat model: relations are numbered, one tree in the state -/
set_option maxRecDepth 100000
/-- relations below a are numbered -/
def CvS (D : FQ) (M : CM) (S : Nat → Prop) (a : Nat) : Prop := ∀ b, Rc M 100 a b → RlO (mI M 3400 b) → ∃ k, S k ∧ b = (pl D 106).getD k 0
section NUMBER6
variable {zb : Nat} {fx : Int32} {C : PC} {D : FQ} {M M' M1 M2 : CM} {σ σ' σ1 σ2 σ0 s s' s1 s2 s3 : TS} {mss fss : List Nat} {B V I Bm Lp K N E A Wn v l k h h1 h2 n p q c1 c2 c3 tf a d : Nat} {L L1 L2 L3 : List Nat} {x x2 x3 y r : Int32} {S S' : Nat → Prop} {P : Nat → Prop} {z7 : Nat → Nat}
theorem CvS.mono (g : CvS D M S a) (hs : ∀ k, S k → S' k) : CvS D M S' a := fun b hb hr => by
  obtain ⟨k, k1, k2⟩ := g b hb hr
  exact ⟨k, hs k k1, k2⟩
theorem Rc.nu (m : NuM M M') : ∀ (h a b : Nat), Rc M' h a b ↔ Rc M h a b
  | 0, _, _ => Iff.rfl
  | h + 1, a, b => by
    have ih := Rc.nu m h
    show (b = a ∨ (mR M' 3405 a ≠ 0 ∧ Rc M' h (mR M' 3405 a) b) ∨ (mR M' 3406 a ≠ 0 ∧ Rc M' h (mR M' 3406 a) b) ∨ (mR M' 3407 a ≠ 0 ∧ Rc M' h (mR M' 3407 a) b)) ↔ (b = a ∨ (mR M 3405 a ≠ 0 ∧ Rc M h (mR M 3405 a) b) ∨ (mR M 3406 a ≠ 0 ∧ Rc M h (mR M 3406 a) b) ∨ (mR M 3407 a ≠ 0 ∧ Rc M h (mR M 3407 a) b))
    rw [m.2.2, m.2.2, m.2.2, ih, ih, ih]
theorem CvS.nu (g : CvS D M S a) (m : NuM M M') : CvS D M' S a := fun b hb hr => g b ((Rc.nu m 100 a b).mp hb) (by rw [← m.2.1]; exact hr)
theorem CvS.un (g : CvS D M' S a) (m : NuM M M') : CvS D M S a := fun b hb hr => g b ((Rc.nu m 100 a b).mpr hb) (by rw [m.2.1]; exact hr)
theorem NuM.rf : NuM M M := ⟨fun _ => rfl, fun _ => rfl, fun _ _ => rfl⟩
theorem NuM.tr (h : NuM M M1) (g : NuM M1 M2) : NuM M M2 := ⟨fun o => (g.1 o).trans (h.1 o), fun o => (g.2.1 o).trans (h.2.1 o), fun f o => (g.2.2 f o).trans (h.2.2 f o)⟩
theorem kNum_nu : ∀ (L : List Nat) (M1 : CM), NuM M M1 → kNum D L M1 = some (.inl (), M') → NuM M M'
  | [], M1, m, e => by
    have : M1 = M' := (Prod.mk.inj (Option.some.inj e)).2
    rw [← this]; exact m
  | k :: L, M1, m, e => by
    unfold kNum at e
    by_cases q : mI M1 41 1 = 24
    · rw [ifT q] at e
      cases e1 : K_X0_wrong 24 0 M1 with
      | none => rw [e1] at e; cases e
      | some z =>
        obtain ⟨r, M2⟩ := z
        rw [e1, ob_some] at e
        by_cases q2 : mk M2 r = 7
        · rw [ifT q2] at e; cases e
        · rw [ifF q2] at e; cases e
    · rw [ifF q] at e
      by_cases q3 : inb (mI M1 41 1) 24
      · rw [ifT q3] at e; exact kNum_nu L _ m.as e
      · rw [ifF q3] at e; cases e
/-- the twin's stack may have changed -/
theorem BS.t139 (h : BS zb z7 C B P mss fss V I Bm Lp x3 D M σ K N E A Wn) (f : Ft [139] σ σ') : BS zb z7 C B P mss fss V I Bm Lp x3 D M σ' K N E A Wn ∧ BTr V C P K N D M σ D M σ' := by
  have W := h.fw
  have F : Fz (fun _ => False) M M := Fz.rf
  obtain ⟨W', v, -⟩ := W.w2 F (fun o _ z => z.elim) ⟨rfl, rfl⟩ (fun o => ⟨rfl, rfl, rfl⟩) (fun o => rfl) rfl (fun q _ => rfl) (fun q _ => rfl) f (by decide)
  have fq : Fq D (fun _ => False) M M := F.mono (fun o ho z => z.elim)
  obtain ⟨Fs', bt⟩ := h.1.bw ⟨rfl, rfl⟩ W' v fq (fun t z => z.elim) (fun k hk => ⟨fun f hf => rfl, fun g _ => rfl⟩) (Dx.rf D M) ⟨fun f hf => rfl, fun f => rfl⟩ ⟨rfl, rfl⟩ f (by decide) (by decide) (by decide)
  exact ⟨⟨Fs', h.2.mv W h.hV bt.2.2.1 (Nat.le_refl _) (Nat.le_refl _) fq (fun t z => z.elim) (Dx.rf D M) (fun g _ => rfl) f (by decide)⟩, bt⟩
/-- a failed twin state while numbering -/
def NB (σ b : TS) : Prop := NuT σ b ∧ tI b 0 ≠ 0 ∧ tI b 154 = 24 ∧ tI b 140 = nI 0
theorem NB.fr (h : NB σ s) (f : Ft [139] s s') : NB σ s' := ⟨⟨h.1.1.tr (f.mono (by decide)), by rw [(f 154 rfl).1]; exact h.1.2⟩, by rw [(f 0 rfl).1]; exact h.2.1, by rw [(f 154 rfl).1]; exact h.2.2.1, by rw [(f 140 rfl).1]; exact h.2.2.2⟩
theorem BS.rtE (h : BS zb z7 C B P mss fss V I Bm Lp x3 D M σ K N E A Wn) (hk : k < E) (e : tA σ 141 k = nI n ∨ tA σ 142 k = nI n) : RtT σ n := by
  have c := h.2.2.1.1
  exact Or.inl ⟨k, by rw [c.2.1, ix_nI (by omega)]; exact hk, e⟩
theorem BS.rtA (h : BS zb z7 C B P mss fss V I Bm Lp x3 D M σ K N E A Wn) (hk : k < A) (e : tA σ 151 k = nI n) : RtT σ n := by
  have c := h.2.2.2.1.1
  exact Or.inr (Or.inl ⟨k, by rw [c.2.1, ix_nI (by omega)]; exact hk, e⟩)
theorem BS.rtW (h : BS zb z7 C B P mss fss V I Bm Lp x3 D M σ K N E A Wn) (hk : k < Wn) (e : tA σ 145 k = nI n) : RtT σ n := by
  have c := h.2.2.2.2.1.1
  exact Or.inr (Or.inr ⟨k, by rw [c.2.1, ix_nI (by omega)]; omega, e⟩)
/-- one tree, the twin having failed -/
theorem z_nTb (h : BS zb z7 C B P mss fss V I Bm Lp x3 D M σ K N E A Wn) (nd : NdR fx D M σ 106 V 100 d K N a n) : ∀ b, NB σ b → ∃ b', F_numberIn (nI n) b = some ((), b') ∧ Ft [139] b b' := fun b hb => by
  obtain ⟨L, l1, l2, l3, -⟩ := z_numT (fx := fx) h.fw h.1.2.2.1.2.2.2.2.2.2.2 h.hl 100 d a n (Nat.le_refl _) nd
  obtain ⟨b', e1, e2⟩ := l3 300 (by decide) b 0 hb.1 hb.2.2.2 (by decide)
  refine ⟨b', e1, ?_⟩
  have := e2.1
  rw [tNum_bad hb.2.1 hb.2.2.1] at this
  exact this
/-- one tree, none of whose nodes has a number -/
theorem z_nT (h : BS zb z7 C B P mss fss V I Bm Lp x3 D M σ K N E A Wn) (g : NQ D K M σ q S) (h140 : tI σ 140 = nI 0) (nd : NdR fx D M σ 106 V 100 d K N a n) (hrt : RtT σ n) (hS : ∀ k, S k → ¬ OcT σ N 100 n (k + 1)) :
    ((∃ M' w s', K_X0_number a M = some (.inr w, M') ∧ F_numberIn (nI n) σ = some ((), s') ∧ FfB C B P mss fss M M' σ s' w ∧ NB σ s') ∨
    ∃ M' s' q' S', K_X0_number a M = some (.inl (), M') ∧ F_numberIn (nI n) σ = some ((), s') ∧ BS zb z7 C B P mss fss V I Bm Lp x3 D M' s' K N E A Wn ∧ BTn V C P K N D M σ D M' s' ∧ NQ D K M' s' q' S' ∧ tI s' 140 = nI 0 ∧ (NuM M M' ∧ Ft [0, 1, 139, 153, 154, 162] σ s' ∧ ∀ k, S' k → S k ∨ RlN V K N D M' s' k) ∧ (∀ k, S k → S' k) ∧ CvS D M S' a ∧ ∀ k, S' k → S k ∨ OcT σ N 100 n (k + 1)) := by
  obtain ⟨L, l1, l2, l3, -, l5, l6⟩ := z_numT (fx := fx) h.fw h.1.2.2.1.2.2.2.2.2.2.2 h.hl 100 d a n (Nat.le_refl _) nd
  have m0 : NuT σ σ := ⟨Ft.rf _ σ, q, g.1.2.2, g.1.2.1⟩
  obtain ⟨s', e1, e2⟩ := l3 300 (by decide) σ 0 m0 h140 (by decide)
  have ek : K_X0_number a M = kNum D L M := l2 300 (by decide) M NuM.rf
  have p140 := (e2.p140 m0).trans h140
  obtain ⟨-, f0⟩ := NuT.num L σ m0
  rcases z_knum L M σ q S (fun k hk => ⟨⟨(l1 k hk).1, (l1 k hk).2.1.1.mem⟩, fun y => hS k y (l1 k hk).2.2⟩) l6 h g with ⟨M', w, a1, a2, a3⟩ | ⟨M', q', a1, a2, a3, a4⟩
  · left
    refine ⟨M', w, s', ek.trans a1, e1, a2.tws e2.1 (by decide) (by decide) ⟨rfl, rfl⟩ ⟨rfl, rfl, rfl⟩, e2.nu m0, ?_, by rw [(e2.1 154 rfl).1]; exact a3, p140⟩
    rw [(e2.1 0 rfl).1]; exact a2.ne
  · right
    obtain ⟨h', bt⟩ := a2.t139 e2.1
    have f3 : Ft [0, 1, 139, 153, 154, 162] σ s' := (f0.mono (by decide)).tr (e2.1.mono (by decide))
    have bn := a3.tr bt.wk (Nat.le_refl _) (Nat.le_refl _)
    exact ⟨M', s', q', _, ek.trans a1, e1, h', bn, a4.fr e2.1, p140, ⟨kNum_nu L M NuM.rf a1, f3, fun k hk => by
      rcases hk with hk | hk
      · exact Or.inl hk
      · exact Or.inr (RlN.mv bn.2.2.1 (Nat.le_refl _) (Nat.le_refl _) (l1 k hk).1 f3 (by decide) ⟨(l1 k hk).2.1, n, hrt, OcT.mv Nd4.rf (Nat.le_refl _) _ _ _ _ (Nat.le_refl _) (l1 k hk).2.2⟩)⟩, fun k hk => Or.inl hk, fun b hb hr => by
      obtain ⟨k, k1, k2⟩ := l5 b hb hr
      exact ⟨k, Or.inr k1, k2⟩, fun k hk => hk.imp id (fun z => (l1 k z).2.2)⟩
end NUMBER6
