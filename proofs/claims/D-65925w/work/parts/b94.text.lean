/-! Layer B: what the reading of a text keeps -/
set_option maxRecDepth 100000
abbrev arL : List Nat := [88, 89, 95, 96, 97]
/-- the arrays of the static rows -/
def Ar (M : CM) (o : Nat) : Prop := ∃ l, l ∈ arL ∧ o = mR M 4201 l
def Sx (M : CM) : Prop := ∀ l, l ∈ arL → mk M l = 22 ∧ (mR M 4201 l = 4398046511104 ∨ ((167 ≤ mR M 4201 l ∧ mR M 4201 l < mn M ∧ mk M (mR M 4201 l) = 55) ∧ ∀ l', l' ∈ arL → l' ≠ l → mR M 4201 l' ≠ mR M 4201 l))
/-- what a text may write of what was there -/
def Xl (M : CM) (o : Nat) : Prop := o = 90 ∨ o = 95 ∨ o = 96 ∨ o = 97 ∨ o = mR M 4201 95 ∨ o = mR M 4201 96 ∨ o = mR M 4201 97
/-- the twin's tables: what was there stays (with a fault too) -/
def Tw (σ σ' : TS) : Prop := (Tz σ σ' ∧ Qb σ σ' ∧ Mz σ σ' ∧ Ez σ σ') ∧ (∀ k, k < ix (tI σ 49) → (∀ f, f = 44 ∨ f = 45 ∨ f = 46 ∨ f = 47 → tA σ' f k = tA σ f k) ∧ tB σ' 41 k = tB σ 41 k) ∧ ∀ k, k < ix (tI σ 48) → (∀ f, f = 42 ∨ f = 43 → tA σ' f k = tA σ f k) ∧ tB σ' 40 k = tB σ 40 k
/-- classes and functions, in objects of P -/
def TP (C : PC) (T : Nat → Prop) (Mt M : CM) (σ : TS) (cs : List Nat) (P : Nat → Prop) : Prop := (∀ o, P o → (T o ∨ mn Mt ≤ o) ∧ (167 ≤ o ∧ o < mn M) ∧ ¬ Ar M o ∧ o ≠ mR M 201 4) ∧ (∀ k, k < cs.length → CcR C P M σ k (cs.getD k 0)) ∧ (∀ k, k < cnf C → FcR C P M σ k) ∧ cs.Pairwise (· < ·)
/-- counts -/
def TCn (C : PC) (σ : TS) (i N : Nat) : Prop := (∃ E, tI σ 58 = nI E ∧ E ≤ 20 * N) ∧ (∃ K, tI σ 65 = nI K ∧ 1 ≤ K ∧ K + (ct C - i) ≤ cX C) ∧ ∃ Q, tI σ 72 = nI Q ∧ 1 ≤ Q ∧ Q + (ct C - i) ≤ cX C
def TI (C : PC) (T : Nat → Prop) (Mt : CM) (σt : TS) (M : CM) (σ : TS) (i c s n : Nat) (mss ns : List Nat) : Prop := (Pe C M σ i 0 c s n ∧ cnl C = 0 ∧ car C = 0 ∧ cl C ≤ 1280 ∧ cfn C 1000 ≤ 1) ∧ ((Ls M 88 mss ∧ Ls M 97 ns) ∧ CnR (cm C) M σ (mss ++ ns)) ∧ Sx M ∧ (∃ P, TP C T Mt M σ (mss ++ ns) P) ∧ TCn C σ i (mss ++ ns).length ∧ (Fz (Xl Mt) Mt M ∧ (∀ l, l ∈ arL → mR M 4201 l = mR Mt 4201 l ∨ mn Mt ≤ mR M 4201 l) ∧ 167 ≤ mn Mt) ∧ Tw σt σ ∧ Qz σt σ ∧ ix (tI σt 49) ≤ ix (tI σ 49) ∧ ix (tI σt 48) ≤ ix (tI σ 48)
/-- a fault of a text -/
def FL (C : PC) (Mt : CM) (σt : TS) (M' : CM) (w : Nat) (σ' : TS) : Prop := Flt M' w σ' ∧ (mn M' ≤ cN C ∧ ms M' ≤ cS C) ∧ Fz (Xl Mt) Mt M' ∧ Tw σt σ' ∧ Sx M' ∧ (∃ bs, Ls M' 95 bs) ∧ (∃ bs, Ls M' 96 bs) ∧ (∃ bs, Ls M' 97 bs) ∧ ∀ l, l ∈ arL → mR M' 4201 l = mR Mt 4201 l ∨ mn Mt ≤ mR M' 4201 l
section TEXT
variable {C C' : PC} {T P P' X : Nat → Prop} {Mt Mb M M' M1 M2 : CM} {σt σ σ' σ1 σ2 σb : TS} {i dep c s n w l : Nat} {mss ns cs xs : List Nat}
theorem Tw.rf (σ : TS) : Tw σ σ := ⟨⟨Tz.rf _, Qb.rf _, Mz.rf _, Ez.rf _⟩, fun _ _ => ⟨fun _ _ => rfl, rfl⟩, fun _ _ => ⟨fun _ _ => rfl, rfl⟩⟩
theorem Tw.tr (h : Tw σ σ1) (g : Tw σ1 σ2) (h49 : ix (tI σ 49) ≤ ix (tI σ1 49)) (h48 : ix (tI σ 48) ≤ ix (tI σ1 48)) : Tw σ σ2 := by
  obtain ⟨⟨h1, h2, h3, h4⟩, h5, h6⟩ := h
  obtain ⟨⟨g1, g2, g3, g4⟩, g5, g6⟩ := g
  exact ⟨⟨h1.tr g1, h2.tr g2, h3.tr g3, h4.tr g4⟩, fun k hk => ⟨fun f hf => ((g5 k (by omega)).1 f hf).trans ((h5 k hk).1 f hf), (g5 k (by omega)).2.trans (h5 k hk).2⟩, fun k hk => ⟨fun f hf => ((g6 k (by omega)).1 f hf).trans ((h6 k hk).1 f hf), (g6 k (by omega)).2.trans (h6 k hk).2⟩⟩
theorem Tw.ft {S : List Nat} (f : Ft S σ σ') (h : (40 :: 41 :: 42 :: 43 :: 44 :: 45 :: 46 :: 47 :: 58 :: 24 :: 25 :: 26 :: 27 :: 28 :: 29 :: 30 :: 31 :: 32 :: 33 :: 34 :: 66 :: 67 :: 68 :: 69 :: 70 :: 71 :: 72 :: eTb).all (fun k => !S.contains k) = true) : Tw σ σ' := by
  have hf : ∀ k, k ∈ (40 :: 41 :: 42 :: 43 :: 44 :: 45 :: 46 :: 47 :: 58 :: 24 :: 25 :: 26 :: 27 :: 28 :: 29 :: 30 :: 31 :: 32 :: 33 :: 34 :: 66 :: 67 :: 68 :: 69 :: 70 :: 71 :: 72 :: eTb) → S.contains k = false := fun k hk => by
    have := List.all_eq_true.mp h k hk
    simpa using this
  have sub : ∀ L : List Nat, (∀ k, k ∈ L → S.contains k = false) → L.all (fun k => !S.contains k) = true := fun L hL => by
    rw [List.all_eq_true]
    intro k hk
    rw [hL k hk]; rfl
  have mem : ∀ L : List Nat, L.all (fun k => (40 :: 41 :: 42 :: 43 :: 44 :: 45 :: 46 :: 47 :: 58 :: 24 :: 25 :: 26 :: 27 :: 28 :: 29 :: 30 :: 31 :: 32 :: 33 :: 34 :: 66 :: 67 :: 68 :: 69 :: 70 :: 71 :: 72 :: eTb).contains k) = true → L.all (fun k => !S.contains k) = true := fun L hL => sub L (fun k hk => hf k (by
    have := List.all_eq_true.mp hL k hk
    simpa using this))
  refine ⟨⟨Tz.ft f (mem _ (by decide)), (Qz.ft f (mem _ (by decide))).b, Mz.ft f (mem _ (by decide)), Ez.ft f (mem _ (by decide))⟩, fun k _ => ⟨fun g hg => (f g (hf g (by rcases hg with rfl | rfl | rfl | rfl <;> decide))).2.2.1 k, (f 41 (hf 41 (by decide))).2.2.2 k⟩, fun k _ => ⟨fun g hg => (f g (hf g (by rcases hg with rfl | rfl <;> decide))).2.2.1 k, (f 40 (hf 40 (by decide))).2.2.2 k⟩⟩
theorem Sx.k (h : Sx M) (hc : mn M ≤ 601024) (hl : l ∈ arL) (ho : mR M 4201 l < mn M) : mk M (mR M 4201 l) = 55 ∧ 167 ≤ mR M 4201 l := by
  rcases (h l hl).2 with q | q
  · omega
  · exact ⟨q.1.2.2, q.1.1⟩
/-- what is in P is none of the static rows, nor of their arrays -/
theorem TP.nx (h : TP C T Mt M σ cs P) {o : Nat} (ho : P o) : (167 ≤ o ∧ o < mn M) ∧ ∀ l, l ∈ arL → o ≠ mR M 4201 l := ⟨(h.1 o ho).2.1, fun l hl z => (h.1 o ho).2.2.1 ⟨l, hl, z⟩⟩
/-- in a later state -/
theorem TP.mv (h : TP C T Mt M σ cs P) (hnf : cnf C ≤ 12) (F : Fz X M M') (hX : ∀ o, o < mn M → X o → ¬ P o ∧ mk M o ≠ 23) (hw : ∀ w, w < 38 + cm C → wc M' w = wc M w) (ha : ∀ l, l ∈ arL → mR M' 4201 l = mR M 4201 l ∨ mn M ≤ mR M' 4201 l) (hnm : mR M' 201 4 = mR M 201 4) (hz : Tz σ σ' ∧ Qz σ σ' ∧ Mz σ σ' ∧ Ez σ σ') (hcl : ∀ k, k < cs.length → (∀ f, f = 44 ∨ f = 45 ∨ f = 46 ∨ f = 47 → tA σ' f k = tA σ f k) ∧ tB σ' 41 k = tB σ 41 k) (hfn : ∀ k, k < cnf C → tA σ' 42 k = tA σ 42 k ∧ tA σ' 43 k = tA σ 43 k) : TP C T Mt M' σ' cs P := by
  obtain ⟨h1, h2, h3, h4⟩ := h
  have v : Wz C C P M M' σ σ' := Wz.of hnf F hX (fun o ho => (h1 o ho).2.1.2) hw hz (fun k hk => (hfn k hk).1)
  have hn := F.1
  refine ⟨fun o ho => ?_, fun k hk => (h2 k hk).wz v (fun _ z => z) (hcl k hk).1 (hcl k hk).2, fun k hk => (h3 k hk).wz v (fun _ z => z) hk (hfn k hk).2, h4⟩
  obtain ⟨a1, a2, a3, a4⟩ := h1 o ho
  refine ⟨a1, ⟨a2.1, by omega⟩, fun ⟨l, hl, z⟩ => ?_, by rw [hnm]; exact a4⟩
  rcases ha l hl with q | q
  · exact a3 ⟨l, hl, by rw [← q]; exact z⟩
  · omega
/-- static rows, when some objects were written -/
theorem Sx.mv (h : Sx M) (hc : mn M ≤ 601024) (h167 : 167 ≤ mn M) (F : Fz X M M') (ha : ∀ l, l ∈ arL → mR M' 4201 l = mR M 4201 l ∨ mR M' 4201 l = 4398046511104 ∨ (mn M ≤ mR M' 4201 l ∧ mR M' 4201 l < mn M' ∧ mk M' (mR M' 4201 l) = 55)) (hd : ∀ l l', l ∈ arL → l' ∈ arL → l' ≠ l → mn M ≤ mR M' 4201 l → mR M' 4201 l < mn M' → mR M' 4201 l' ≠ mR M' 4201 l) : Sx M' := by
  intro l hl
  have hl97 : l < 167 := by revert hl; simp only [List.mem_cons, List.not_mem_nil, or_false]; omega
  refine ⟨by rw [F.k (by omega)]; exact (h l hl).1, ?_⟩
  have hn := F.1
  rcases ha l hl with q | q | ⟨q1, q2, q3⟩
  · rw [q]
    rcases (h l hl).2 with g | ⟨⟨g1, g2, g3⟩, g4⟩
    · exact Or.inl g
    · refine Or.inr ⟨⟨g1, by omega, by rw [F.k g2]; exact g3⟩, fun l' hl' hne => ?_⟩
      rcases ha l' hl' with z | z | ⟨z1, _⟩
      · rw [z]; exact g4 l' hl' hne
      · omega
      · omega
  · exact Or.inl q
  · exact Or.inr ⟨⟨by omega, q2, q3⟩, fun l' hl' hne => hd l l' hl hl' hne q1 q2⟩
/-- the row of names shares nothing -/
theorem Sx.se (h : Sx M) (hT : TP C T Mt M σ cs P) (hc : mn M ≤ 601024) : Se C M := by
  have h95 := (h 95 (by decide)).2
  have hrow : ∀ k, k < cnf C → P (mR M 1001 (cfn C k)) ∧ (mR M 4201 (mR M 1001 (cfn C k)) ≠ 4398046511104 → P (mR M 4201 (mR M 1001 (cfn C k)))) := fun k hk => by
    obtain ⟨_, _, bs, _, _, b1, _⟩ := hT.2.2.1 k hk
    exact b1.2
  refine ⟨?_, fun k hk z => ?_, ?_⟩
  · rcases h95 with q | q
    · rw [q]; decide
    · omega
  · have := (hT.nx (hrow k hk).1).1
    omega
  · rcases h95 with q | ⟨⟨q1, q2, q3⟩, q4⟩
    · exact Or.inl q
    · refine Or.inr ⟨by omega, q4 89 (by decide) (by decide), q4 96 (by decide) (by decide), fun k hk => ?_⟩
      by_cases g : mR M 4201 (mR M 1001 (cfn C k)) = 4398046511104
      · omega
      · exact (hT.nx ((hrow k hk).2 g)).2 95 (by decide)
/-- nobody leans on the row of new classes -/
theorem nd97 (P0 : Pe C M σ i dep c s n) (h : Sx M) (hT : TP C T Mt M σ cs P) : ∀ o, o < mn M → (o = 97 ∨ o = mR M 4201 97) → ¬ Dp C M o := by
  have hc := P0.c6
  have h167 := P0.n167
  obtain ⟨L, W, _⟩ := P0.wb
  obtain ⟨fs, nfs, c1, c2, c3, c4, c5, c6⟩ := P0.en.2.2.2.1
  intro o ho z hd
  have k97 := (h 97 (by decide)).1
  have hk : mk M o = 22 ∧ o = 97 ∨ mk M o = 55 ∧ o = mR M 4201 97 ∧ 167 ≤ o := by
    rcases z with z | z
    · exact Or.inl ⟨by rw [z]; exact k97, z⟩
    · have := h.k hc (l := 97) (by decide) (by omega)
      exact Or.inr ⟨by rw [z]; exact this.1, z, by omega⟩
  have harr : ∀ l, l ∈ arL → l ≠ 97 → o ≠ mR M 4201 l := fun l hl hne q => by
    rcases hk with ⟨k1, k2⟩ | ⟨k1, k2, _⟩
    · have := (h.k hc hl (by omega)).1
      rw [← q, k1] at this; exact absurd this (by decide)
    · rcases (h 97 (by decide)).2 with g | g
      · omega
      · exact g.2 l hl hne (q.symm.trans k2)
  have hP : ¬ P o := fun hp => by
    have := hT.nx hp
    rcases z with z | z
    · omega
    · exact this.2 97 (by decide) z
  have hf : ∀ k, k < cnf C → P (cfn C k) ∧ P (mR M 1001 (cfn C k)) ∧ (mR M 4201 (mR M 1001 (cfn C k)) ≠ 4398046511104 → P (mR M 4201 (mR M 1001 (cfn C k)))) := fun k hk => by
    obtain ⟨a1, _, bs, _, _, b1, _⟩ := hT.2.2.1 k hk
    exact ⟨a1, b1.2⟩
  rcases hd with hd | hd | hd | hd | hd | hd | hd | hd | ⟨k, hk', hd⟩
  · omega
  · have := W.2.1
    rw [← hd] at this
    rcases hk with ⟨k1, _⟩ | ⟨k1, _⟩ <;> rw [k1] at this <;> exact absurd this (by decide)
  · exact harr 95 (by decide) (by decide) hd
  · rcases hk with ⟨k1, _⟩ | ⟨k1, _⟩ <;> rw [k1] at hd <;> exact absurd hd (by decide)
  · omega
  · omega
  · exact harr 89 (by decide) (by decide) hd
  · exact harr 96 (by decide) (by decide) hd
  · obtain ⟨f1, f2, f3⟩ := hf k hk'
    rcases hd with hd | hd | hd
    · exact hP (by rw [hd]; exact f1)
    · exact hP (by rw [hd]; exact f2)
    · exact hP (by rw [hd]; exact f3 (by omega))
/-- END ; and the class comes to the new ones -/
theorem cl_end {cur : Nat} (P0 : Pe C M σ i 0 c s n) (hcr : car C = 0) (hc : 8 ≤ c) (hs : 4000 ≤ s) (hS : Sx M) (hT : TP C T Mt M σ cs P) (hnf : cnf C ≤ 12) (L97 : Ls M 97 ns) (hlen : ns.length ≤ 24) (hcur : mR M 411 90 = cur) (hg : gR M cur) :
    (∃ M' σ', (obS (K_X2_key 3 M) (fun w66 M62 => some (.inr w66, M62)) fun _ M62 => obS (K_X2_sign 59 M62) (fun w71 M67 => some (.inr w71, M67)) fun _ M67 => ob (K_J2_add 97 (mR M67 411 90) M67) fun _ M72 => some ((.inl () : Unit ⊕ Nat), M72)) = some (.inl (), M') ∧ (ob (F_passWord 6647396 σ) fun _ s78 => ob (F_pass 59 s78) fun _ s82 => some ((), s82)) = some ((), σ') ∧ Pe C M' σ' (i + 2) 0 c s n ∧ Fz (fun o => o = 90 ∨ o = 97 ∨ o = mR M 4201 97) M M' ∧ Ls M' 97 (ns ++ [cur]) ∧ Sx M' ∧ (∀ l, l ∈ arL → l ≠ 97 → mR M' 4201 l = mR M 4201 l) ∧ (mR M' 4201 97 = mR M 4201 97 ∨ mn M ≤ mR M' 4201 97) ∧ Tz σ σ' ∧ Ft sF_txt σ σ' ∧ Tw σ σ' ∧ (tI σ' 49 = tI σ 49 ∧ tI σ' 48 = tI σ 48 ∧ tI σ' 58 = tI σ 58 ∧ tI σ' 65 = tI σ 65 ∧ tI σ' 72 = tI σ 72) ∧ i < ct C) ∨
    (∃ w M' σ', (obS (K_X2_key 3 M) (fun w66 M62 => some (.inr w66, M62)) fun _ M62 => obS (K_X2_sign 59 M62) (fun w71 M67 => some (.inr w71, M67)) fun _ M67 => ob (K_J2_add 97 (mR M67 411 90) M67) fun _ M72 => some ((.inl () : Unit ⊕ Nat), M72)) = some (.inr w, M') ∧ (ob (F_passWord 6647396 σ) fun _ s78 => ob (F_pass 59 s78) fun _ s82 => some ((), s82)) = some ((), σ') ∧ FB C M σ M' w σ' ∧ Tw σ σ') := by
  have h167 := P0.n167
  have twN : ∀ {s s' : TS}, F_next s = some ((), s') → Tw s s' := fun h => Tw.ft (fS_F_next _ _ _ h) (by decide)
  have twP : ∀ {s s' : TS} {r : Unit}, F_passWord 6647396 s = some (r, s') → Tw s s' := fun h => Tw.ft (fS_F_passWord _ _ _ _ h) (by decide)
  have twQ : ∀ {s s' : TS} {r : Unit}, F_pass 59 s = some (r, s') → Tw s s' := fun h => Tw.ft (fS_F_pass _ _ _ _ h) (by decide)
  have cnt : ∀ {s s' : TS} {S : List Nat}, Ft S s s' → S.contains 49 = false → S.contains 48 = false → ix (tI s 49) ≤ ix (tI s' 49) ∧ ix (tI s 48) ≤ ix (tI s' 48) := fun f h1 h2 => ⟨by rw [(f 49 h1).1]; exact Nat.le_refl _, by rw [(f 48 h2).1]; exact Nat.le_refl _⟩
  have fP : ∀ {s s' : TS} {r : Unit}, F_passWord 6647396 s = some (r, s') → ix (tI s 49) ≤ ix (tI s' 49) ∧ ix (tI s 48) ≤ ix (tI s' 48) := fun h => cnt (fS_F_passWord _ _ _ _ h) (by decide) (by decide)
  rcases z_passKey P0 (by omega) (by omega) (j := 3) (x := 3) (y := 6647396) rfl (by decide) (by decide) with ⟨_, y1, σ1, a1, a2, P1, E1, hi1, _, n1⟩ | ⟨w, M1, y1, σ1, a1, a2, fb⟩
  rotate_left
  · right
    have hb := fb.2.2.2.1
    have e2 : F_pass 59 σ1 = some ((), σ1) := by
      unfold F_pass
      rw [t_isBad1 hb, ob_some, ifF (show ¬ (1 : Int32) = 0 from by decide)]
    rw [a1, obS_inr, a2, ob_some, e2, ob_some]
    exact ⟨w, M1, σ1, rfl, rfl, fb, twP a2⟩
  rw [a1, obS_inl, a2, ob_some]
  rcases z_pass P1 (by omega) (by omega) (x := 59) (by decide) with ⟨_, y2, σ2, b1, b2, P2, E2, hi2, _, n2⟩ | ⟨w, M2, y2, σ2, b1, b2, fb⟩
  rotate_left
  · right
    rw [b1, obS_inr, b2, ob_some]
    exact ⟨w, M2, σ2, rfl, rfl, fb.tr E1, (twP a2).tr (twQ b2) (fP a2).1 (fP a2).2⟩
  left
  rw [b1, obS_inl, b2, ob_some]
  obtain ⟨M2, hM2⟩ : ∃ M2, M2 = msI (msI M 405 90 (nI (i + 1))) 405 90 (nI (i + 1 + 1)) := ⟨_, rfl⟩
  have E12 := E1.tr E2
  rw [← hM2] at P2 E12 ⊢
  have n12 : mn M2 = mn M := by rw [hM2]; rfl
  have m12 : ms M2 = ms M := by rw [hM2]; rfl
  have r2 : ∀ g o, mR M2 g o = mR M g o := fun g o => by rw [hM2]; rfl
  have k2 : ∀ o, mk M2 o = mk M o := fun o => by rw [hM2]; rfl
  have hc6 := P0.c6
  have L2 : Ls M2 97 ns := L97.fz E12.1 (by omega) (fun o z => by rw [z, P0.en.1]; exact ⟨by decide, by decide⟩)
  have S2 : Sx M2 := fun l hl => by rw [k2, r2, k2, n12]; obtain ⟨q1, q2⟩ := hS l hl; exact ⟨q1, by rcases q2 with q | ⟨q, q'⟩; exact Or.inl q; exact Or.inr ⟨q, fun l' h1 h2 => by rw [r2]; exact q' l' h1 h2⟩⟩
  have hw2 : ∀ w, wc M2 w = wc M w := fun w => by rw [hM2]; rfl
  have fr1 := fS_F_next _ _ _ n1
  have fr2 := fS_F_next _ _ _ n2
  have tw12 : Tw σ σ2 := (twN n1).tr (twN n2) (cnt fr1 (by decide) (by decide)).1 (cnt fr1 (by decide) (by decide)).2
  have T2 : TP C T Mt M2 σ2 cs P := hT.mv hnf E12.1 (fun o _ z => ⟨fun hp => by have := (hT.nx hp).1; omega, by rw [z, P0.en.1]; decide⟩) (fun w _ => hw2 w) (fun l _ => Or.inl (r2 _ _)) (r2 _ _) ⟨E12.2.2.2.1, (Qz.ft fr1 (by decide)).tr (Qz.ft fr2 (by decide)), tw12.1.2.2.1, tw12.1.2.2.2⟩ (fun k _ => ⟨fun f hf => by rcases hf with rfl | rfl | rfl | rfl <;> rw [(fr2 _ rfl).2.2.1, (fr1 _ rfl).2.2.1], by rw [(fr2 _ rfl).2.2.2, (fr1 _ rfl).2.2.2]⟩) (fun k _ => ⟨by rw [(fr2 _ rfl).2.2.1, (fr1 _ rfl).2.2.1], by rw [(fr2 _ rfl).2.2.1, (fr1 _ rfl).2.2.1]⟩)
  have hg2 : gR M2 cur := hg.kp (by omega) (fun o _ => k2 o)
  have h97 : mR M2 4201 97 ≠ 97 := by
    rcases (S2 97 (by decide)).2 with q | q
    · rw [q]; decide
    · omega
  have cap := P2.cap (k := 1000) (by omega)
  obtain ⟨M3, c1, c2, c3, c4, c5, c6, c7, c8⟩ := ls_add L2 hg2 (by omega) h97 (by omega) ⟨cap.1, by omega⟩
  have hnn : mn M2 ≤ mn M3 ∧ mn M3 ≤ mn M2 + 1 ∧ ms M3 ≤ ms M2 + 60 := by
    rcases c4 with ⟨_, q1, q2⟩ | ⟨_, q1, q2, _⟩ <;> omega
  have F3 : Fz (fun o => o = 97 ∨ o = mR M2 4201 97) M2 M3 := ⟨hnn.1, c5, fun x hx hX => c3 x hx (fun z => hX (Or.inl z)) (fun z => hX (Or.inr z.1))⟩
  have nd := nd97 P2 S2 T2
  have P3 : Pe C M3 σ2 (i + 2) 0 c s n := (P2.mu (c' := c) (s' := s) hcr F3 nd (by omega) (by omega)).wk (Nat.le_refl _) (Nat.le_refl _) (by omega)
  have hr2 : mR M2 411 90 = cur := by rw [r2]; exact hcur
  have l167 : ∀ l, l ∈ arL → l < 167 := fun l hl => by revert hl; simp only [List.mem_cons, List.not_mem_nil, or_false]; omega
  have ol : ∀ l, l ∈ arL → l ≠ 97 → mR M3 4201 l = mR M2 4201 l := fun l hl hne => (F3.so (by have := l167 l hl; omega) (fun z => by
    rcases z with z | z
    · exact hne z
    · have hlt : mR M2 4201 97 < mn M2 := by have := l167 l hl; omega
      have := (S2.k (by omega) (l := 97) (by decide) hlt).2
      have := l167 l hl
      omega)).r 4201
  have hr97 : mR M3 4201 97 = mR M2 4201 97 ∨ mR M3 4201 97 = mn M2 := by
    rcases c4 with ⟨q, _⟩ | ⟨q, _⟩
    · exact Or.inl q
    · exact Or.inr q
  have S3 : Sx M3 := by
    refine S2.mv (by omega) (by omega) F3 (fun l hl => ?_) (fun l l' hl hl' hne hm hlt => ?_)
    · by_cases q : l = 97
      · subst q
        rcases hr97 with g | g
        · exact Or.inl g
        · have hlt : mn M2 < mn M3 := by
            rcases c2.lt with z | z
            · rw [g] at z; omega
            · omega
          exact Or.inr (Or.inr ⟨by omega, by omega, c2.k55 P3.c6 (by omega)⟩)
      · exact Or.inl (ol l hl q)
    · by_cases q : l = 97
      · subst q
        rw [ol l' hl' hne]
        intro z
        rcases (S2 l' hl').2 with g | g
        · have := P3.c6; omega
        · omega
      · rw [ol l hl q] at hm
        rcases (S2 l hl).2 with g | g
        · rw [ol l hl q] at hlt; have := P3.c6; omega
        · omega
  rw [hr2, c1, ob_some]
  refine ⟨M3, σ2, rfl, rfl, P3, (E12.1.mono (fun o _ z => Or.inl z)).tr2 F3 (fun o _ z => by rw [r2] at z; exact Or.inr z), c2, S3, fun l hl hne => by rw [ol l hl hne, r2], ?_, E12.2.2.2.1, E12.2.2.2.2, tw12, ⟨by rw [(fr2 _ rfl).1, (fr1 _ rfl).1], by rw [(fr2 _ rfl).1, (fr1 _ rfl).1], by rw [(fr2 _ rfl).1, (fr1 _ rfl).1], by rw [(fr2 _ rfl).1, (fr1 _ rfl).1], by rw [(fr2 _ rfl).1, (fr1 _ rfl).1]⟩, hi1⟩
  rcases hr97 with g | g
  · left; rw [g, r2]
  · right; omega
end TEXT
