/-! Layer B: equations: what both readers lean on; rows that are filled while names of fors come and go -/
set_option maxRecDepth 100000
/-- the row of the names of fors shares nothing with what else is needed -/
def Se (C : PC) (M : CM) : Prop := mR M 4201 95 ≠ 95 ∧ (∀ k, k < cnf C → mR M 1001 (cfn C k) ≠ 95) ∧ (mR M 4201 95 = 4398046511104 ∨ 98 ≤ mR M 4201 95 ∧ mR M 4201 89 ≠ mR M 4201 95 ∧ mR M 4201 96 ≠ mR M 4201 95 ∧ ∀ k, k < cnf C → mR M 4201 (mR M 1001 (cfn C k)) ≠ mR M 4201 95)
def Me (C : PC) (M : CM) (σ : TS) (i dep : Nat) : Prop := ((mk M (mR M 411 90) = 10 ∧ 167 ≤ mR M 411 90) ∧ mR M 411 90 < mn M) ∧ (∃ k, mI M 1804 (mR M 411 90) = nI k ∧ tI σ 73 = nI k ∧ k ≤ 40) ∧ (∃ E, tI σ 72 = nI E ∧ 1 ≤ E ∧ E + (ct C - i) ≤ cX C) ∧ (cnl C ≤ dep ∧ car C = 0 ∧ cl C ≤ 1280) ∧ Se C M
/-- functions' objects -/
def Df (C : PC) (M : CM) (o : Nat) : Prop := o = 89 ∨ o = 96 ∨ o = mR M 4201 89 ∨ o = mR M 4201 96 ∨ ∃ k, k < cnf C ∧ (o = cfn C k ∨ o = mR M 1001 (cfn C k) ∨ o = mR M 4201 (mR M 1001 (cfn C k)))
def Dp (C : PC) (M : CM) (o : Nat) : Prop := o ≤ 96 ∨ o = mR M 201 4 ∨ o = mR M 4201 95 ∨ mk M o = 23 ∨ Df C M o
def LsQ (Mb M : CM) (l : Nat) (xs : List Nat) : Prop := LsB Mb M l xs ∧ (mR M 4201 l = 4398046511104 ∨ mR M 4201 l ≠ mR M 4201 95)
section DEP
variable {C C' : PC} {M M' M0 M1 M2 Mb : CM} {σ σ' σ0 σ1 σ2 σb s1 : TS} {i dep c s n i' dep' c' s' n' w ib depb cb' sb' nb' l o p : Nat} {ps xs : List Nat} {X : Nat → Prop}
theorem Ls.so2 (h : Ls M l xs) (F : Fz X M M') (hl : So M M' l) (ha : mR M 4201 l < mn M → So M M' (mR M 4201 l)) : Ls M' l xs := h.kp F.1 (fun o ho => F.k ho) hl (fun z => by
  rcases h.2.2.2.2 with ⟨q, _⟩ | ⟨q, _⟩
  · exact absurd q z
  · exact ha q.1)
theorem Ls.k55 (h : Ls M l xs) (hc : mn M ≤ 601024) (ho : mR M 4201 l < mn M) : mk M (mR M 4201 l) = 55 := by
  rcases h.2.2.2.2 with ⟨q, _⟩ | ⟨_, q, _⟩
  · omega
  · exact q
theorem Ls.lt (h : Ls M l xs) : mR M 4201 l = 4398046511104 ∨ mR M 4201 l < mn M := by
  rcases h.2.2.2.2 with ⟨q, _⟩ | ⟨q, _⟩
  · exact Or.inl q
  · exact Or.inr q.1
theorem FuR.so (h : FuR C M σ) (F : Fz X M M') (so : ∀ o, o < mn M → Df C M o → So M M' o) (h167 : 167 ≤ mn M) (hw : ∀ w, wc M' w = wc M w) (h48 : tI σ' 48 = tI σ 48) (h42 : ∀ j, tA σ' 42 j = tA σ 42 j) (h40 : ∀ j, tB σ' 40 j = tB σ 40 j) : FuR C M' σ' := by
  obtain ⟨fs, nfs, c1, c2, c3, c4, c5, c6⟩ := h
  have hn := F.1
  refine ⟨fs, nfs, c1.so2 F (so 89 (by omega) (Or.inl rfl)) (fun z => so _ z (Or.inr (Or.inr (Or.inl rfl)))), c2.so2 F (so 96 (by omega) (Or.inr (Or.inl rfl))) (fun z => so _ z (Or.inr (Or.inr (Or.inr (Or.inl rfl))))), c3, c4, by rw [h48]; exact c5, fun k hk => ?_⟩
  obtain ⟨d1, ⟨e1, e2, e3⟩, ⟨w, f1, f2, f3, f4⟩, bs, g1, g2, g3, g4, g5⟩ := c6 k hk
  have s := so (cfn C k) e2 (Or.inr (Or.inr (Or.inr (Or.inr ⟨k, hk, Or.inl rfl⟩))))
  have sl := so _ g2 (Or.inr (Or.inr (Or.inr (Or.inr ⟨k, hk, Or.inr (Or.inl rfl)⟩))))
  exact ⟨d1, ⟨by rw [s.k]; exact e1, by omega, e3⟩, ⟨w, by rw [s.i]; exact f1, f2, f3, by rw [h40, hw]; exact f4⟩, bs, by rw [s.r]; exact g1.so2 F sl (fun z => so _ z (Or.inr (Or.inr (Or.inr (Or.inr ⟨k, hk, Or.inr (Or.inr rfl)⟩))))), by rw [s.r]; omega, by rw [h42]; exact g3, g4, g5⟩
/-- what nobody leans on may be written -/
theorem Pe.mu (P : Pe C M σ i dep c s n) (hcr : car C = 0) (F : Fz X M M') (hX : ∀ o, o < mn M → X o → ¬ Dp C M o) (h1 : mn M' + c' ≤ mn M + c) (h2 : ms M' + s' ≤ ms M + s) : Pe C M' σ i dep c' s' n := by
  have P0 := P
  have h167 := P.n167
  obtain ⟨L, W, h1280⟩ := P.wb
  obtain ⟨a1, ⟨b1, b2, b3, b4, b5⟩, a3, ⟨a4, a5, a6, a7⟩, a8⟩ := P
  have so : ∀ o, o < mn M → Dp C M o → So M M' o := fun o ho hd => F.so ho (fun z => hX o ho z hd)
  have sl : ∀ o, o ≤ 96 → So M M' o := fun o ho => so o (by omega) (Or.inl ho)
  have h90 := sl 90 (by decide)
  have hw : ∀ w, wc M' w = wc M w := wc_so (sl 4 (by decide)) (so _ W.2.2.2.2.2.2.2.1 (Or.inr (Or.inl rfl)))
  have hB : ∀ o w, BxR M (cm C) o w → BxR M' (cm C) o w := fun o w h => h.fz (X := fun o => o < mn M ∧ X o) F.lt (fun o z q => hX o z.1 z.2 (Or.inr (Or.inr (Or.inr (Or.inl q)))))
  have F' : Fz (fun o => o < mn M ∧ X o) M M' := F.lt
  refine ⟨a1.go F' (fun o z => Or.inr ⟨Nat.le_of_not_lt (fun q => hX o z.1 z.2 (Or.inl (by omega))), fun q => hX o z.1 z.2 (Or.inr (Or.inl q))⟩) (h90.i _) (by rw [h90.i]; exact a1.2.2.1.2.1) a1.2.2.1.2.2 a1.2.2.2.1.1 a1.2.2.2.1.2.1 a1.2.2.2.1.2.2.1 a1.2.2.2.1.2.2.2 a1.2.2.2.2.1 a1.2.2.2.2.2, ⟨by rw [h90.k]; exact b1, Nat.le_trans b2 F.1, ?_, b4.so F (fun o ho hd => so o ho (Or.inr (Or.inr (Or.inr (Or.inr hd))))) h167 hw rfl (fun _ => rfl) (fun _ => rfl), ?_⟩, ⟨by rw [h90.i]; exact a3.1, a3.2⟩, ⟨by omega, by omega, a6, a7⟩, a8⟩
  · obtain ⟨bs, c1, c2, c3, c4, c5⟩ := b3
    exact ⟨bs, c1.so2 F (sl 95 (by decide)) (fun z => so _ z (Or.inr (Or.inr (Or.inl rfl)))), c2, c3, c4, fun k hk => ⟨hB _ _ (c5 k hk).1, by rw [hw]; exact (c5 k hk).2⟩⟩
  · rcases b5 with ⟨q1, q2, q3⟩ | ⟨q, _⟩
    · exact Or.inl ⟨q1, by rw [h90.r]; exact q2, q3⟩
    · omega
theorem Pe.c6 (P : Pe C M σ i dep c s n) : mn M ≤ 601024 := (P.cap (k := 0) (Nat.zero_le _)).1
theorem Pe.l95 (P : Pe C M σ i dep c s n) : ∃ bs, Ls M 95 bs := by
  obtain ⟨bs, c1, _⟩ := P.en.2.2.1
  exact ⟨bs, c1⟩
/-- the kinds of what is leant on -/
theorem Dp.kd (P : Pe C M σ i dep c s n) (h : Dp C M o) (ho : o < mn M) (h98 : 98 ≤ o) : mk M o = 53 ∨ mk M o = 55 ∨ mk M o = 23 ∨ mk M o = 6 ∨ mk M o = 22 := by
  have hc := P.c6
  obtain ⟨L, W, _⟩ := P.wb
  obtain ⟨fs, nfs, c1, c2, c3, c4, c5, c6⟩ := P.en.2.2.2.1
  obtain ⟨bs, l95⟩ := P.l95
  rcases h with h | h | h | h | h | h | h | h | ⟨k, hk, h⟩
  · omega
  · rw [h]; exact Or.inl W.2.1
  · rw [h] at ho ⊢; exact Or.inr (Or.inl (l95.k55 hc ho))
  · exact Or.inr (Or.inr (Or.inl h))
  · omega
  · omega
  · rw [h] at ho ⊢; exact Or.inr (Or.inl (c1.k55 hc ho))
  · rw [h] at ho ⊢; exact Or.inr (Or.inl (c2.k55 hc ho))
  · obtain ⟨d1, ⟨e1, e2, e3⟩, ⟨w, f1, f2, f3, f4⟩, bs, g1, g2, g3, g4, g5⟩ := c6 k hk
    rcases h with h | h | h
    · rw [h]; exact Or.inr (Or.inr (Or.inr (Or.inl e1)))
    · rw [h]; exact Or.inr (Or.inr (Or.inr (Or.inr g1.1)))
    · rw [h] at ho ⊢; exact Or.inr (Or.inl (g1.k55 hc ho))
/-- what was made since a base, and is leant on: names of fors alone -/
theorem Dp.old (Pb : Pe C Mb σb ib depb cb' sb' nb') (hM : Me C Mb σb ib depb) (K : Ek Mb M) (hc : mn M ≤ 601024) (h : Dp C M o) (ho : mn Mb ≤ o) (h2 : o < mn M) : o = mR M 4201 95 ∨ mk M o = 23 := by
  have h167 := Pb.n167
  have hcb := Pb.c6
  obtain ⟨L, W, _⟩ := Pb.wb
  obtain ⟨fs, nfs, c1, c2, c3, c4, c5, c6⟩ := Pb.en.2.2.2.1
  obtain ⟨bs, l95⟩ := Pb.l95
  obtain ⟨⟨⟨m1, m2⟩, m3⟩, -, -, -, -, s2, -⟩ := hM
  have sx : ∀ o, o < mn Mb → o ≠ 90 → o ≠ 95 → mk Mb o ≠ 55 → mk Mb o ≠ 10 → So Mb M o := fun o h1 h2 h3 h4 h5 => K.1.so h1 (fun z => by
    rcases z with z | z | z | z
    · exact h2 z
    · exact h3 z
    · rw [z] at h1 h4; exact h4 (l95.k55 hcb h1)
    · rw [z] at h5; exact h5 m1)
  have k4 : mk Mb 4 ≠ 55 ∧ mk Mb 4 ≠ 10 := by
    obtain ⟨⟨⟨hK, -⟩, -⟩, -⟩ := Pb
    rw [hK.1.2.2.2.2.2]; exact ⟨by decide, by decide⟩
  rcases h with h | h | h | h | h | h | h | h | ⟨k, hk, h⟩
  · omega
  · rw [(sx 4 (by omega) (by decide) (by decide) k4.1 k4.2).r] at h
    have := W.2.2.2.2.2.2.2.1
    omega
  · exact Or.inl h
  · exact Or.inr h
  · omega
  · omega
  · rw [(sx 89 (by omega) (by decide) (by decide) (by rw [c1.1]; decide) (by rw [c1.1]; decide)).r] at h
    rcases c1.lt with q | q <;> omega
  · rw [(sx 96 (by omega) (by decide) (by decide) (by rw [c2.1]; decide) (by rw [c2.1]; decide)).r] at h
    rcases c2.lt with q | q <;> omega
  · obtain ⟨d1, ⟨e1, e2, e3⟩, ⟨w, f1, f2, f3, f4⟩, bs, g1, g2, g3, g4, g5⟩ := c6 k hk
    have k90 := Pb.en.1
    have s := sx (cfn C k) e2 (fun z => by rw [z, k90] at e1; exact absurd e1 (by decide)) (fun z => by rw [z, l95.1] at e1; exact absurd e1 (by decide)) (by rw [e1]; decide) (by rw [e1]; decide)
    rcases h with h | h | h
    · omega
    · rw [s.r] at h; omega
    · have sl := sx _ g2 (fun z => by have := g1.1; rw [z, k90] at this; exact absurd this (by decide)) (s2 k hk) (by rw [g1.1]; decide) (by rw [g1.1]; decide)
      rw [s.r, sl.r] at h
      rcases g1.lt with q | q <;> omega
theorem Ek.re (K : Ek Mb M) (F : Fz X M M') (hX : ∀ o, X o → o < mn M → mn Mb ≤ o) (h167 : 167 ≤ mn Mb) (hmo : mR Mb 411 90 < mn Mb) : Ek Mb M' := by
  obtain ⟨k1, k2, k3, k4⟩ := K
  have hn := k1.1
  have so : ∀ o, o < mn Mb → So M M' o := fun o ho => F.so (by omega) (fun z => by have := hX o z (by omega); omega)
  refine ⟨k1.tr2 F.lt (fun o ho z => by have := hX o z.2 z.1; omega), by rw [(so 95 (by omega)).r]; exact k2, fun g => by rw [(so 90 (by omega)).r]; exact k3 g, fun a b => ?_⟩
  have s := so _ hmo
  exact ⟨fun g => by rw [s.r]; exact (k4 a b).1 g, fun g hg => by rw [s.i]; exact (k4 a b).2 g hg⟩
/-- one more in a row made since the base -/
theorem z_addQ (Pb : Pe C Mb σ0 ib depb cb' sb' nb') (hM : Me C Mb σ0 ib depb) (E : Ee Mb σb M σ) (P : Pe C' M σ i dep c s n) (hD : ∀ o, Dp C' M o → Dp C M o) (hcr : car C' = 0) (hL : LsQ Mb M l ps) (hx : gR M p) (hn : ps.length ≤ 1281) (hc : 1 ≤ c) (hs : 1932 ≤ s) : ∃ M', K_J2_add l p M = some (1, M') ∧ LsQ Mb M' l (ps ++ [p]) ∧ Pe C' M' σ i dep (c - 1) (s - 1932) n ∧ Ee Mb σb M' σ ∧ Fz (fun o => o = l ∨ o = mR M 4201 l) M M' ∧ mn M' ≤ mn M + 1 ∧ (mR M' 4201 l = mR M 4201 l ∨ mR M' 4201 l = mn M) := by
  obtain ⟨⟨h1, ⟨h2, h3⟩, h4, h5⟩, h6⟩ := hL
  have cap := P.cap hs
  have h167 := Pb.n167
  have hc6 := P.c6
  obtain ⟨bs, l95⟩ := P.l95
  obtain ⟨M', a1, a2, a3, a4, a5, a6, a7, a8⟩ := ls_add h1 hx h3 h4 (by omega) ⟨cap.1, by omega⟩
  have hnn : mn M ≤ mn M' ∧ mn M' ≤ mn M + 1 ∧ ms M' ≤ ms M + 1932 := by
    rcases a4 with ⟨_, q1, q2⟩ | ⟨_, q1, q2, _⟩ <;> omega
  have F : Fz (fun o => o = l ∨ o = mR M 4201 l) M M' := ⟨hnn.1, a5, fun x hx hX => a3 x hx (fun z => hX (Or.inl z)) (fun z => hX (Or.inr z.1))⟩
  have harr : mR M 4201 l < mn M → mn Mb ≤ mR M 4201 l := fun z => h5 (fun e => by rw [e] at z; omega)
  have hB : ∀ o, (o = l ∨ o = mR M 4201 l) → o < mn M → mn Mb ≤ o := fun o z ho => by
    rcases z with z | z
    · omega
    · rw [z] at ho ⊢; exact harr ho
  have P' := P.mu (c' := c - 1) (s' := s - 1932) hcr F (fun o ho z hd => by
    have hd := Dp.old Pb hM E.1 hc6 (hD o hd) (hB o z ho) ho
    rcases z with z | z
    · rcases hd with q | q
      · rw [z] at q ho
        have := l95.k55 hc6 (by rw [← q]; exact ho)
        rw [← q, h1.1] at this
        exact absurd this (by decide)
      · rw [z, h1.1] at q; exact absurd q (by decide)
    · rw [z] at ho hd
      rcases hd with q | q
      · rcases h6 with g | g
        · omega
        · exact g q
      · rw [h1.k55 hc6 ho] at q; exact absurd q (by decide)) (by omega) (by omega)
  have E' : Ee Mb σb M' σ := ⟨E.1.re F hB h167 hM.1.2, E.2⟩
  have s95 : So M M' 95 := F.so (by have := P.n167; omega) (fun z => by
    rcases z with z | z
    · omega
    · rcases h1.lt with q | q
      · omega
      · have := harr q; omega)
  have hr : mR M' 4201 l = mR M 4201 l ∨ mR M' 4201 l = mn M := by
    rcases a4 with ⟨q, _⟩ | ⟨q, _⟩
    · exact Or.inl q
    · exact Or.inr q
  refine ⟨M', a1, ⟨⟨a2, ⟨h2, by omega⟩, a8, fun z => ?_⟩, ?_⟩, P', E', F, hnn.2.1, hr⟩
  · rcases hr with q | q
    · rw [q] at z ⊢; exact h5 z
    · rw [q]; exact E.1.1.1
  · rw [s95.r]
    rcases hr with q | q
    · rw [q]; exact h6
    · right
      rw [q]
      rcases l95.lt with g | g <;> omega
end DEP
