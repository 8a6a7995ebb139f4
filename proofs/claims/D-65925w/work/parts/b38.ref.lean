/-! Layer B: references -/
set_option maxRecDepth 100000
/-- behind an item of a path -/
def tlR (f o : Nat) (M : CM) : Option ((Unit ⊕ (Nat ⊕ Nat)) × CM) := ob (K_X2_take 46 M) fun r43 M42 => if r43 = 0 then some (.inl (), M42) else KL_X2_ref_21 f o M42
theorem ref_eq (f o : Nat) (M : CM) : KL_X2_ref_21 (f + 1) o M = (if mn M ≤ 601024 ∧ ms M + 4 ≤ 7293034 then
    obS (K_X2_name (mnew M 9 0 4)) (fun w26 M22 => some (.inr (.inr w26), M22)) fun r23 M22 =>
    if ¬ mn M = 0 then
    ob (K_X9_init (mn M) r23 M22) fun _ M28 =>
    if mk M28 o = 8 then
    if mk M28 (mR M28 1405 o) = 22 then
    ob (K_J2_add (mR M28 1405 o) (mn M) M28) fun _ M34 => sqI (mn M) M34 (tlR f o)
    else none
    else none
    else none
    else none) := by
  rw [KL_X2_ref_21]
  rfl
section REF
variable {C : PC} {M M' Mb : CM} {σ σ' σb : TS} {i ib dep depb c s n c' s' cb' sb' nb' p q o l : Nat} {ps : List Nat}
/-- a list that was made since the base -/
def LsB (Mb M : CM) (l : Nat) (ps : List Nat) : Prop := Ls M l ps ∧ (mn Mb ≤ l ∧ l < mn M) ∧ mR M 4201 l ≠ l ∧ (mR M 4201 l ≠ 4398046511104 → mn Mb ≤ mR M 4201 l)
theorem LsB.kp {X : Nat → Prop} (h : LsB Mb M l ps) (F : Fz X M M') (h1 : ¬ X l) (h2 : ¬ X (mR M 4201 l)) : LsB Mb M' l ps := by
  obtain ⟨a1, a2, a3, a4⟩ := h
  have s1 := F.so a2.2 h1
  refine ⟨a1.kp F.1 (fun o ho => F.k ho) s1 (fun z => ?_), ⟨a2.1, Nat.lt_of_lt_of_le a2.2 F.1⟩, by rw [s1.r]; exact a3, by rw [s1.r]; exact a4⟩
  rcases a1.2.2.2.2 with ⟨q, _⟩ | ⟨q1, _⟩
  · exact absurd q z
  · exact F.so q1.1 h2
/-- one more in a list made since the base -/
theorem z_add (Pb : Pe C Mb σb ib depb cb' sb' nb') (E : Es Mb σb M σ) (P : Pe C M σ i dep c s n) (hL : LsB Mb M l ps) (hx : gR M p) (hn : ps.length ≤ 1281) (hc : 1 ≤ c) (hs : 1932 ≤ s) : ∃ M', K_J2_add l p M = some (1, M') ∧ LsB Mb M' l (ps ++ [p]) ∧ Pe C M' σ i dep (c - 1) (s - 1932) n ∧ Es Mb σb M' σ ∧ Fz (fun o => o = l ∨ o = mR M 4201 l) M M' ∧ mn M' ≤ mn M + 1 := by
  obtain ⟨h1, ⟨h2, h3⟩, h4, h5⟩ := hL
  have cap := P.cap hs
  obtain ⟨M', a1, a2, a3, a4, a5, a6, a7, a8⟩ := ls_add h1 hx h3 h4 (by omega) ⟨cap.1, by omega⟩
  have hnn : mn M ≤ mn M' ∧ mn M' ≤ mn M + 1 ∧ ms M' ≤ ms M + 1932 := by
    rcases a4 with ⟨_, q1, q2⟩ | ⟨_, q1, q2, _⟩ <;> omega
  have F : Fz (fun o => o = l ∨ o = mR M 4201 l) M M' := ⟨hnn.1, a5, fun x hx hX => a3 x hx (fun z => hX (Or.inl z)) (fun z => hX (Or.inr z.1))⟩
  have harr : mR M 4201 l < mn M → mn Mb ≤ mR M 4201 l := fun z => h5 (fun e => by rw [e] at z; omega)
  obtain ⟨P', E'⟩ := Pb.re (M' := M') (X := fun o => o < mn M ∧ (o = l ∨ o = mR M 4201 l)) E P ⟨F.1, F.2.1, fun x hx hX => F.2.2 x hx (fun z => hX ⟨hx, z⟩)⟩ (fun o z => by
    rcases z.2 with rfl | e
    · exact h2
    · rw [e]; exact harr (by rw [← e]; exact z.1)) (c' := c - 1) (s' := s - 1932) (by omega) (by omega)
  refine ⟨M', a1, ⟨a2, ⟨h2, by omega⟩, a8, fun z => ?_⟩, P', E', F, hnn.2.1⟩
  rcases a4 with ⟨q, _, _⟩ | ⟨q, _, _, _⟩
  · rw [q] at z ⊢; exact h5 z
  · rw [q]; exact Nat.le_trans E.1.1 (Nat.le_refl _)
/-- an item of a path -/
theorem ref_core (Pb : Pe C Mb σb ib depb cb' sb' nb') (E : Es Mb σb M σ) (P : Pe C M σ i dep c s n) (hc : 4 ≤ c) (hs : 16 ≤ s) (hn : 2 ≤ n) (ho : mn Mb ≤ o ∧ o < mn M) (hko : mk M o = 8) (hl : mR M 1405 o = l) (hL : LsB Mb M l ps) (hps : ps.length ≤ i) :
    (∃ w σ1 σ2 M', (38 ≤ w ∧ w < 38 + cm C) ∧ F_passName σ = some (wc M w, σ1) ∧ F_next σ = some ((), σ1) ∧ F_newPart (wc M w) σ1 = some (nI (tQ σ), σ2) ∧ (∀ f, KL_X2_ref_21 (f + 1) o M = sqI (mn M) M' (tlR f o)) ∧ Pe C M' σ2 (i + 1) dep (c + 8) (s + 64) (n + 2) ∧ Es Mb σb M' σ2 ∧ (tQ σ2 = tQ σ + 1 ∧ tQ σ < 7000 ∧ 1 ≤ tQ σ ∧ tQ σb ≤ tQ σ) ∧ (tB σ2 29 (tQ σ) = wc M w ∧ tA σ2 31 (tQ σ) = 0 ∧ tA σ2 32 (tQ σ) = 0 ∧ tA σ2 33 (tQ σ) = 0) ∧ Tz σ σ2 ∧ LsB Mb M' l (ps ++ [mn M]) ∧ Fz (fun x => x = 90 ∨ x = l ∨ x = mR M 4201 l) M M' ∧ (mk M' (mn M) = 9 ∧ mI M' 1600 (mn M) = nI w ∧ mI M' 1601 (mn M) = 0 ∧ mI M' 1602 (mn M) = -1 ∧ mI M' 1603 (mn M) = 0) ∧ mn M < mn M' ∧ i < ct C) ∨
    (∃ w M' y σ', (∀ f, KL_X2_ref_21 (f + 1) o M = some (.inr (.inr w), M')) ∧ F_passName σ = some (y, σ') ∧ FB C Mb σb M' w σ' ∧ tQ σ' = tQ σ ∧ tQ σ < 7000) := by
  have h167 := Pb.n167
  have hb : mn Mb ≤ mn M := E.1.1
  obtain ⟨N0, Q0, n1, n2, n3, n4, n5, n6, n7, n8⟩ := P.nodes
  have cap := P.cap (k := 4) (by omega)
  have Pn := P.al (M' := mnew M 9 0 4) (Fz.rf.mnew) (c' := c - 1) (s' := s - 4) (by rw [mn_mnew]; omega) (by rw [ms_mnew]; omega)
  have En1 : Es Mb σb (mnew M 9 0 4) σ := E.tr (Es.al (Fz.rf.mnew) P.n167)
  have hQb : tQ σb ≤ tQ σ := E.2.2.2.1.1.2
  rcases z_name Pn (by omega) (by omega) with ⟨x, y, σ1, a1, a2, a3, a4, a5, ⟨w, a6, a7, a8, a9⟩, a10⟩ | ⟨w, M', y, σ', a1, a2, a3⟩
  · have hwc : wc (mnew M 9 0 4) w = wc M w := P.wcs (Fz.rf.mnew (X := none_)) (fun o z => absurd z (fun q => q)) w
    rw [hwc] at a9
    subst a6 a9
    -- the part's own cells
    have hkn : mk (msI (mnew M 9 0 4) 405 90 (nI (i + 1))) (mn M) = 9 := by show mk (mnew M 9 0 4) (mn M) = 9; rw [mk_mnew, ifT rfl]
    have e9 : K_X9_init (mn M) (nI w) (msI (mnew M 9 0 4) 405 90 (nI (i + 1))) = some ((), msI (msI (msI (mnew M 9 0 4) 405 90 (nI (i + 1))) 1602 (mn M) (-1)) 1600 (mn M) (nI w)) := by
      unfold K_X9_init
      rw [ifT (by omega), ifT hkn, nm_eq, ifT (show mk (msI (msI (mnew M 9 0 4) 405 90 (nI (i + 1))) 1602 (mn M) (-1)) (mn M) = 9 from hkn), nm_eq]
    have F1 : Fz (fun x => x = 90) M (msI (msI (msI (mnew M 9 0 4) 405 90 (nI (i + 1))) 1602 (mn M) (-1)) 1600 (mn M) (nI w)) := (((Fz.rf (X := fun x => x = 90)).mnew.msI (fun _ => rfl)).msI (fun z => absurd z (Nat.lt_irrefl _))).msI (fun z => absurd z (Nat.lt_irrefl _))
    obtain ⟨P3, E3⟩ := Pb.re (En1.tr a4) a3 (M' := msI (msI (msI (mnew M 9 0 4) 405 90 (nI (i + 1))) 1602 (mn M) (-1)) 1600 (mn M) (nI w)) (X := fun x => x = mn M) (((Fz.rf (X := fun x => x = mn M)).msI (fun _ => rfl)).msI (fun _ => rfl)) (fun x z => by rw [z]; exact hb) (c' := c - 1 + 16) (s' := s - 4 + 2048) (Nat.le_refl _) (Nat.le_refl _)
    have hmn3 : mn (msI (msI (msI (mnew M 9 0 4) 405 90 (nI (i + 1))) 1602 (mn M) (-1)) 1600 (mn M) (nI w)) = mn M + 1 := rfl
    have g1600 : mI (msI (msI (msI (mnew M 9 0 4) 405 90 (nI (i + 1))) 1602 (mn M) (-1)) 1600 (mn M) (nI w)) 1600 (mn M) = nI w := by rw [mI_msI, ifT ⟨rfl, rfl⟩]
    have g1602 : mI (msI (msI (msI (mnew M 9 0 4) 405 90 (nI (i + 1))) 1602 (mn M) (-1)) 1600 (mn M) (nI w)) 1602 (mn M) = -1 := by rw [mI_msI, ifF (by omega), mI_msI, ifT ⟨rfl, rfl⟩]
    have g160 : ∀ g, g = 1601 ∨ g = 1603 → mI (msI (msI (msI (mnew M 9 0 4) 405 90 (nI (i + 1))) 1602 (mn M) (-1)) 1600 (mn M) (nI w)) g (mn M) = 0 := fun g hg => by rw [mI_msI, ifF (by omega), mI_msI, ifF (by omega), mI_msI, ifF (by omega), mI_mnew, ifT rfl]
    have hkp : mk (msI (msI (msI (mnew M 9 0 4) 405 90 (nI (i + 1))) 1602 (mn M) (-1)) 1600 (mn M) (nI w)) (mn M) = 9 := hkn
    generalize hM3 : msI (msI (msI (mnew M 9 0 4) 405 90 (nI (i + 1))) 1602 (mn M) (-1)) 1600 (mn M) (nI w) = M3 at *
    have so3 : So M M3 o := F1.so ho.2 (by omega)
    have hL3 : LsB Mb M3 l ps := hL.kp F1 (by have := hL.2.1.1; omega) (fun z => by
      by_cases e : mR M 4201 l = 4398046511104
      · rw [e] at z; exact absurd z (by decide)
      · have := hL.2.2.2 e; omega)
    have hl3 : mR M3 4201 l = mR M 4201 l := (F1.so hL.2.1.2 (by have := hL.2.1.1; omega)).r 4201
    have ht := P.t1280
    obtain ⟨M4, b1, b2, b3, b4, b5, b6⟩ := z_add Pb E3 P3 hL3 (p := mn M) (Or.inl ⟨by omega, by rw [hkp]; decide, by rw [hkp]; decide⟩) (by omega) (by omega) (by omega)
    obtain ⟨σ2, d1, d2, d3, d4, d5, ⟨d6, d7, d8, d9⟩, d10, d11⟩ := y_newPart (b3.wk (c' := c + 8) (s' := s + 64) (n' := n + 2 + 1) (by omega) (by omega) (by omega)) (wc M w)
    have hQ1 : tQ σ1 = tQ σ := by unfold tQ; rw [(fS_F_next _ _ _ a10 34 rfl).1]
    rw [hQ1] at d1 d2 d4 d5 d6 d7 d8 d9
    have hl4 : mn M ≠ l ∧ mn M ≠ mR M3 4201 l := by
      refine ⟨by have := hL.2.1.2; omega, fun z => ?_⟩
      rw [hl3] at z
      rcases hL.1.2.2.2.2 with ⟨q, _⟩ | ⟨q, _⟩
      · have := cap.1; omega
      · omega
    have so4 : So M3 M4 (mn M) := b5.so (by omega) (fun z => by rcases z with z | z; exact hl4.1 z; exact hl4.2 z)
    left
    refine ⟨w, σ1, σ2, M4, ⟨a7, a8⟩, a2, a10, d1, fun f => ?_, d10.wk (by omega) (by omega) (by omega), b4.tr d11, ⟨d2, d4, d5, hQb⟩, ⟨d6, d7, d8, d9⟩, (Tz.ft (fS_F_next _ _ _ a10) (by decide)).tr d11.2.2.2.1, b2, ?_, ⟨by rw [so4.k]; exact hkp, by rw [so4.i]; exact g1600, by rw [so4.i]; exact g160 _ (Or.inl rfl), by rw [so4.i]; exact g1602, by rw [so4.i]; exact g160 _ (Or.inr rfl)⟩, by have := b5.1; omega, a5⟩
    · rw [ref_eq, ifT ⟨cap.1, cap.2⟩, a1, obS_inl, ifT (by omega), e9, ob_some, ifT (by rw [so3.k]; exact hko), so3.r, hl, ifT hL3.1.1, b1, ob_some]
    · exact (F1.mono (fun _ _ z => Or.inl z)).tr2 b5 (fun x _ z => by rcases z with z | z; exact Or.inr (Or.inl z); exact Or.inr (Or.inr (by rw [← hl3]; exact z)))
  · right
    have fr := fS_F_passName _ _ _ a2
    refine ⟨w, M', y, σ', fun f => ?_, a2, a3.tr En1, by unfold tQ; rw [(fr 34 rfl).1], by omega⟩
    rw [ref_eq, ifT ⟨cap.1, cap.2⟩, a1, obS_inr]
/-- the rest of a path -/
theorem ref_loop (Pb : Pe C Mb σb ib depb cb' sb' nb') : ∀ (d : Nat) (M : CM) (σ : TS) (i qx : Nat) (ps : List Nat) (f f' : Nat) (x3 : Int32), ct C - i ≤ d → d < f → d < f' → Es Mb σb M σ → Pe C M σ i dep c s n → 4 ≤ c → 16 ≤ s → 2 ≤ n → mn Mb ≤ o ∧ o < mn M → mk M o = 8 → mR M 1405 o = l → LsB Mb M l ps → ps.length ≤ i → (tQ σb ≤ qx ∧ qx < tQ σ ∧ qx < 7000) → tA σ 33 qx = 0 →
    (∃ M' σ' i' rest q', tlR f o M = some (.inl (), M') ∧ L_refFrom_15 f' x3 (nI qx) σ = some ((), σ') ∧ Pe C M' σ' i' dep c s n ∧ Es Mb σb M' σ' ∧ i ≤ i' ∧ LsB Mb M' l (ps ++ rest) ∧ (∃ X : Nat → Prop, Fz X M M' ∧ ∀ x, X x → x = 90 ∨ x = l ∨ mk M x = 55) ∧ tA σ' 33 qx = nI q' ∧ q' < 7000 ∧ PhR (fun x => mn Mb ≤ x ∧ x < mn M') (tQ σ') (cm C) M' σ' rest q' ∧ (tN σ ≤ tN σ' ∧ tQ σ ≤ tQ σ') ∧ (∀ k, k = 31 ∨ k = 32 ∨ k = 33 → ∀ j, j < tQ σ → ¬ (k = 33 ∧ j = qx) → tA σ' k j = tA σ k j) ∧ (∀ k, k = 29 ∨ k = 30 → ∀ j, j < tQ σ → tB σ' k j = tB σ k j) ∧ ∀ k, k = 24 ∨ k = 25 ∨ k = 26 ∨ k = 27 → ∀ j, j < tN σ → tA σ' k j = tA σ k j) ∨
    (∃ w M' σ', tlR f o M = some (.inr (.inr w), M') ∧ L_refFrom_15 f' x3 (nI qx) σ = some ((), σ') ∧ FB C Mb σb M' w σ') := by
  intro d
  induction d with
  | zero =>
    intro M σ i qx ps f f' x3 hd hf hf' E P hc hs hn ho hko hl hL hps hq h33
    obtain ⟨f', rfl⟩ : ∃ g, f' = g + 1 := ⟨f' - 1, by omega⟩
    unfold tlR
    rw [L_refFrom_15, t_isBad0 P.g0, ob_some, ifT rfl]
    rcases z_take P (x := 46) (by decide) with ⟨σ1, a1, a2, a3, a4, a5, a6⟩ | ⟨a1, a2⟩
    · omega
    · rw [a1, a2, ob_some, ob_some, ifT rfl, ifT rfl]
      exact Or.inl ⟨M, σ, i, [], 0, rfl, rfl, P, E, Nat.le_refl _, by rw [List.append_nil]; exact hL, ⟨none_, Fz.rf, fun x z => absurd z (fun q => q)⟩, h33, by decide, rfl, ⟨Nat.le_refl _, Nat.le_refl _⟩, fun _ _ _ _ _ => rfl, fun _ _ _ _ => rfl, fun _ _ _ _ => rfl⟩
  | succ d ih =>
    intro M σ i qx ps f f' x3 hd hf hf' E P hc hs hn ho hko hl hL hps hq h33
    obtain ⟨f', rfl⟩ : ∃ g, f' = g + 1 := ⟨f' - 1, by omega⟩
    obtain ⟨f, rfl⟩ : ∃ g, f = g + 1 := ⟨f - 1, by omega⟩
    have h167 := Pb.n167
    unfold tlR
    rw [L_refFrom_15, t_isBad0 P.g0, ob_some, ifT rfl]
    rcases z_take P (x := 46) (by decide) with ⟨σ1, a1, a2, a3, a4, a5, a6⟩ | ⟨a1, a2⟩
    · rw [a1, a2, ob_some, ob_some, ifF (by decide), ifF (by decide), a3, ob_some]
      have E1 := E.tr a5
      have fr1 := fS_F_next _ _ _ a3
      have F1 : Fz (fun x => x = 90) M (msI M 405 90 (nI (i + 1))) := Fz.rf.msI (fun _ => rfl)
      have hl90 : l ≠ 90 := by have := hL.2.1.1; omega
      have harr : mR M 4201 l ≠ 90 := fun z => by
        by_cases e : mR M 4201 l = 4398046511104
        · rw [e] at z; exact absurd z (by decide)
        · have := hL.2.2.2 e; omega
      have hQ1 : tQ σ1 = tQ σ ∧ tN σ1 = tN σ := ⟨by unfold tQ; rw [(fr1 34 rfl).1], by unfold tN; rw [(fr1 28 rfl).1]⟩
      have gx : inb (nI qx) 7000 := inb_nI' hq.2.2 (by decide)
      rcases ref_core Pb E1 a4 (by omega) (by omega) (by omega) (o := o) (l := l) ho hko hl (hL.kp F1 hl90 harr) (by omega) with ⟨w, σ2, σ3, M3, ⟨b1, b1'⟩, b2, b3, b4, b5, b6, b7, ⟨b8, b9, b10, b10'⟩, ⟨b11, b12, b13, b14⟩, b15, b16, b17, ⟨b18, b19, b20, b21, b22⟩, b23, b24⟩ | ⟨w, M', y, σ', b1, b2, b3, b4, b5⟩
      · rw [b2, ob_some]
        have hwc1 : wc (msI M 405 90 (nI (i + 1))) w = wc M w := rfl
        rw [hwc1] at b2 b4 b11
        rw [hwc1, b4, ob_some, ifT gx, nm_eq, ix_nI (by omega)]
        rw [hQ1.1] at b4 b8 b9 b10 b10' b11 b12 b13 b14 ⊢
        -- the link
        have fr4 : Ft [33] σ3 (tsA σ3 33 qx (nI (tQ σ))) := (Ft.rf _ σ3).p_tsA rfl
        have P4 := b6.tp fr4 (by decide)
        have E4 : Es Mb σb M3 (tsA σ3 33 qx (nI (tQ σ))) := b7.sA (Or.inr (Or.inr rfl)) hq.1
        have hmn1 : mn (msI M 405 90 (nI (i + 1))) = mn M := rfl
        rw [hmn1] at b5 b16 b18 b19 b20 b21 b22 b23
        rw [b5]
        have h31 : tA (tsA σ3 33 qx (nI (tQ σ))) 31 (tQ σ) = 0 := by rw [tA_tsA, ifF (by omega)]; exact b12
        have h32 : tA (tsA σ3 33 qx (nI (tQ σ))) 32 (tQ σ) = 0 := by rw [tA_tsA, ifF (by omega)]; exact b13
        have h33' : tA (tsA σ3 33 qx (nI (tQ σ))) 33 (tQ σ) = 0 := by rw [tA_tsA, ifF (by omega)]; exact b14
        have h29 : tB (tsA σ3 33 qx (nI (tQ σ))) 29 (tQ σ) = wc M w := by rw [tB_tsA]; exact b11
        rcases z_index Pb E4 P4 (by omega) (by omega) (p := mn M) (q := tQ σ) ⟨by have := E.1.1; omega, b23⟩ b18 ⟨b20, b21⟩ ⟨b10', b9⟩ h31 ⟨b22, h32⟩ with ⟨M5, σ5, i5, c1, c2, c3, c4, c5, c6, c7, c8, c9⟩ | ⟨w, M5, σ5, c1, c2, c3⟩
        · rw [c1, c2, ob_some]
          have hQ5 : tQ σ5 = tQ σ + 1 := by rw [c9.1.2]; exact b8
          have hN5 : tN σ5 = tN σ3 := c9.1.1
          have so5 : ∀ x, x < mn M3 → x ≠ 90 → x ≠ mn M → So M3 M5 x := fun x hx h1 h2 => c6.so hx (fun z => by rcases z with z | z; exact h1 z; exact h2 z)
          have hnl : mn M ≠ l ∧ mn M ≠ mR M3 4201 l := by
            refine ⟨by have := hL.2.1.2; omega, fun z => ?_⟩
            have : mk M3 (mR M3 4201 l) = 55 := by
              rcases b16.1.2.2.2.2 with ⟨q, _⟩ | ⟨_, q, _⟩
              · have := b6.cap (k := 0) (by omega); rw [q] at z; omega
              · exact q
            rw [← z, b18] at this; exact absurd this (by decide)
          have h390 : mR M3 4201 l ≠ 90 := fun z => by
            by_cases e : mR M3 4201 l = 4398046511104
            · rw [e] at z; exact absurd z (by decide)
            · have := b16.2.2.2 e; omega
          have hL5 : LsB Mb M5 l (ps ++ [mn M]) := b16.kp c6 (fun z => by rcases z with z | z; exact hl90 z; exact hnl.1 z.symm) (fun z => by rcases z with z | z; exact h390 z; exact hnl.2 z.symm)
          have so3 : So M M3 o := by
            have hx := b17.so (show o < mn (msI M 405 90 (nI (i + 1))) from ho.2) (fun z => by
              rcases z with z | z | z
              · omega
              · rw [z] at hko; rw [hL.1.1] at hko; exact absurd hko (by decide)
              · have z : o = mR M 4201 l := z
                rcases hL.1.2.2.2.2 with ⟨q, _⟩ | ⟨_, q, _⟩
                · have := P.cap (k := 0) (by omega); omega
                · rw [← z, hko] at q; exact absurd q (by decide))
            exact (F1.so ho.2 (by omega)).tr hx
          have so5o : So M3 M5 o := so5 o (by have := b17.1; have : mn M ≤ mn M3 := this; omega) (by omega) (by omega)
          rcases ih M5 σ5 i5 (tQ σ) (ps ++ [mn M]) f f' x3 (by omega) (by omega) (by omega) c4 (c3.wk (by omega) (by omega) (by omega)) (by omega) (by omega) (by omega) ⟨ho.1, by have := c6.1; have : mn M ≤ mn M3 := b17.1; omega⟩ (by rw [so5o.k, so3.k]; exact hko) (by rw [so5o.r, so3.r]; exact hl) hL5 (by rw [List.length_append]; show ps.length + 1 ≤ i5; omega) ⟨b10', by omega, b9⟩ (by rw [c9.2.1 33 (by decide) (tQ σ) (by omega)]; exact h33') with ⟨M6, σ6, i6, rest, q', e1, e2, e3, e4, e5, e6, ⟨X, e7, e7'⟩, e8, e9, e10, ⟨e11, e11'⟩, e12, e13, e14⟩ | ⟨w, M6, σ6, e1, e2, e3⟩
          · left
            have hmn6 : mn M < mn M6 := by have := e7.1; have := c6.1; omega
            have so6p : So M5 M6 (mn M) := e7.so (by have := c6.1; omega) (fun z => by
              rcases e7' _ z with z | z | z
              · omega
              · exact hnl.1 z
              · rw [c6.k b23, b18] at z; exact absurd z (by decide))
            refine ⟨M6, σ6, i6, mn M :: rest, tQ σ, e1, e2, e3, e4, by omega, by rw [List.append_assoc] at e6; exact e6, ⟨fun x => x = 90 ∨ x = l ∨ mk M x = 55, ?_, fun x z => z⟩, ?_, b9, ⟨⟨b10, by omega⟩, ⟨⟨⟨by have := E.1.1; omega, hmn6⟩, by rw [so6p.k, c6.k b23]; exact b18⟩, ⟨w, ?_, b1, b1', ?_⟩, ?_⟩, q', e8, e9, e10⟩, ⟨?_, by omega⟩, ?_, ?_, ?_⟩
            · -- frame
              have Fa : Fz (fun x => x = 90 ∨ x = l ∨ mk M x = 55) M M3 := (F1.mono (fun _ _ z => Or.inl z)).tr2 b17 (fun x hx z => by
                rcases z with z | z | z
                · exact Or.inl z
                · exact Or.inr (Or.inl z)
                · have z : x = mR M 4201 l := z
                  rcases hL.1.2.2.2.2 with ⟨q, _⟩ | ⟨_, q, _⟩
                  · have := P.cap (k := 0) (by omega); omega
                  · exact Or.inr (Or.inr (by rw [z]; exact q)))
              have Fb : Fz (fun x => x = 90 ∨ x = l ∨ mk M x = 55) M M5 := Fa.tr2 c6 (fun x hx z => by
                rcases z with z | z
                · exact Or.inl z
                · omega)
              exact Fb.tr2 e7 (fun x hx z => by
                rcases e7' x z with z | z | z
                · exact Or.inl z
                · exact Or.inr (Or.inl z)
                · exact Or.inr (Or.inr (by rw [Fb.k hx] at z; exact z)))
            · rw [e12 33 (by decide) qx (by omega) (by omega), c9.2.1 33 (by decide) qx (by omega), tA_tsA, ifT ⟨rfl, rfl⟩]
            · rw [so6p.i, c7]; exact b19
            · rw [e13 29 (by decide) (tQ σ) (by omega), c9.2.2 29 (by decide) (tQ σ) (by omega), h29]
              have : wc M6 w = wc M w := by
                have x1 : wc M6 w = wc Mb w := Pb.wcs e4.1 (fun o z => by rw [z]; exact Pb.en.1) w
                have x2 : wc M w = wc Mb w := Pb.wcs E.1 (fun o z => by rw [z]; exact Pb.en.1) w
                rw [x1, x2]
              exact this.symm
            · have hwc : ∀ w', wc M6 w' = wc M5 w' := fun w' => by
                have x1 : wc M6 w' = wc Mb w' := Pb.wcs e4.1 (fun o z => by rw [z]; exact Pb.en.1) w'
                have x2 : wc M5 w' = wc Mb w' := Pb.wcs c4.1 (fun o z => by rw [z]; exact Pb.en.1) w'
                rw [x1, x2]
              rw [e12 31 (by decide) (tQ σ) (by omega) (by omega), e12 32 (by decide) (tQ σ) (by omega) (by omega), e13 30 (by decide) (tQ σ) (by omega), so6p.i, so6p.i, so6p.i]
              rcases c8 with c8 | c8 | ⟨c8, c8a, ⟨w', c8b, c8c, c8d, c8e⟩, c8f⟩
              · exact Or.inl c8
              · exact Or.inr (Or.inl c8)
              · exact Or.inr (Or.inr ⟨c8, c8a, ⟨w', c8b, c8c, c8d, by rw [hwc]; exact c8e⟩, c8f⟩)
            · have := b15.1.1; rw [hQ1.2] at this; omega
            · intro k hk j hj hne
              have x3' : tA σ3 k j = tA σ1 k j := b15.2.2.1 k hk j (by omega)
              rw [e12 k hk j (by omega) (by omega), c9.2.1 k (by omega) j (by omega), tA_tsA, ifF (by omega), x3']
              exact (fr1 k (by rcases hk with rfl | rfl | rfl <;> rfl)).2.2.1 j
            · intro k hk j hj
              have x3' : tB σ3 k j = tB σ1 k j := b15.2.2.2 k hk j (by omega)
              rw [e13 k hk j (by omega), c9.2.2 k hk j (by omega), tB_tsA, x3']
              exact (fr1 k (by rcases hk with rfl | rfl <;> rfl)).2.2.2 j
            · intro k hk j hj
              have x0 : tN σ ≤ tN σ3 := by have := b15.1.1; rw [hQ1.2] at this; exact this
              have x3' : tA σ3 k j = tA σ1 k j := b15.2.1 k hk j (by omega)
              rw [e14 k hk j (by omega), c9.2.1 k (by omega) j (by omega), tA_tsA, ifF (by omega), x3']
              exact (fr1 k (by rcases hk with rfl | rfl | rfl | rfl <;> rfl)).2.2.1 j
          · right
            exact ⟨w, M6, σ6, e1, e2, e3⟩
        · right
          rw [c1, c2, ob_some]
          obtain ⟨f', rfl⟩ : ∃ g, f' = g + 1 := ⟨f' - 1, by omega⟩
          rw [L_refFrom_15, t_isBad1 c3.2.2.2.1, ob_some, ifF (by decide)]
          exact ⟨w, M5, σ5, rfl, rfl, c3⟩
      · right
        rw [b1, b2, ob_some]
        obtain ⟨σ3, g1, g2, g3⟩ := bw_newPart b3.bd (by rw [b4, hQ1.1]; rw [hQ1.1] at b5; exact b5) y
        have fb := (b3.br g2).sA (k := 33) (q := qx) (v := nI (tQ σ')) (Or.inr (Or.inr rfl)) hq.1
        rw [g1, ob_some, ifT gx, nm_eq, ix_nI (by omega)]
        obtain ⟨_, σ4, e4, g4⟩ := bw_index fb.bd (nI (tQ σ'))
        have fb4 := fb.br g4
        obtain ⟨f', rfl⟩ : ∃ g, f' = g + 1 := ⟨f' - 1, by omega⟩
        rw [e4, ob_some, L_refFrom_15, t_isBad1 fb4.2.2.2.1, ob_some, ifF (by decide)]
        exact ⟨w, M', σ4, rfl, rfl, fb4⟩
    · rw [a1, a2, ob_some, ob_some, ifT rfl, ifT rfl]
      exact Or.inl ⟨M, σ, i, [], 0, rfl, rfl, P, E, Nat.le_refl _, by rw [List.append_nil]; exact hL, ⟨none_, Fz.rf, fun x z => absurd z (fun q => q)⟩, h33, by decide, rfl, ⟨Nat.le_refl _, Nat.le_refl _⟩, fun _ _ _ _ _ => rfl, fun _ _ _ _ => rfl, fun _ _ _ _ => rfl⟩
end REF
