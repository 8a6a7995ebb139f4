/-! Layer B: functions: their arguments -/
set_option maxRecDepth 100000
/-- a function is being read: its object, its row of arguments, the twin's row -/
def Fa (C : PC) (Mb M : CM) (σ : TS) (fo row : Nat) (bs : List Nat) : Prop := Fz (fun o => o = 90) Mb M ∧ (mR M 408 90 = fo ∧ mk M fo = 6 ∧ mn Mb ≤ fo ∧ fo < mn M ∧ mR M 1001 fo = row) ∧ LsB Mb M row bs ∧ tI σ 38 = nI bs.length ∧ ∀ k, k < bs.length → ∃ w, BxR M (cm C) (bs.getD k 0) w ∧ tB σ 36 k = wc M w
/-- a fault while a function is read -/
def Fh (C : PC) (Mb : CM) (σb : TS) (M' : CM) (w : Nat) (σ' : TS) : Prop := Flt M' w σ' ∧ Fz (fun o => o = 90) Mb M' ∧ (mn M' ≤ cN C ∧ ms M' ≤ cS C) ∧ Tz σb σ' ∧ Bd C σ'
section FARGS
variable {C : PC} {T P : Nat → Prop} {Mt Mb M M' M1 M2 M3 : CM} {σt σ σ' σb σ1 : TS} {i ib dep c s n cb' sb' nb' m L w fo row : Nat} {cs bs : List Nat}
theorem FB.fh (h : FB C M σ M' w σ') (F : Fz (fun o => o = 90) Mb M) (z : Tz σb σ) : Fh C Mb σb M' w σ' := ⟨h.1, F.tr h.2.1.1, h.2.2.1, z.tr h.2.1.2.2.2.1, h.2.2.2⟩
theorem fz_408 {X : Nat → Prop} {u : Nat} (F : Fz X M M') : Fz X (msR M 408 90 u) (msR M' 408 90 u) := ⟨F.1, F.2.1, fun o ho hx => by
  have s := F.2.2 o ho hx
  refine ⟨s.1, s.2.1, fun g => ?_, s.2.2.2⟩
  rw [mR_msR, mR_msR]
  by_cases q : g = 408 ∧ o = 90
  · rw [ifT q, ifT q]
  · rw [ifF q, ifF q]; exact s.2.2.1 g⟩
/-- of what is new, only boxes and the names are leant on -/
theorem nd_new (P0 : Pe C Mb σb ib dep cb' sb' nb') (hS : Sx Mb) (hT : TP C T Mt Mb σb cs P) (F : Fz (fun o => o = 90) Mb M) (W : WN M m L) (hc : mn M ≤ 601024) : ∀ o, mn Mb ≤ o → o < mn M → mk M o ≠ 23 → mk M o ≠ 53 → ¬ Dp C (msR M 408 90 0) o := by
  intro o h1 h2 h3 h4 hd
  have h167 := P0.n167
  have rows : ∀ l, l ∈ arL → l ≠ 90 → o ≠ mR M 4201 l := fun l hl h90 z => by
    have hl' := arL_lt hl
    have s := F.so (o := l) (by omega) h90
    rw [s.r] at z
    rcases (hS l hl).2 with q | q <;> omega
  have r4 : ∀ l, mR (msR M 408 90 0) 4201 l = mR M 4201 l := fun l => by rw [mR_msR, ifF (by omega)]
  have r1 : ∀ l, mR (msR M 408 90 0) 1001 l = mR M 1001 l := fun l => by rw [mR_msR, ifF (by omega)]
  rcases hd with q | q | q | q | q | q | q | q | ⟨k, hk, q⟩
  · omega
  · rw [mR_msR, ifF (by omega)] at q
    exact h4 (by rw [q]; exact W.2.1)
  · rw [r4] at q; exact rows 95 (by decide) (by decide) q
  · exact h3 q
  · omega
  · omega
  · rw [r4] at q; exact rows 89 (by decide) (by decide) q
  · rw [r4] at q; exact rows 96 (by decide) (by decide) q
  · obtain ⟨a1, -, bs, -, -, b1, -⟩ := hT.2.2.1 k hk
    have f1 := (hT.nx a1).1
    have f2 := (hT.nx b1.2.1).1
    have s1 := F.so (o := cfn C k) f1.2 (by omega)
    have s2 := F.so (o := mR Mb 1001 (cfn C k)) f2.2 (by omega)
    rw [r1, r4, s1.r, s2.r] at q
    rcases q with q | q | q
    · omega
    · omega
    · by_cases g : mR Mb 4201 (mR Mb 1001 (cfn C k)) = 4398046511104
      · omega
      · have := (hT.nx (b1.2.2 g)).1
        omega
theorem t_sign2 (h : F_isSign 44 σ = some (1, σ)) : F_isSign 41 σ = some (0, σ) := by
  unfold F_isSign at h ⊢
  by_cases a : tI σ 11 = 3
  · rw [ifT a] at h ⊢
    by_cases b : tI σ 14 = 44
    · rw [ifF (show ¬ tI σ 14 = 41 from by rw [b]; decide)]
    · rw [ifF b] at h
      injection h with h; injection h with h _; exact absurd h (by decide)
  · rw [ifF a] at h
    injection h with h; injection h with h _; exact absurd h (by decide)
theorem fargs_step (P0 : Pe C Mb σb ib dep cb' sb' nb') (hS : Sx Mb) (hT : TP C T Mt Mb σb cs P) (hcr : car C = 0) (hc : 8 ≤ c) (hs : 64 ≤ s) (x3 : Int64) (f f' : Nat) (hb3 : bs.length ≤ 3) (P1 : Ph C M σ i c s n) (hz : Tz σb σ) (A : Fa C Mb M σ fo row bs) :
    (∃ M3 σ2 b, KL_X2_function_56 (f + 1) M = (if 4 ≤ nI (bs ++ [b]).length then some (.inl (), M3) else ob (K_X2_take 44 M3) fun r59 M58 => if r59 = 0 then some (.inl (), M58) else KL_X2_function_56 f M58) ∧ L_readFunction_53 (f' + 1) x3 σ = (ob (F_isSign 44 σ2) fun r41 s40 => if r41 = 0 then some ((), s40) else if tI s40 38 = 4 then ob (F_cantStand s40) fun _ s48 => some ((), s48) else ob (F_next s40) fun _ s44 => L_readFunction_53 f' x3 s44) ∧ Ph C M3 σ2 (i + 1) c s n ∧ Tz σb σ2 ∧ Fa C Mb M3 σ2 fo row (bs ++ [b]) ∧ So M M3 fo) ∨
    (∃ w M' σ', KL_X2_function_56 (f + 1) M = some (.inr (.inr w), M') ∧ L_readFunction_53 (f' + 1) x3 σ = some ((), σ') ∧ Fh C Mb σb M' w σ') := by
  have h167 := P0.n167
  obtain ⟨A1, ⟨A2, A3, A4, A5, A6⟩, A7, A8, A9⟩ := A
  obtain ⟨L, W, h1280⟩ := P1.wb
  have h12 := P1.at12
  obtain ⟨in1, in2⟩ := P1.px.in1
  have fob : fo ≠ 90 := by omega
  rw [KL_X2_function_56, ifT in1, in2, nm_eq, L_readFunction_53, t_isBad0 P1.g0, ob_some, ifT (rfl : (0 : Int32) = 0), nm_eq]
  rcases z_nameH P1 (by omega) (by omega) with ⟨x, y, σ1, a1, a2, P2, E1, hi, ⟨w, hx, hw1, hw2, hy⟩, n1⟩ | ⟨w, M', y, σ1, a1, a2, fb⟩
  rotate_left
  · right
    rw [a1, obS_inr, a2, ob_some, t_isBad1 fb.2.2.2.1, ob_some, ifF (show ¬ (1 : Int32) = 0 from by decide)]
    exact ⟨w, M', σ1, rfl, rfl, fb.fh A1 hz⟩
  rw [a1, obS_inl, a2, ob_some, t_isBad0 P2.g0, ob_some, ifT (rfl : (0 : Int32) = 0), hx, hy]
  have fr := fS_F_next _ _ _ n1
  obtain ⟨M1, hM1⟩ : ∃ M1, M1 = msI M 405 90 (nI (i + 1)) := ⟨_, rfl⟩
  rw [← hM1] at P2 E1 ⊢
  have n1' : mn M1 = mn M := by rw [hM1]; rfl
  have k1 : ∀ o, mk M1 o = mk M o := fun o => by rw [hM1]; rfl
  have r1 : ∀ g o, mR M1 g o = mR M g o := fun g o => by rw [hM1]; rfl
  have w1 : ∀ w, wc M1 w = wc M w := fun w => by rw [hM1]; rfl
  have k90 : mk M 90 = 3 := P1.k90
  have x23 : ∀ o, o = 90 → mk M o ≠ 22 ∧ mk M o ≠ 55 := fun o z => by rw [z, k90]; exact ⟨by decide, by decide⟩
  have L1 : Ls M1 row bs := A7.1.fz E1.1 A7.2.1.2 x23
  have e38 : tI σ1 38 = nI bs.length := by rw [(fr 38 rfl).1]; exact A8
  have B1 : ∀ k, k < bs.length → ∃ w, BxR M1 (cm C) (bs.getD k 0) w ∧ tB σ1 36 k = wc M1 w := fun k hk => by
    obtain ⟨w', b1, b2⟩ := A9 k hk
    exact ⟨w', b1.fz E1.1 (fun o z => by rw [z, k90]; decide), by rw [(fr 36 rfl).2.2.2, w1]; exact b2⟩
  have z1 : Tz σb σ1 := hz.tr E1.2.2.2.1
  have W1 : WN M1 (cm C) L := by rw [hM1]; exact W
  have f408 : mR M1 408 90 = fo := by rw [r1]; exact A2
  have frow : mR M1 1001 fo = row := by rw [r1]; exact A6
  have cap := P2.cap (k := 64) (by omega)
  rcases y_argument (σ := σ1) W1 h1280 (by rw [f408]; omega) (by rw [f408, k1]; exact A3) (by rw [f408, frow]; exact L1) (by omega) e38 B1 hw2 with ⟨k, hk, c1, c2⟩ | ⟨c1, c2⟩
  · right
    rw [w1] at c2
    have kw := k_wrong (M := M1) ⟨by omega, by omega⟩ (by omega) 3 (mA M 94 i)
    rw [c1, ob_some, ifF (show ¬ nI k < 0 from by rw [nI_ltL (by omega) (by decide)]; exact Nat.not_lt_zero _), kw, ob_some, ifT (wM_k M1 3 (mA M 94 i)), c2, ob_some, ifF (show ¬ nI k < 0 from by rw [nI_ltL (by omega) (by decide)]; exact Nat.not_lt_zero _), h12, t_bad P2.g0, ob_some]
    exact ⟨_, _, _, rfl, rfl, (P2.fb (by omega) (by omega) (r := 3) (q := mA M 94 i) (by decide)).fh (A1.tr E1.1) z1⟩
  left
  rw [w1] at c2
  obtain ⟨b, M2, d1, d2, d3, F2, d5, d6⟩ := y_box (m := cm C) (w := w) h1280 ⟨by omega, by omega⟩ (by omega : 167 ≤ mn M1) ⟨hw1, hw2⟩
  have P2' : Ph C M2 σ1 (i + 1) (c + 15) (s + 2047) (n + 4) := Pe.al P2 (fz_408 F2) (by show mn M2 + _ ≤ mn M1 + _; omega) (by show ms M2 + _ ≤ ms M1 + _; omega)
  have cap2 := P2'.cap (k := 64) (by omega)
  have fo1 : fo < mn M1 := by omega
  have s2 : So M1 M2 fo := F2.so fo1 (fun z => z)
  have s2' : So M1 M2 90 := F2.so (by omega) (fun z => z)
  have L2 : Ls M2 row bs := L1.fz F2 (by have := A7.2.1.2; omega) (fun o z => absurd z (fun q => q))
  have arr2 : mR M2 4201 row = mR M 4201 row := by rw [(F2.so (by have := A7.2.1.2; omega) (fun z => z)).r, r1]
  have g408 : mR M2 408 90 = fo := by rw [s2'.r]; exact f408
  have grow : mR M2 1001 fo = row := by rw [s2.r]; exact frow
  have kfo : mk M2 fo = 6 := by rw [s2.k, k1]; exact A3
  obtain ⟨M3, e1, e2, e3, e4, e5, e6, e7, e8⟩ := ls_add L2 d3 (by have := A7.2.1.2; have := F2.1; omega) (by rw [arr2]; exact A7.2.2.1) (by omega) ⟨by omega, by omega⟩
  have hnn : mn M2 ≤ mn M3 ∧ mn M3 ≤ mn M2 + 1 ∧ ms M3 ≤ ms M2 + 20 := by
    rcases e4 with ⟨_, q1, q2⟩ | ⟨_, q1, q2, _⟩ <;> omega
  have F3 : Fz (fun o => o = row ∨ o = mR M2 4201 row) M2 M3 := ⟨hnn.1, e5, fun x hx hX => e3 x hx (fun z => hX (Or.inl z)) (fun z => hX (Or.inr z.1))⟩
  have rowlt : row < mn M2 := by have := A7.2.1.2; have := F2.1; omega
  have k55 : mR M2 4201 row < mn M2 → mk M2 (mR M2 4201 row) = 55 := fun z => L2.k55 (by omega) z
  have hrow22 : mk M2 row = 22 := L2.1
  have hnd : ∀ o, o < mn M2 → (o = row ∨ o = mR M2 4201 row) → ¬ Dp C (msR M2 408 90 0) o := fun o ho z => by
    have FB2 : Fz (fun o => o = 90) Mb M2 := (A1.tr E1.1).tr (F2.mono (fun _ _ z => absurd z (fun q => q)))
    have WW : WN M2 (cm C) L := by
      exact W1.so F2.1 (F2.so (by omega) (fun z => z)) (F2.so W1.2.2.2.2.2.2.2.1 (fun z => z))
    refine nd_new P0 hS hT FB2 WW (by omega) o ?_ ho ?_ ?_
    · rcases z with z | z
      · rw [z]; exact A7.2.1.1
      · rw [z, arr2]; exact A7.2.2.2 (fun q => by rw [arr2, q] at z; omega)
    · rcases z with z | z
      · rw [z, hrow22]; decide
      · rw [z, k55 (by rw [← z]; exact ho)]; decide
    · rcases z with z | z
      · rw [z, hrow22]; decide
      · rw [z, k55 (by rw [← z]; exact ho)]; decide
  have P3 : Ph C M3 σ1 (i + 1) c s n := (Pe.mu (c' := c) (s' := s) P2' hcr (fz_408 F3) hnd (by show mn M3 + _ ≤ mn M2 + _; omega) (by show ms M3 + _ ≤ ms M2 + _; omega)).wk (Nat.le_refl _) (Nat.le_refl _) (by omega)
  have s3 : So M2 M3 fo := F3.so (by have := F2.1; omega) (fun z => by
    rcases z with z | z
    · rw [z, hrow22] at kfo; exact absurd kfo (by decide)
    · rw [z, k55 (by rw [← z]; have := F2.1; omega)] at kfo; exact absurd kfo (by decide))
  have s3' : So M2 M3 90 := F3.so (by have := F2.1; omega) (fun z => by
    have k2 : mk M2 90 = 3 := by rw [s2'.k, k1]; exact k90
    rcases z with z | z
    · rw [z, hrow22] at k2; exact absurd k2 (by decide)
    · rw [z, k55 (by rw [← z]; have := F2.1; omega)] at k2; exact absurd k2 (by decide))
  have h408 : mR M3 408 90 = fo := by rw [s3'.r]; exact g408
  have hrow : mR M3 1001 fo = row := by rw [s3.r]; exact grow
  have hlen : (bs ++ [b]).length = bs.length + 1 := by simp
  rw [c1, ob_some, ifT (show (-1 : Int32) < 0 from by decide), f408, ifT (show mk M1 fo = 6 from by rw [k1]; exact A3), d1, ob_some, frow, ifT hrow22, e1, ob_some, h408, ifT (show mk M3 fo = 6 from by rw [s3.k]; exact kfo), hrow, ifT e2.1, ls_size e2, ob_some]
  rw [c2, ob_some, ifT (show (-1 : Int32) < 0 from by decide), e38, ifF (show ¬ nI bs.length = 4 from by rw [show (4 : Int32) = nI 4 from rfl, bI_eq (by omega) (by decide)]; omega), ifT (inb_nI' (by omega) (by decide)), nm_eq, ix_nI (by omega), nm_eq]
  obtain ⟨σ2, hσ2⟩ : ∃ σ2, σ2 = tsI (tsB σ1 36 bs.length (wc M w)) 38 (nI (bs.length + 1)) := ⟨_, rfl⟩
  have f2 : Ft [36, 38] σ1 σ2 := by rw [hσ2]; exact ((Ft.rf _ σ1).p_tsB rfl).p_tsI rfl
  have e38' : tI (tsB σ1 36 bs.length (wc M w)) 38 = nI bs.length := e38
  rw [e38', nI_addL, ← hσ2]
  have w3 : ∀ w, wc M3 w = wc M w := fun w => by
    obtain ⟨L3, W3, _⟩ := P3.wb
    have h2 : wc M2 w = wc M1 w := wc_so (F2.so (by omega) (fun z => z)) (F2.so (by have := W1.2.2.2.2.2.2.2.1; exact this) (fun z => z)) w
    rw [← w1, ← h2]
    have n53 : mk M2 (mR M2 201 4) = 53 ∧ mR M2 201 4 < mn M2 := by
      have s4 := F2.so (o := 4) (by omega) (fun z => z)
      have s5 := F2.so W1.2.2.2.2.2.2.2.1 (fun z => z)
      rw [s4.r, s5.k]
      exact ⟨W1.2.1, by have := W1.2.2.2.2.2.2.2.1; have := F2.1; omega⟩
    have k4 : row ≠ 4 := by have := A7.2.1.1; omega
    refine wc_so (F3.so (by have := F2.1; omega) (fun z => ?_)) (F3.so n53.2 (fun z => ?_)) w
    · rcases z with z | z
      · exact k4 z.symm
      · rw [arr2] at z
        by_cases q : mR M 4201 row = 4398046511104
        · omega
        · have := A7.2.2.2 q; omega
    · rcases z with z | z
      · rw [z, hrow22] at n53; exact absurd n53.1 (by decide)
      · rw [z] at n53; rw [k55 n53.2] at n53; exact absurd n53.1 (by decide)
  refine ⟨M3, σ2, b, by rw [hlen], rfl, P3.ta hcr f2, z1.tr (Tz.ft f2 (by decide)), ?_, ((E1.1.so (by omega) fob).tr s2).tr s3⟩
  have FMb : Fz (fun o => o = 90) Mb M3 := ((A1.tr E1.1).tr (F2.mono (fun _ _ z => absurd z (fun q => q)))).tr2 F3 (fun o ho z => by
    rcases z with z | z
    · have := A7.2.1.1; omega
    · rw [arr2] at z
      by_cases q : mR M 4201 row = 4398046511104
      · have := A1.1; have := F2.1; omega
      · have := A7.2.2.2 q; omega)
  refine ⟨FMb, ⟨h408, by rw [s3.k]; exact kfo, A4, by have := F2.1; omega, hrow⟩, ⟨e2, ⟨A7.2.1.1, by omega⟩, e8, fun z => ?_⟩, by rw [hσ2, hlen]; rfl, fun k hk => ?_⟩
  · rcases e4 with ⟨q, _⟩ | ⟨q, _⟩
    · rw [q, arr2]; rw [q, arr2] at z; exact A7.2.2.2 z
    · rw [q]; have := A1.1; have := F2.1; omega
  · rw [hlen] at hk
    have xb : ∀ o, (o = row ∨ o = mR M2 4201 row) → o < mn M2 → mk M2 o ≠ 23 := fun o z ho => by
      rcases z with z | z
      · rw [z, hrow22]; decide
      · rw [z, k55 (by rw [← z]; exact ho)]; decide
    have F3' : Fz (fun o => o < mn M2 ∧ (o = row ∨ o = mR M2 4201 row)) M2 M3 := F3.lt
    rcases Nat.lt_or_ge k bs.length with g | g
    · obtain ⟨w', b1, b2⟩ := B1 k g
      rw [getD_app_l g]
      refine ⟨w', (b1.fz F2 (fun o z => absurd z (fun q => q))).fz F3' (fun o z => xb o z.2 z.1), ?_⟩
      rw [hσ2]
      show tB (tsB σ1 36 bs.length (wc M w)) 36 k = _
      rw [tB_tsB, ifF (by omega), b2, w1, w3]
    · have hk' : k = bs.length + 0 := by omega
      rw [hk', getD_app_r]
      refine ⟨w, d2.fz F3' (fun o z => xb o z.2 z.1), ?_⟩
      rw [hσ2]
      show tB (tsB σ1 36 bs.length (wc M w)) 36 (bs.length + 0) = _
      rw [tB_tsB, ifT ⟨rfl, rfl⟩, w3]
theorem fargs_loop (P0 : Pe C Mb σb ib dep cb' sb' nb') (hS : Sx Mb) (hT : TP C T Mt Mb σb cs P) (hcr : car C = 0) (hc : 8 ≤ c) (hs : 64 ≤ s) (x3 : Int64) : ∀ (d : Nat) (M : CM) (σ : TS) (i f f' : Nat) (bs : List Nat), bs.length + d = 3 → d < f → d < f' → Ph C M σ i c s n → Tz σb σ → Fa C Mb M σ fo row bs →
    (∃ M' σ' i' bs', KL_X2_function_56 f M = some (.inl (), M') ∧ L_readFunction_53 f' x3 σ = some ((), σ') ∧ Ph C M' σ' i' c s n ∧ i < i' ∧ Tz σb σ' ∧ Fa C Mb M' σ' fo row bs' ∧ (1 ≤ bs'.length ∧ bs'.length ≤ 4) ∧ So M M' fo) ∨
    (∃ w M' σ', KL_X2_function_56 f M = some (.inr (.inr w), M') ∧ L_readFunction_53 f' x3 σ = some ((), σ') ∧ Fh C Mb σb M' w σ') ∨
    ∃ w M1 M' σ', KL_X2_function_56 f M = some (.inl (), M1) ∧ K_X2_sign 41 M1 = some (.inr w, M') ∧ L_readFunction_53 f' x3 σ = some ((), σ') ∧ Fh C Mb σb M' w σ' := by
  have h167 := P0.n167
  intro d
  induction d with
  | zero =>
    intro M σ i f f' bs hd hf hf' P1 hz A
    obtain ⟨f, rfl⟩ : ∃ g, f = g + 1 := ⟨f - 1, by omega⟩
    obtain ⟨f', rfl⟩ : ∃ g, f' = g + 1 := ⟨f' - 1, by omega⟩
    rcases fargs_step P0 hS hT hcr hc hs x3 f f' (by omega) P1 hz A with ⟨M3, σ2, b, a1, a2, P3, z3, A3, s3⟩ | h
    rotate_left
    · exact Or.inr (Or.inl h)
    have hlen : (bs ++ [b]).length = bs.length + 1 := by simp
    rw [a1, a2, hlen, ifT (show 4 ≤ nI (bs.length + 1) from by rw [show bs.length + 1 = 4 by omega]; decide)]
    rcases z_takeH P3 (x := 44) (by decide) with ⟨σ3, t1, t2, t3, P4, E4, hi4⟩ | ⟨t1, t2⟩
    · right; right
      have e38 : tI σ2 38 = 4 := by rw [A3.2.2.2.1, hlen, show bs.length + 1 = 4 by omega]; rfl
      obtain ⟨r, p, hr, s1, s2⟩ := y_stop P3.px (P3.cap (k := 8) (by omega))
      have hr0 : r ≠ 0 := by rcases hr with rfl | rfl <;> decide
      rw [t2, ob_some, ifF (show ¬ (1 : Int32) = 0 from by decide), ifT e38, s2, ob_some]
      refine ⟨mn M3, M3, wM M3 r p, _, rfl, ?_, rfl, (P3.fb (by omega) (by omega) hr0).fh A3.1 z3⟩
      have n41 := t_sign2 t2
      rcases z_takeH P3 (x := 41) (by decide) with ⟨σ4, u1, u2, -⟩ | ⟨u1, u2⟩
      · rw [u2] at n41
        injection n41 with n41; injection n41 with n41 _; exact absurd n41 (by decide)
      · unfold K_X2_sign
        rw [u1, ob_some, ifT (rfl : (0 : Int32) = 0), s1, ob_some, ifT (wM_k M3 r p)]
    · left
      rw [t2, ob_some, ifT (rfl : (0 : Int32) = 0)]
      exact ⟨M3, σ2, i + 1, bs ++ [b], rfl, rfl, P3, Nat.lt_succ_self _, z3, A3, ⟨by omega, by omega⟩, s3⟩
  | succ d ih =>
    intro M σ i f f' bs hd hf hf' P1 hz A
    obtain ⟨f, rfl⟩ : ∃ g, f = g + 1 := ⟨f - 1, by omega⟩
    obtain ⟨f', rfl⟩ : ∃ g, f' = g + 1 := ⟨f' - 1, by omega⟩
    rcases fargs_step P0 hS hT hcr hc hs x3 f f' (by omega) P1 hz A with ⟨M3, σ2, b, a1, a2, P3, z3, A3, s3⟩ | h
    rotate_left
    · exact Or.inr (Or.inl h)
    have hlen : (bs ++ [b]).length = bs.length + 1 := by simp
    rw [a1, a2, hlen, ifF (show ¬ 4 ≤ nI (bs.length + 1) from by rw [show (4 : Int32) = nI 4 from rfl, bI_le (by decide) (by omega)]; omega)]
    rcases z_takeH P3 (x := 44) (by decide) with ⟨σ3, t1, t2, t3, P4, E4, hi4⟩ | ⟨t1, t2⟩
    · have e38 : ¬ tI σ2 38 = 4 := by
        rw [A3.2.2.2.1, hlen, show (4 : Int32) = nI 4 from rfl, bI_eq (by omega) (by decide)]; omega
      rw [t1, ob_some, ifF (show ¬ (1 : Int32) = 0 from by decide), t2, ob_some, ifF (show ¬ (1 : Int32) = 0 from by decide), ifF e38, t3, ob_some]
      have fr := fS_F_next _ _ _ t3
      obtain ⟨B1, ⟨B2, B3, B4, B5, B6⟩, B7, B8, B9⟩ := A3
      have k90 : mk M3 90 = 3 := P3.k90
      have s4 : So M3 (msI M3 405 90 (nI (i + 1 + 1))) fo := E4.1.so B5 (by omega)
      have A4 : Fa C Mb (msI M3 405 90 (nI (i + 1 + 1))) σ3 fo row (bs ++ [b]) := ⟨B1.tr E4.1, ⟨B2, B3, B4, B5, B6⟩, ⟨B7.1.fz E4.1 B7.2.1.2 (fun o z => by rw [z, k90]; exact ⟨by decide, by decide⟩), B7.2⟩, by rw [(fr 38 rfl).1]; exact B8, fun k hk => by
        obtain ⟨w', b1, b2⟩ := B9 k hk
        exact ⟨w', b1.fz E4.1 (fun o z => by rw [z, k90]; decide), by rw [(fr 36 rfl).2.2.2]; exact b2⟩⟩
      rcases ih _ σ3 (i + 1 + 1) f f' (bs ++ [b]) (by omega) (by omega) (by omega) (P4.wk (by omega) (by omega) (by omega)) (z3.tr E4.2.2.2.1) A4 with ⟨M', σ', i', bs', c1, c2, c3, c4, c5, c6, c7, c8⟩ | h | h
      · exact Or.inl ⟨M', σ', i', bs', c1, c2, c3, by omega, c5, c6, c7, (s3.tr s4).tr c8⟩
      · exact Or.inr (Or.inl h)
      · exact Or.inr (Or.inr h)
    · left
      rw [t1, ob_some, ifT (rfl : (0 : Int32) = 0), t2, ob_some, ifT (rfl : (0 : Int32) = 0)]
      exact ⟨M3, σ2, i + 1, bs ++ [b], rfl, rfl, P3, Nat.lt_succ_self _, z3, A3, ⟨by omega, by omega⟩, s3⟩
end FARGS
