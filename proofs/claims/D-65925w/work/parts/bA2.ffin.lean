/-! Layer B: functions: the whole one comes to the others -/
set_option maxRecDepth 100000
abbrev sFn : List Nat := 36 :: 38 :: 39 :: fs26
section FFIN
variable {C : PC} {T P : Nat → Prop} {Mt Mb M M' M1 M2 M3 M12 : CM} {σt σ σ' σb σ1 σ12 : TS} {i i' ib dep c s n c0 s0 n0 m L w fo row a x : Nat} {mss ns cs bs fs nfs : List Nat}
set_option maxHeartbeats 4000000 in
theorem fn_fin (I : TI C T Mt σt M σ i c0 s0 n0 mss ns) (hi : i < i') (P12 : Ph C M12 σ12 i' (c + 2) (s + 64) n) (G : Fz (fun o => o = 90) M M12) (h408 : mR M12 408 90 = fo) (kfo : mk M12 fo = 6) (hfo : mn M ≤ fo ∧ fo < mn M12) (hrow : mR M12 1001 fo = row) (hL : LsB M M12 row bs) (hbs : 1 ≤ bs.length ∧ bs.length ≤ 4) (e38 : tI σ12 38 = nI bs.length) (hw : mI M12 1000 fo = nI w ∧ 38 ≤ w ∧ w < 38 + cm C) (ha : mR M12 1002 fo = a) (hx : x < 9000) (hA : ∃ d, AR (fun o => mn M ≤ o ∧ o < mn M12) (tN σ12) (tQ σ12) (cm C) bs.length (cnf C) (cfn C) M12 σ12 d 0 a x) (hz : Tz σ σ12) (hft : Ft sFn σ σ12) (h12 : cnf C < 12) :
    ∃ M14 σ13, (ob (K_J2_add 96 (mR M12 408 90) M12) fun _ M95 => nm (msR M95 408 90 0) fun M99 => some ((.inl () : Unit ⊕ Nat), M99)) = some (.inl (), M14) ∧ (if inb (tI σ12 48) 12 then nm (tsB σ12 40 (ix (tI σ12 48)) (wc M w)) fun s92 => if inb (tI s92 48) 12 then nm (tsA s92 42 (ix (tI s92 48)) (tI s92 38)) fun s94 => if inb (tI s94 48) 12 then nm (tsA s94 43 (ix (tI s94 48)) (nI x)) fun s96 => nm (tsI s96 48 ((tI s96 48) + 1)) fun s97 => nm (tsI s97 38 0) fun s98 => some ((), s98) else none else none else none) = some ((), σ13) ∧ TI (fnC C fo) T Mt σt M14 σ13 i' c s n mss ns := by
  obtain ⟨⟨P0, hcn, hcr, hcl, hf1⟩, ⟨⟨L88, L97⟩, HC⟩, hS, ⟨Pq, hT⟩, ⟨⟨E00, e58, hE0⟩, ⟨K1, k65, k1, k2⟩, ⟨Q1, q72, q1, q2⟩⟩, ⟨F0, ha0, h167t⟩, htw, hqz, h49t, h48t⟩ := I
  have hnf := P0.nf12
  have h167 := P0.n167
  have hc6 := P0.c6
  have k90 := P0.en.1
  have F0n := F0.1
  have Gn := G.1
  obtain ⟨fs, nfs, l89, l96, hfl, hle, t48, hfn⟩ := P0.en.2.2.2.1
  have x23 : ∀ o, o = 90 → mk M o ≠ 22 ∧ mk M o ≠ 55 := fun o z => by rw [z, k90]; exact ⟨by decide, by decide⟩
  have cap := P12.cap (k := 64) (by omega)
  have hbd := (P12.bd (by omega) (by omega)).1
  have hcN := P12.2.2.2.1.2.2.1
  -- the row of new functions
  have s96 : So M M12 96 := G.so (by omega) (by decide)
  have L96 : Ls M12 96 nfs := l96.fz G (by omega) x23
  have rowsG : ∀ l, l ∈ arL → mR M12 4201 l = mR M 4201 l := fun l hl => by
    have := arL_lt hl
    exact (G.so (by omega) (fun z => by rw [z] at hl; exact absurd hl (by decide))).r 4201
  have a96 : mR M 4201 96 = 4398046511104 ∨ (167 ≤ mR M 4201 96 ∧ mR M 4201 96 < mn M ∧ mk M (mR M 4201 96) = 55) := by
    rcases (hS 96 (by decide)).2 with q | q
    · exact Or.inl q
    · exact Or.inr q.1
  have gfo : gR M12 fo := Or.inl ⟨hfo.2, by rw [kfo]; decide, by rw [kfo]; decide⟩
  obtain ⟨M13, d1, d2, d3, d4, d5, d6, d7, d8⟩ := ls_add L96 gfo (by omega) (by rw [rowsG 96 (by decide)]; omega) (by omega) ⟨by omega, by omega⟩
  have hnn : mn M12 ≤ mn M13 ∧ mn M13 ≤ mn M12 + 1 ∧ ms M13 ≤ ms M12 + 40 := by
    rcases d4 with ⟨_, q1, q2⟩ | ⟨_, q1, q2, _⟩ <;> omega
  obtain ⟨M14, hM14⟩ : ∃ M14, M14 = msR M13 408 90 0 := ⟨_, rfl⟩
  have n14 : mn M14 = mn M13 := by rw [hM14]; rfl
  have F13 : Fz (fun o => o = 96 ∨ o = mR M 4201 96) M12 M13 := ⟨hnn.1, d5, fun y hy hX => d3 y hy (fun z => hX (Or.inl z)) (fun z => hX (Or.inr (by rw [← rowsG 96 (by decide)]; exact z.1)))⟩
  have F14 : Fz (fun o => o = 90 ∨ o = 96 ∨ o = mR M 4201 96) M12 M14 := by rw [hM14]; exact (F13.mono (fun o _ z => Or.inr z)).msR (fun _ => Or.inl rfl)
  have GM : Fz (fun o => o = 90 ∨ o = 96 ∨ o = mR M 4201 96) M M14 := (G.mono (fun o _ z => Or.inl z)).tr2 F14 (fun o _ z => z)
  have L9614 : Ls M14 96 (nfs ++ [fo]) := by rw [hM14]; exact d2.fz (Ph.fs M13 0) (by omega) (fun o z => by rw [z, (F13.so (o := 90) (by omega) (by omega)).k, P12.k90]; exact ⟨by decide, by decide⟩)
  have r96 : mR M14 4201 96 = mR M 4201 96 ∨ (mR M14 4201 96 = mn M12 ∧ mn M13 = mn M12 + 1) := by
    have e : mR M14 4201 96 = mR M13 4201 96 := by rw [hM14, mR_msR, ifF (by omega)]
    rw [e, ← rowsG 96 (by decide)]
    rcases d4 with ⟨q, _⟩ | ⟨q, q', _⟩
    · exact Or.inl q
    · exact Or.inr ⟨q, q'⟩
  have sl : ∀ l, l ∈ arL → l ≠ 96 → So M M14 l := fun l hl hne => by
    have := arL_lt hl
    refine GM.so (by omega) (fun z => ?_)
    rcases z with z | z | z
    · rw [z] at hl; exact absurd hl (by decide)
    · exact hne z
    · omega
  have sa : ∀ l, l ∈ arL → l ≠ 96 → mR M 4201 l < mn M → So M M14 (mR M 4201 l) := fun l hl hne hlt => by
    have := (hS.k hc6 hl hlt).2
    refine GM.so hlt (fun z => ?_)
    rcases z with z | z | z
    · omega
    · omega
    · rcases (hS 96 (by decide)).2 with q | q
      · omega
      · exact q.2 l hl hne z
  have rows14 : ∀ l, l ∈ arL → mR M14 4201 l = mR M 4201 l ∨ mn M ≤ mR M14 4201 l := fun l hl => by
    by_cases q : l = 96
    · subst q
      rcases r96 with g | g
      · exact Or.inl g
      · right; omega
    · exact Or.inl ((sl l hl q).r 4201)
  have S14 : Sx M14 := hS.mv hc6 h167 GM (fun l hl => by
    by_cases q : l = 96
    · subst q
      rcases r96 with g | g
      · exact Or.inl g
      · exact Or.inr (Or.inr ⟨by omega, by omega, L9614.k55 (by omega) (by omega)⟩)
    · exact Or.inl ((sl l hl q).r 4201)) (fun l l' hl hl' hne hm hlt => by
    by_cases q : l = 96
    · subst q
      rw [(sl l' hl' hne).r]
      intro z
      rcases (hS l' hl').2 with g | g <;> omega
    · rw [(sl l hl q).r] at hm hlt
      rcases (hS l hl).2 with g | g <;> omega)
  have xk : ∀ o, o < mn M → (o = 90 ∨ o = 96 ∨ o = mR M 4201 96) → ¬ Pq o ∧ mk M o ≠ 23 := fun o ho z => by
    rcases z with z | z | z
    · exact ⟨fun hp => by have := (hT.nx hp).1; omega, by rw [z, k90]; decide⟩
    · exact ⟨fun hp => by have := (hT.nx hp).1; omega, by rw [z, (hS 96 (by decide)).1]; decide⟩
    · exact ⟨fun hp => (hT.nx hp).2 96 (by decide) z, by rw [z, (hS.k hc6 (l := 96) (by decide) (by omega)).1]; decide⟩
  obtain ⟨L, W, h1280⟩ := P0.wb
  have nmx : ∀ o, o = mR M 201 4 → ¬ (o = 90 ∨ o = 96 ∨ o = mR M 4201 96) := fun o ho z => by
    have h53 := W.2.1
    rw [← ho] at h53
    rcases z with z | z | z
    · rw [z, k90] at h53; exact absurd h53 (by decide)
    · rw [z, (hS 96 (by decide)).1] at h53; exact absurd h53 (by decide)
    · rcases a96 with q | q
      · have := W.2.2.2.2.2.2.2.1; omega
      · rw [z, q.2.2] at h53; exact absurd h53 (by decide)
  have w14 : ∀ w, wc M14 w = wc M w := fun w => wc_so (GM.so (by omega) (by omega)) (GM.so W.2.2.2.2.2.2.2.1 (nmx _ rfl)) w
  have wG : ∀ w, wc M12 w = wc M w := fun w => P0.wcs G (fun o z => by rw [z]; exact k90) w
  have w1214 : ∀ w, wc M14 w = wc M12 w := fun w => by rw [w14, wG]
  -- the twin
  have t48' : tI σ12 48 = nI (cnf C) := by rw [(hft 48 rfl).1]; exact t48
  have hin : inb (nI (cnf C)) 12 := inb_nI' h12 (by decide)
  have hix : ix (nI (cnf C)) = cnf C := ix_nI (by omega)
  obtain ⟨σ13, hσ13⟩ : ∃ σ13, σ13 = tsI (tsI (tsA (tsA (tsB σ12 40 (cnf C) (wc M w)) 42 (cnf C) (nI bs.length)) 43 (cnf C) (nI x)) 48 (nI (cnf C + 1))) 38 0 := ⟨_, rfl⟩
  have f13 : Ft [38, 40, 42, 43, 48] σ12 σ13 := by rw [hσ13]; exact (((((Ft.rf _ σ12).p_tsB rfl).p_tsA rfl).p_tsA rfl).p_tsI rfl).p_tsI rfl
  have v40 : ∀ k, tB σ13 40 k = if k = cnf C then wc M w else tB σ12 40 k := fun k => by
    rw [hσ13]
    show tB (tsB σ12 40 (cnf C) (wc M w)) 40 k = _
    rw [tB_tsB]
    by_cases q : k = cnf C
    · rw [ifT ⟨rfl, q⟩, ifT q]
    · rw [ifF (fun z => q z.2), ifF q]
  have v42 : ∀ k, tA σ13 42 k = if k = cnf C then nI bs.length else tA σ12 42 k := fun k => by
    rw [hσ13]
    show tA (tsA (tsA (tsB σ12 40 (cnf C) (wc M w)) 42 (cnf C) (nI bs.length)) 43 (cnf C) (nI x)) 42 k = _
    rw [tA_tsA, ifF (by omega), tA_tsA]
    by_cases q : k = cnf C
    · rw [ifT ⟨rfl, q⟩, ifT q]
    · rw [ifF (fun z => q z.2), ifF q]; rfl
  have v43 : ∀ k, tA σ13 43 k = if k = cnf C then nI x else tA σ12 43 k := fun k => by
    rw [hσ13]
    show tA (tsA (tsA (tsB σ12 40 (cnf C) (wc M w)) 42 (cnf C) (nI bs.length)) 43 (cnf C) (nI x)) 43 k = _
    rw [tA_tsA]
    by_cases q : k = cnf C
    · rw [ifT ⟨rfl, q⟩, ifT q]
    · rw [ifF (fun z => q z.2), ifF q, tA_tsA, ifF (by omega)]; rfl
  have v48 : tI σ13 48 = nI (cnf C + 1) := by rw [hσ13]; rfl
  refine ⟨M14, σ13, by rw [h408, d1, ob_some, nm_eq, ← hM14], ?_, ?_⟩
  · rw [t48', ifT hin, nm_eq, hix]
    have e1 : tI (tsB σ12 40 (cnf C) (wc M w)) 48 = nI (cnf C) := t48'
    have e2 : tI (tsB σ12 40 (cnf C) (wc M w)) 38 = nI bs.length := e38
    rw [e1, ifT hin, nm_eq, hix, e2]
    have e3 : tI (tsA (tsB σ12 40 (cnf C) (wc M w)) 42 (cnf C) (nI bs.length)) 48 = nI (cnf C) := t48'
    rw [e3, ifT hin, nm_eq, hix]
    have e4 : tI (tsA (tsA (tsB σ12 40 (cnf C) (wc M w)) 42 (cnf C) (nI bs.length)) 43 (cnf C) (nI x)) 48 = nI (cnf C) := t48'
    rw [nm_eq, e4, nI_addL, nm_eq, ← hσ13]
  -- what is kept
  have hC1000 : cfn (fnC C fo) 1000 = cfn C 1000 := ifF (show ¬ 1000 = cnf C by omega)
  have hCX : cX (fnC C fo) = cX C := by
    unfold cX
    rw [show cfn (fnC C fo) 1001 = cfn C 1001 from ifF (show ¬ 1001 = cnf C by omega)]
  have hCk : ∀ k, k < cnf C → cfn (fnC C fo) k = cfn C k := fun k hk => ifF (show ¬ k = cnf C by omega)
  have hCn : cfn (fnC C fo) (cnf C) = fo := ifT rfl
  have Tz13 : Tz σ12 σ13 := Tz.ft f13 (by decide)
  have hzz : Tz σ σ13 ∧ Qz σ σ13 ∧ Mz σ σ13 ∧ Ez σ σ13 := ⟨hz.tr Tz13, (Qz.ft hft (by decide)).tr (Qz.ft f13 (by decide)), (Mz.ft hft (by decide)).tr (Mz.ft f13 (by decide)), (Ez.ft hft (by decide)).tr (Ez.ft f13 (by decide))⟩
  have h42 : ∀ k, k < cnf C → tA σ13 42 k = tA σ 42 k ∧ tA σ13 43 k = tA σ 43 k := fun k hk => ⟨by rw [v42, ifF (by omega), (hft 42 rfl).2.2.1], by rw [v43, ifF (by omega), (hft 43 rfl).2.2.1]⟩
  have h40 : ∀ k, k < cnf C → tB σ13 40 k = tB σ 40 k := fun k hk => by rw [v40, ifF (by omega), (hft 40 rfl).2.2.2]
  have hcls : ∀ k, (∀ f, f = 44 ∨ f = 45 ∨ f = 46 ∨ f = 47 → tA σ13 f k = tA σ f k) ∧ tB σ13 41 k = tB σ 41 k := fun k => ⟨fun f hf => by rcases hf with rfl | rfl | rfl | rfl <;> rw [(f13 _ rfl).2.2.1, (hft _ rfl).2.2.1], by rw [(f13 41 rfl).2.2.2, (hft 41 rfl).2.2.2]⟩
  have TPo : TP C T Mt M14 σ13 (mss ++ ns) Pq := hT.mv hnf GM xk (fun w _ => w14 w) rows14 ((GM.so (o := 4) (by omega) (by omega)).r 201) hzz (fun k _ => hcls k) h42
  have P1214 : ∀ o, mn M ≤ o → o < mn M12 → So M12 M14 o := fun o h1 h2 => F14.so h2 (fun z => by
    rcases z with z | z | z
    · omega
    · omega
    · omega)
  have sfo := P1214 fo hfo.1 hfo.2
  have srow := P1214 row hL.2.1.1 hL.2.1.2
  have Lrow : Ls M14 row bs := hL.1.so2 F14 srow (fun z => P1214 _ (hL.2.2.2 (fun q => by rw [q] at z; omega)) z)
  have rr : mR M14 4201 row = mR M12 4201 row := srow.r 4201
  have arNew : ∀ o, mn M ≤ o → o < mn M12 → ¬ Ar M14 o := fun o h1 h2 ⟨l, hl, z⟩ => by
    by_cases q : l = 96
    · rw [q] at z
      rcases r96 with g | g
      · rw [g] at z; omega
      · omega
    · rw [(sl l hl q).r] at z
      rcases (hS l hl).2 with g | g <;> omega
  have vO : Wz C (fnC C fo) Pq M14 M14 σ13 σ13 := ⟨⟨Nat.le_refl _, fun _ _ => rfl⟩, ⟨fun o _ => So.rf _ o, fun o _ _ => So.rf _ o⟩, ⟨Nat.le_refl _, fun _ _ => rfl⟩, ⟨Tz.rf _, Qz.rf _, Mz.rf _, Ez.rf _⟩, ⟨⟨Nat.le_succ _, h12⟩, hCk, Nat.le_of_eq hC1000⟩, fun _ _ => rfl, rfl⟩
  have nm4 : mR M14 201 4 = mR M 201 4 := (GM.so (o := 4) (by omega) (by omega)).r 201
  have TPn : TP (fnC C fo) T Mt M14 σ13 (mss ++ ns) (fun o => Pq o ∨ ((mn M ≤ o ∧ o < mn M12))) := by
    refine ⟨fun o ho => ?_, fun k hk => (TPo.2.1 k hk).wz vO (fun _ z => Or.inl z) (fun _ _ => rfl) rfl, fun k hk => ?_, TPo.2.2.2⟩
    · rcases ho with ho | ho
      · exact TPo.1 o ho
      · have := W.2.2.2.2.2.2.2.1
        exact ⟨Or.inr (by omega), ⟨by omega, by omega⟩, arNew o ho.1 ho.2, by omega⟩
    · rcases Nat.lt_or_ge k (cnf C) with g | g
      · have h := (TPo.2.2.1 k g).wz vO (fun _ z => Or.inl z) g rfl (P' := fun o => Pq o ∨ ((mn M ≤ o ∧ o < mn M12)))
        exact h
      · have hk2 : k = cnf C := by
          have : k < cnf C + 1 := hk
          omega
        obtain ⟨d, hA⟩ := hA
        have v12 : Wz C (fnC C fo) (fun o => mn M ≤ o ∧ o < mn M12) M12 M14 σ12 σ13 := ⟨⟨F14.1, fun o ho => F14.k ho⟩, ⟨fun o ho => P1214 o ho.1 ho.2, fun o ho hk23 => F14.so ho (fun z => by
          rcases z with z | z | z
          · rw [z, P12.k90] at hk23; exact absurd hk23 (by decide)
          · rw [z, L96.1] at hk23; exact absurd hk23 (by decide)
          · rcases a96 with q | q
            · omega
            · rw [z, G.k q.2.1, q.2.2] at hk23; exact absurd hk23 (by decide))⟩, ⟨Nat.le_refl _, fun w _ => w1214 w⟩, ⟨Tz13, Qz.ft f13 (by decide), Mz.ft f13 (by decide), Ez.ft f13 (by decide)⟩, ⟨⟨Nat.le_succ _, h12⟩, hCk, Nat.le_of_eq hC1000⟩, fun k hk => by rw [v42, ifF (by omega)], rfl⟩
        subst hk2
        refine ⟨?_, ?_, bs, x, d, ?_, hbs, ?_, ?_, hx, ?_⟩
        · rw [hCn]; exact Or.inr hfo
        · rw [hCn, sfo.k]; exact kfo
        · rw [hCn, sfo.r, hrow]
          exact ⟨Lrow, Or.inr hL.2.1, fun z => Or.inr ⟨hL.2.2.2 (by rw [rr] at z; exact z) |> fun h => by rw [rr]; exact h, by
            rw [rr] at z ⊢
            rcases hL.1.lt with q | q
            · exact absurd q z
            · exact q⟩⟩
        · rw [v42, ifT rfl]
        · rw [v43, ifT rfl]
        · rw [hCn, sfo.r, ha]
          exact AR.wz v12 (fun o ho => Or.inr ho) ⟨Nat.le_refl _, hnf, Nat.le_refl _⟩ d d 0 a x (Nat.le_refl _) hA
  have hp12 := P12.px
  have CN := TPn.cn (by rw [(f13 49 rfl).1, (hft 49 rfl).1]; exact HC.1) HC.2.1
  obtain ⟨-, ⟨-, -, b3, -, b5⟩, a3, a4, N, Q, ⟨a8, a9, a10⟩, a11, a12, a13⟩ := P12
  have t39 : tI σ12 39 = 0 := by
    rcases b5 with ⟨_, _, q⟩ | ⟨q, _⟩
    · exact q
    · omega
  have h406 : mI M14 406 90 = mI M12 406 90 := by
    rw [hM14, mI_msR, (F13.so (o := 90) (by omega) (by omega)).i]
  have PxN : Px M14 σ13 (cb C) (cl C) (cm C) (ct C) (cp C) i' := by
    have e4 : mI M14 404 90 = mI M12 404 90 := by rw [hM14, mI_msR, (F13.so (o := 90) (by omega) (by omega)).i]
    have e5 : mI M14 405 90 = mI M12 405 90 := by rw [hM14, mI_msR, (F13.so (o := 90) (by omega) (by omega)).i]
    refine hp12.go F14 (fun o z => ?_) e4 (by rw [e5]; exact hp12.2.2.1.2.1) hp12.2.2.1.2.2 (hp12.2.2.2.1.1.kp f13 rfl rfl) (hp12.2.2.2.1.2.1.kp f13 rfl rfl) (by rw [(f13 0 rfl).1]; exact hp12.2.2.2.1.2.2.1) (by rw [(f13 18 rfl).1]; exact hp12.2.2.2.1.2.2.2) ?_ ?_
    · have e : mR M12 201 4 = mR M 201 4 := (G.so (o := 4) (by omega) (by decide)).r 201
      rcases z with z | z | z
      · exact Or.inl z
      · exact Or.inr ⟨by omega, fun q => nmx o (by rw [q, e]) (Or.inr (Or.inl z))⟩
      · exact Or.inr ⟨by omega, fun q => nmx o (by rw [q, e]) (Or.inr (Or.inr z))⟩
    · obtain ⟨kd, s, b1, b2⟩ := hp12.2.2.2.2.1
      refine ⟨kd, s, by rw [(f13 11 rfl).1, (f13 12 rfl).1]; exact b1, ?_⟩
      rw [(f13 14 rfl).1, (f13 15 rfl).1, (f13 17 rfl).1, (f13 16 rfl).2.1]; exact b2
    · rw [(f13 10 rfl).1]; exact hp12.2.2.2.2.2
  have LoN : LoR (fnC C fo) M14 σ13 := by
    obtain ⟨xs, c1, c2, c3, c4, c5⟩ := P0.en.2.2.1
    exact ⟨xs, c1.so2 GM (sl 95 (by decide) (by decide)) (sa 95 (by decide) (by decide)), c2, c3, by rw [(f13 37 rfl).1, (hft 37 rfl).1]; exact c4, fun k hk => by
      have : k < cnl C := hk
      omega⟩
  have FuN : FuR (fnC C fo) M14 σ13 := by
    refine ⟨fs, nfs ++ [fo], l89.so2 GM (sl 89 (by decide) (by decide)) (sa 89 (by decide) (by decide)), L9614, by rw [List.length_append]; show cnf C + 1 = _; rw [hfl]; simp [Nat.add_assoc], h12, v48, fun k hk => ?_⟩
    rcases Nat.lt_or_ge k (cnf C) with g | g
    · obtain ⟨b1, ⟨e1, e2, e3⟩, ⟨w', g1, g2, g3, g4⟩, xs, m1, m2, m3, m4, m5⟩ := hfn k g
      obtain ⟨p1, -, ys, -, -, p2, -⟩ := hT.2.2.1 k g
      have s := GM.so e2 (fun z => (xk _ e2 z).1 p1)
      have sr := GM.so m2 (fun z => (xk _ m2 z).1 p2.2.1)
      refine ⟨?_, ⟨?_, ?_, ?_⟩, ⟨w', ?_, g2, g3, ?_⟩, xs, ?_, ?_, ?_, m4, m5⟩
      · rw [hCk k g, ← List.append_assoc, getD_app_l (by rw [List.length_append]; omega)]; exact b1
      · rw [hCk k g, s.k]; exact e1
      · rw [hCk k g]; omega
      · rw [hCk k g]; exact e3
      · rw [hCk k g, s.i]; exact g1
      · rw [h40 k g, w14]; exact g4
      · rw [hCk k g, s.r]
        exact m1.so2 GM sr (fun z => GM.so z (fun q => (xk _ z q).1 (p2.2.2 (fun e => by rw [e] at z; omega))))
      · rw [hCk k g, s.r]; omega
      · rw [(h42 k g).1]; exact m3
    · have hk2 : k = cnf C := by
        have : k < cnf C + 1 := hk
        omega
      subst hk2
      refine ⟨?_, ⟨?_, ?_, ?_⟩, ⟨w, ?_, hw.2.1, hw.2.2, ?_⟩, bs, ?_, ?_, ?_, hbs⟩
      · rw [hCn, hfl, ← List.append_assoc, ← List.length_append]
        have := getD_app_r (xs := fs ++ nfs) (ys := [fo]) (k := 0)
        rw [Nat.add_zero] at this
        rw [this]; rfl
      · rw [hCn, sfo.k]; exact kfo
      · rw [hCn]; omega
      · rw [hCn]; omega
      · rw [hCn, sfo.i]; exact hw.1
      · rw [v40, ifT rfl, w14]
      · rw [hCn, sfo.r, hrow]; exact Lrow
      · rw [hCn, sfo.r, hrow]; have := hL.2.1.2; omega
      · rw [v42, ifT rfl]
  have e12 : mn (msR M12 408 90 0) = mn M12 := rfl
  have e12' : ms (msR M12 408 90 0) = ms M12 := rfl
  have m14 : ms M14 = ms M13 := by rw [hM14]; rfl
  have PN : Pe (fnC C fo) M14 σ13 i' 0 c s n := by
    obtain ⟨q4, q5, q6, q7⟩ := a4
    refine ⟨PxN, ⟨by rw [GM.k (by omega)]; exact k90, by omega, LoN, FuN, Or.inl ⟨hcr, by rw [hM14, mR_msR, ifT ⟨rfl, rfl⟩], by rw [(f13 39 rfl).1]; exact t39⟩⟩, ⟨by rw [h406]; exact a3.1, by rw [(f13 20 rfl).1]; exact a3.2.1, a3.2.2⟩, ⟨?_, ?_, q6, q7⟩, N, Q, ⟨by rw [(f13 28 rfl).1]; exact a8, ⟨a9.1, by rw [hC1000]; exact a9.2⟩, a10⟩, by rw [(f13 34 rfl).1]; exact a11, a12, a13⟩
    · show mn M14 + 16 * (ct C - i') + c ≤ cN C
      omega
    · show ms M14 + 2048 * (ct C - i') + s ≤ cS C
      omega
  have twn : Tw σ σ13 := by
    refine ⟨⟨hzz.1, hzz.2.1.b, hzz.2.2⟩, fun k _ => hcls k, fun k hk => ?_⟩
    rw [t48, hix] at hk
    exact ⟨fun f hf => by rcases hf with rfl | rfl; exact (h42 k hk).1; exact (h42 k hk).2, h40 k hk⟩
  have F14t : Fz (Xl Mt) Mt M14 := F0.tr2 GM (fun o ho z => by
    rcases z with z | z | z
    · exact Or.inl z
    · exact Or.inr (Or.inr (Or.inl z))
    · rcases ha0 96 (by decide) with g | g
      · rw [g] at z; exact Or.inr (Or.inr (Or.inr (Or.inr (Or.inr (Or.inl z)))))
      · omega)
  refine ⟨⟨PN, hcn, hcr, hcl, by rw [hC1000]; exact hf1⟩, ⟨⟨L88.so2 GM (sl 88 (by decide) (by decide)) (sa 88 (by decide) (by decide)), L97.so2 GM (sl 97 (by decide) (by decide)) (sa 97 (by decide) (by decide))⟩, CN⟩, S14, ⟨_, TPn⟩, ⟨⟨E00, by rw [(f13 58 rfl).1, (hft 58 rfl).1]; exact e58, hE0⟩, ⟨K1, by rw [(f13 65 rfl).1, (hft 65 rfl).1]; exact k65, k1, ?_⟩, Q1, by rw [(f13 72 rfl).1, (hft 72 rfl).1]; exact q72, q1, ?_⟩, ⟨F14t, fun l hl => ?_, h167t⟩, htw.tr twn h49t h48t, hqz.tr hzz.2.1, ?_, ?_⟩
  · rw [hCX]; show K1 + (ct C - i') ≤ cX C
    omega
  · rw [hCX]; show Q1 + (ct C - i') ≤ cX C
    omega
  · rcases rows14 l hl with q | q
    · rw [q]; exact ha0 l hl
    · right; omega
  · rw [(f13 49 rfl).1, (hft 49 rfl).1]; exact h49t
  · rw [v48, ix_nI (by omega)]
    rw [t48, hix] at h48t
    omega
end FFIN
