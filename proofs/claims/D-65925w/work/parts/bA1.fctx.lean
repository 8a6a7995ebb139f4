/-! Layer B: functions: the new one; contexts with arguments -/
set_option maxRecDepth 100000
def fxN (M : CM) : CM := msR (liM (mnew (mnew M 6 0 3) 22 0 3) (mn M + 1)) 1001 (mn M) (mn M + 1)
/-- a new function with its row of arguments: it's the one that is read -/
def fxM (M : CM) : CM := msR (fxN M) 408 90 (mn M)
def fnC (C : PC) (fo : Nat) : PC := (cb C, cl C, cm C, ct C, cp C, cN C, cS C, cnf C + 1, fun k => if k = cnf C then fo else cfn C k, cnl C, clw C, car C)
def arC (C : PC) (a : Nat) : PC := (cb C, cl C, cm C, ct C, cp C, cN C, cS C, cnf C, cfn C, cnl C, clw C, a)
/-- with a fault the twin goes on and keeps what was there -/
def Tf (σ σ' : TS) : Prop := (tI σ' 0 = tI σ 0 ∧ tI σ' 1 = tI σ 1) ∧ Tz σ σ' ∧ Ft (36 :: 38 :: 39 :: fs26) σ σ'
section FCTX
variable {C : PC} {T P : Nat → Prop} {Mt Mb M M' M1 M2 M3 : CM} {σt σ σ' σb σ1 : TS} {i ib dep c s n cb' sb' nb' m L w fo row a : Nat} {cs bs fs nfs : List Nat}
theorem fxM_ok (M : CM) (h6 : mn M ≤ 601024) (h167 : 167 ≤ mn M) (h408 : mR M 408 90 = 0) : Fz none_ M (msR (fxM M) 408 90 0) ∧ (mn (fxM M) = mn M + 2 ∧ ms (fxM M) = ms M + 6) ∧ (mk (fxM M) (mn M) = 6 ∧ mk (fxM M) (mn M + 1) = 22) ∧ (mR (fxM M) 1001 (mn M) = mn M + 1 ∧ mR (fxM M) 408 90 = mn M) ∧ (∀ Mb, mn Mb ≤ mn M → LsB Mb (fxM M) (mn M + 1) []) ∧ mR (fxM M) 4201 (mn M + 1) = 4398046511104 := by
  have kk : ∀ o, mk (fxM M) o = mk (mnew (mnew M 6 0 3) 22 0 3) o := fun _ => rfl
  have hn : mn (fxM M) = mn M + 2 := rfl
  have n1 : mn (mnew M 6 0 3) = mn M + 1 := rfl
  have k0 : mk (fxM M) (mn M) = 6 := by rw [kk, mk_mnew, ifF (by omega), mk_mnew, ifT rfl]
  have k1 : mk (fxM M) (mn M + 1) = 22 := by rw [kk, mk_mnew, ifT (by omega)]
  have F0 : Fz none_ M (fxN M) := ((((Fz.rf (X := none_)).mnew.mnew.msI (fun z => by omega)).msR (fun z => by omega)).msR (fun z => by omega))
  have F : Fz none_ M (msR (fxM M) 408 90 0) := by
    refine ⟨F0.1, fun o ho => F0.2.1 o ho, fun o ho _ => ?_⟩
    have s := F0.so (o := o) ho (fun z => z)
    refine ⟨s.1, fun g => s.i g, fun g => ?_, s.a, s.lo, s.x⟩
    rw [mR_msR]
    by_cases q : g = 408 ∧ o = 90
    · rw [ifT q, q.1, q.2, h408]
    · rw [ifF q]
      unfold fxM
      rw [mR_msR, ifF q]; exact s.r g
  have r1 : mR (fxM M) 4201 (mn M + 1) = 4398046511104 := by
    unfold fxM fxN liM
    rw [mR_msR, ifF (by omega), mR_msR, ifF (by omega), mR_msR, ifT ⟨rfl, rfl⟩]
  have z1 : mI (fxM M) 4202 (mn M + 1) = 0 := by
    unfold fxM fxN liM
    rw [mI_msR, mI_msR, mI_msR, mI_msI, ifF (by omega), mI_mnew, ifT (by omega)]
  refine ⟨F, ⟨hn, rfl⟩, ⟨k0, k1⟩, ⟨?_, ?_⟩, fun Mb hb => ⟨⟨k1, z1, by decide, fun i hi => absurd hi (Nat.not_lt_zero _), Or.inl ⟨r1, rfl⟩⟩, ⟨by omega, by omega⟩, by rw [r1]; omega, fun z => absurd r1 z⟩, r1⟩
  · unfold fxM fxN
    rw [mR_msR, ifF (by omega), mR_msR, ifT ⟨rfl, rfl⟩]
  · unfold fxM
    rw [mR_msR, ifT ⟨rfl, rfl⟩]
theorem fx_al (hc : mn M + 2 ≤ 601024 ∧ ms M + 16 ≤ 7293034) (h0 : 167 ≤ mn M) (h1 : Ls (fxM M) 89 fs) (h2 : Ls (fxM M) 96 nfs) : K_X2_function M = if nI fs.length + nI nfs.length = 12 then KJ_X2_function_44 (mn M) 90 1 (fxM M) else KJ_X2_function_44 (mn M) 90 0 (fxM M) := by
  have n1 : mn (mnew M 6 0 3) = mn M + 1 := rfl
  have s1 : ms (mnew M 6 0 3) = ms M + 3 := rfl
  have k1 : mk (mnew (mnew M 6 0 3) 22 0 3) (mn M + 1) = 22 := by rw [mk_mnew, ifT (by omega)]
  have i1 : mI (mnew (mnew M 6 0 3) 22 0 3) 4202 (mn M + 1) = 0 := by rw [mI_mnew, ifT (by omega)]
  have a1 := (ls_init k1 (by omega) i1).1
  have kv1 : mk (msR (msI (mnew (mnew M 6 0 3) 22 0 3) 4200 (mn M + 1) 0) 4201 (mn M + 1) 4398046511104) (mn M) = 6 := by
    show mk (mnew (mnew M 6 0 3) 22 0 3) (mn M) = 6
    rw [mk_mnew, ifF (by omega), mk_mnew, ifT rfl]
  have r408 : mR (fxM M) 408 90 = mn M := by unfold fxM; rw [mR_msR, ifT ⟨rfl, rfl⟩]
  unfold K_X2_function K_X6_init
  rw [ifT ⟨by omega, by omega⟩, nm_eq, nm_eq, ifT (by omega), ifT (by omega), ifT ⟨by omega, by omega⟩, nm_eq, nm_eq, n1, ifT (by omega), a1, ob_some, ifT kv1, nm_eq, ob_some, nm_eq]
  rw [show msR (msR (msR (msI (mnew (mnew M 6 0 3) 22 0 3) 4200 (mn M + 1) 0) 4201 (mn M + 1) 4398046511104) 1001 (mn M) (mn M + 1)) 408 90 (mn M) = fxM M from rfl, ls_size h1, ob_some, ls_size h2, ob_some, r408]
theorem LoR.fz (h : LoR C M σ) (F : Fz (fun o => o = 90) M M') (h3 : mk M 90 = 3) (h167 : 167 ≤ mn M) (hw : ∀ w, wc M' w = wc M w) (f35 : ∀ k, tB σ' 35 k = tB σ 35 k) (f37 : tI σ' 37 = tI σ 37) : LoR C M' σ' := by
  obtain ⟨bs, a1, a2, a3, a4, a5⟩ := h
  refine ⟨bs, a1.fz F (by omega) (fun o z => by rw [z, h3]; exact ⟨by decide, by decide⟩), a2, a3, by rw [f37]; exact a4, fun k hk => ⟨(a5 k hk).1.fz F (fun o z => by rw [z, h3]; decide), ?_⟩⟩
  rw [f35, hw]; exact (a5 k hk).2
/-- the twin's mark of arguments is none of the scanner's -/
theorem Px.t39 {b : Nat → Int32} {len t : Nat} {pos : Nat → Nat} (a1 : Px M σ b len m t pos i) (f : Ft [39] σ σ') : Px M σ' b len m t pos i := by
  refine a1.go (X := none_) Fz.rf (fun o z => absurd z (fun q => q)) rfl a1.2.2.1.2.1 a1.2.2.1.2.2 (a1.2.2.2.1.1.kp f rfl rfl) (a1.2.2.2.1.2.1.kp f rfl rfl) (by rw [(f 0 rfl).1]; exact a1.2.2.2.1.2.2.1) (by rw [(f 18 rfl).1]; exact a1.2.2.2.1.2.2.2) ?_ ?_
  · obtain ⟨kd, s, b1, b2⟩ := a1.2.2.2.2.1
    refine ⟨kd, s, by rw [(f 11 rfl).1, (f 12 rfl).1]; exact b1, ?_⟩
    rw [(f 14 rfl).1, (f 15 rfl).1, (f 17 rfl).1, (f 16 rfl).2.1]; exact b2
  · rw [(f 10 rfl).1]; exact a1.2.2.2.2.2
/-- the head is read: the body has its arguments -/
theorem Ph.ar (P : Ph C M σ i c s n) (A : Fa C Mb M σ fo row bs) (h1 : 1 ≤ bs.length ∧ bs.length ≤ 4) (h167b : 167 ≤ mn Mb) : Pe (arC C bs.length) M (tsI σ 39 1) i 0 c s n := by
  have hp := P.px
  have hF := P.fu
  have k90 := P.k90
  have h167 := P.n167
  have f : Ft [39] σ (tsI σ 39 1) := (Ft.rf _ σ).p_tsI rfl
  obtain ⟨-, ⟨b1, b2, b3, -, -⟩, a3, a4, N, Q, ⟨a8, a9, a10⟩, a11, a12, a13⟩ := P
  obtain ⟨A1, ⟨A2, A3, A4, A5, A6⟩, A7, A8, A9⟩ := A
  have hL : LoR C M (tsI σ 39 1) := b3.fz (Ph.sf M 0) k90 h167 (fun _ => rfl) (fun _ => rfl) rfl
  have hF' : FuR C M (tsI σ 39 1) := hF.so (X := none_) Fz.rf (fun o _ _ => So.rf _ o) h167 (fun _ => rfl) rfl (fun _ => rfl) (fun _ => rfl)
  refine ⟨hp.t39 f, ⟨k90, h167, hL, hF', Or.inr ⟨h1.1, h1.2, by rw [A2]; omega, by rw [A2]; exact A5, by rw [A2]; exact A3, rfl, A8, bs, by rw [A2, A6]; exact A7.1, by rw [A2, A6]; exact A7.2.1.2, rfl, fun k hk => A9 k hk⟩⟩, a3, a4, N, Q, ⟨a8, a9, a10⟩, a11, a12, a13⟩
/-- the body is read -/
theorem Pe.ra (P : Pe (arC C a) M σ i 0 c s n) (hcr : car C = 0) : Ph C M (tsI σ 39 0) i c s n := by
  have hc : mn M ≤ 601024 := P.c6
  have f : Ft [39] σ (tsI σ 39 0) := (Ft.rf _ σ).p_tsI rfl
  obtain ⟨hp, ⟨b1, b2, b3, b4, b5⟩, a3, a4, N, Q, ⟨a8, a9, a10⟩, a11, a12, a13⟩ := P
  have b3 : LoR C M σ := b3
  have b4 : FuR C M σ := b4
  have F := Ph.fs M 0
  have hF' : FuR C (msR M 408 90 0) (tsI σ 39 0) := by
    refine b4.so F (fun o ho hd => F.so ho (fun z => ?_)) b2 (fun _ => rfl) rfl (fun _ => rfl) (fun _ => rfl)
    have k90 : mk M o = 3 := by rw [z]; exact b1
    obtain ⟨fs, nfs, a1, a2, a3, a4, a5, a6⟩ := b4
    have ne : ∀ k, mk M o = k → k ≠ 3 → False := fun k h1 h2 => h2 (h1.symm.trans k90)
    rcases hd with q | q | q | q | ⟨k, hk, q⟩
    · omega
    · omega
    · exact ne 55 (by rw [q]; exact a1.k55 hc (by rw [← q]; exact ho)) (by decide)
    · exact ne 55 (by rw [q]; exact a2.k55 hc (by rw [← q]; exact ho)) (by decide)
    · obtain ⟨-, ⟨c1, -, -⟩, -, bs, d1, -⟩ := a6 k hk
      rcases q with q | q | q
      · exact ne 6 (by rw [q]; exact c1) (by decide)
      · exact ne 22 (by rw [q]; exact d1.1) (by decide)
      · exact ne 55 (by rw [q]; exact d1.k55 hc (by rw [← q]; exact ho)) (by decide)
  have hp' : Px (msR M 408 90 0) (tsI σ 39 0) (cb C) (cl C) (cm C) (ct C) (cp C) i := (hp.t39 f).r408
  exact ⟨hp', ⟨b1, b2, b3.fz F b1 b2 (fun _ => rfl) (fun _ => rfl) rfl, hF', Or.inl ⟨hcr, by rw [mR_msR, ifT ⟨rfl, rfl⟩], rfl⟩⟩, a3, a4, N, Q, ⟨a8, a9, a10⟩, a11, a12, a13⟩
theorem Tf.tr (h : Tf σ σ1) (g : Tf σ1 σ') : Tf σ σ' := ⟨⟨g.1.1.trans h.1.1, g.1.2.trans h.1.2⟩, h.2.1.tr g.2.1, h.2.2.tr g.2.2⟩
theorem Fh.tf (h : Fh C Mb σb M' w σ) (g : Tf σ σ') : Flt M' w σ' ∧ Fz (fun o => o = 90) Mb M' ∧ (mn M' ≤ cN C ∧ ms M' ≤ cS C) ∧ Tz σb σ' := by
  obtain ⟨⟨a1, a2, a3, a4, a5⟩, b, c, d, e⟩ := h
  exact ⟨⟨a1, a2, by rw [g.1.1]; exact a3, by rw [g.1.2]; exact a4, by rw [g.1.1]; exact a5⟩, b, c, d.tr g.2.1⟩
/-- behind an expression that has a fault -/
theorem t_174e (h : tI σ 0 ≠ 0) (x3 : Int64) (r79 : Int32) : (nm (tsI σ 39 0) fun s82 => ob (F_pass 59 s82) fun _ s83 => ob (F_isBad s83) fun r88 s87 => if r88 = 0 then if inb (tI s87 48) 12 then nm (tsB s87 40 (ix (tI s87 48)) x3) fun s92 => if inb (tI s92 48) 12 then nm (tsA s92 42 (ix (tI s92 48)) (tI s92 38)) fun s94 => if inb (tI s94 48) 12 then nm (tsA s94 43 (ix (tI s94 48)) r79) fun s96 => nm (tsI s96 48 ((tI s96 48) + 1)) fun s97 => nm (tsI s97 38 0) fun s98 => some ((), s98) else none else none else none else some ((), s87)) = some ((), tsI σ 39 0) := by
  have hb : F_isBad (tsI σ 39 0) = some (1, tsI σ 39 0) := t_isBad1 h
  have h2 : F_pass 59 (tsI σ 39 0) = some ((), tsI σ 39 0) := by
    unfold F_pass
    rw [hb, ob_some, ifF (show ¬ (1 : Int32) = 0 from by decide)]
  rw [nm_eq, h2, ob_some, hb, ob_some, ifF (show ¬ (1 : Int32) = 0 from by decide)]
theorem t_passb (h : tI σ 0 ≠ 0) (x : Int32) : F_pass x σ = some ((), σ) := by
  unfold F_pass
  rw [t_isBad1 h, ob_some, ifF (show ¬ (1 : Int32) = 0 from by decide)]
/-- from the arguments on, with a fault -/
theorem t_174b (h : Bd C σ) (x3 : Int64) : ∃ σ', J_readFunction_174 x3 σ = some ((), σ') ∧ Tf σ σ' := by
  have h0 : tI σ 0 ≠ 0 := h.1
  have hb9 : Bd C (tsI σ 39 1) := h
  obtain ⟨y, s, e, g⟩ := bw_Fexpression (Br.rf hb9)
  have fe := fS_F_expression _ _ _ e
  unfold J_readFunction_174
  rw [t_passb h0, ob_some, t_passb h0, ob_some, nm_eq, e, ob_some, t_174e g.b]
  have f1 : Ft [39] σ (tsI σ 39 1) := (Ft.rf _ σ).p_tsI rfl
  have f2 : Ft [39] s (tsI s 39 0) := (Ft.rf _ s).p_tsI rfl
  exact ⟨_, rfl, ⟨g.1, g.2.1⟩, ((Tz.ft f1 (by decide)).tr g.2.2.2.1).tr (Tz.ft f2 (by decide)), ((f1.mono (by decide)).tr (fe.mono (by decide))).tr (f2.mono (by decide))⟩
theorem t_53b (h : Bd C σ) (x3 : Int64) : ∃ σ', (ob (L_readFunction_53 FU x3 σ) fun _ s67 => J_readFunction_174 x3 s67) = some ((), σ') ∧ Tf σ σ' := by
  obtain ⟨σ', e, g⟩ := t_174b h x3
  refine ⟨σ', ?_, g⟩
  rw [FUs, L_readFunction_53, t_isBad1 h.1, ob_some, ifF (show ¬ (1 : Int32) = 0 from by decide), ob_some]
  exact e
theorem t_42b (h : Bd C σ) (x3 : Int64) : ∃ σ', J_readFunction_42 x3 σ = some ((), σ') ∧ Tf σ σ' := by
  have hb : Bd C (tsI σ 38 0) := h
  obtain ⟨σ', e, g⟩ := t_53b hb x3
  have f1 : Ft [38] σ (tsI σ 38 0) := (Ft.rf _ σ).p_tsI rfl
  have g1 : Tf σ (tsI σ 38 0) := ⟨⟨rfl, rfl⟩, Tz.ft f1 (by decide), f1.mono (by decide)⟩
  refine ⟨σ', ?_, g1.tr g⟩
  unfold J_readFunction_42
  rw [nm_eq, t_passb (show tI (tsI σ 38 0) 0 ≠ 0 from h.1), ob_some]
  exact e
/-- what a fault keeps, from frames -/
theorem Tw.zf {S : List Nat} (f : Ft S σ σ') (hz : Tz σ σ') (h : (40 :: 41 :: 42 :: 43 :: 44 :: 45 :: 46 :: 47 :: 58 :: 66 :: 67 :: 68 :: 69 :: 70 :: 71 :: 72 :: eTb).all (fun k => !S.contains k) = true) : Tw σ σ' := ⟨⟨hz, (Qz.ft f (Ft.sub h (by decide))).b, Mz.ft f (Ft.sub h (by decide)), Ez.ft f (Ft.sub h (by decide))⟩, fun k _ => ⟨fun g hg => by rcases hg with rfl | rfl | rfl | rfl <;> exact (f _ (Ft.dis h (by decide))).2.2.1 k, (f 41 (Ft.dis h (by decide))).2.2.2 k⟩, fun k _ => ⟨fun g hg => by rcases hg with rfl | rfl <;> exact (f _ (Ft.dis h (by decide))).2.2.1 k, (f 40 (Ft.dis h (by decide))).2.2.2 k⟩⟩
end FCTX
