/-! Layer B: classes: the new one; its elements -/
set_option maxRecDepth 100000
def cxN (M : CM) : CM := msR (liM (mnew (msR (liM (mnew (mnew M 10 0 5) 22 0 3) (mn M + 1)) 1802 (mn M) (mn M + 1)) 22 0 3) (mn M + 2)) 1803 (mn M) (mn M + 2)
/-- a new Model with its two rows: it's the one that is read -/
def cxM (M : CM) (x1 : Int32) : CM := msI (msR (cxN M) 411 90 (mn M)) 1801 (mn M) x1
section CLASS
variable {C : PC} {M M' M0 Mb Mb0 : CM} {σ σ' σ0 σb s1 : TS} {i dep c s n ib depb cb' sb' nb' K cc E0 cur ce v w : Nat} {es mss ns : List Nat} {X : Nat → Prop}
theorem Pe.s411 {u : Nat} (P : Pe C M σ i dep c s n) : Pe C (msR M 411 90 u) σ i dep c s n := by
  obtain ⟨a1, a2, a3, a4, a5⟩ := P
  have F : Fz (fun o => o = 90) M (msR M 411 90 u) := Fz.rf.msR (fun _ => rfl)
  exact ⟨a1.go F (fun o z => Or.inl z) rfl a1.2.2.1.2.1 a1.2.2.1.2.2 a1.2.2.2.1.1 a1.2.2.2.1.2.1 a1.2.2.2.1.2.2.1 a1.2.2.2.1.2.2.2 a1.2.2.2.2.1 a1.2.2.2.2.2, a2.fz F (fun o z => by rw [z]; exact a2.1) (by rw [mR_msR, ifF (by omega)]) (fun w _ => rfl) (Ft.rf [] σ) (by decide), a3, a4, a5⟩
theorem cxM_ok (M : CM) (x1 : Int32) (h6 : mn M ≤ 601024) (h167 : 167 ≤ mn M) : Fz none_ (msR M 411 90 (mn M)) (cxM M x1) ∧ (mn (cxM M x1) = mn M + 3 ∧ ms (cxM M x1) = ms M + 11) ∧ (mk (cxM M x1) (mn M) = 10 ∧ mk (cxM M x1) (mn M + 1) = 22 ∧ mk (cxM M x1) (mn M + 2) = 22) ∧ (mR (cxM M x1) 1802 (mn M) = mn M + 1 ∧ mR (cxM M x1) 1803 (mn M) = mn M + 2 ∧ mR (cxM M x1) 411 90 = mn M ∧ mI (cxM M x1) 1801 (mn M) = x1 ∧ mI (cxM M x1) 1804 (mn M) = 0) ∧ ((∀ Mb, mn Mb ≤ mn M → LsB Mb (cxM M x1) (mn M + 1) []) ∧ mR (cxM M x1) 4201 (mn M + 1) = 4398046511104) ∧ (∀ Mb, mn Mb ≤ mn M → LsB Mb (cxM M x1) (mn M + 2) []) ∧ mR (cxM M x1) 4201 (mn M + 2) = 4398046511104 := by
  have kk : ∀ o, mk (cxM M x1) o = mk (mnew (mnew (mnew M 10 0 5) 22 0 3) 22 0 3) o := fun _ => rfl
  have hn : mn (cxM M x1) = mn M + 3 := rfl
  have n1 : mn (mnew M 10 0 5) = mn M + 1 := rfl
  have n2 : mn (mnew (mnew M 10 0 5) 22 0 3) = mn M + 2 := rfl
  have n4 : mn (msR (msR (msI (mnew (mnew M 10 0 5) 22 0 3) 4200 (mn M + 1) 0) 4201 (mn M + 1) 4398046511104) 1802 (mn M) (mn M + 1)) = mn M + 2 := rfl
  have n3 : mn (msR (liM (mnew (mnew M 10 0 5) 22 0 3) (mn M + 1)) 1802 (mn M) (mn M + 1)) = mn M + 2 := rfl
  have k0 : mk (cxM M x1) (mn M) = 10 := by rw [kk, mk_mnew, ifF (by omega), mk_mnew, ifF (by omega), mk_mnew, ifT rfl]
  have k1 : mk (cxM M x1) (mn M + 1) = 22 := by rw [kk, mk_mnew, ifF (by omega), mk_mnew, ifT (by omega)]
  have k2 : mk (cxM M x1) (mn M + 2) = 22 := by rw [kk, mk_mnew, ifT (by omega)]
  have F0 : Fz none_ M (cxN M) := ((((((((Fz.rf (X := none_)).mnew.mnew.msI (fun z => by omega)).msR (fun z => by omega)).msR (fun z => by omega)).mnew).msI (fun z => by omega)).msR (fun z => by omega)).msR (fun z => by omega))
  have F : Fz none_ (msR M 411 90 (mn M)) (cxM M x1) := by
    refine ⟨by rw [hn]; show mn M ≤ _; omega, fun o ho => ?_, fun o ho _ => ?_⟩
    · exact F0.2.1 o ho
    · have s := F0.so (o := o) ho (fun z => z)
      have ho : o < mn M := ho
      refine ⟨s.1, fun g => ?_, fun g => ?_, s.a, s.lo, s.x⟩
      · unfold cxM
        rw [mI_msI, ifF (by omega)]; exact s.i g
      · unfold cxM
        rw [mR_msI, mR_msR, mR_msR]
        by_cases q : g = 411 ∧ o = 90
        · rw [ifT q, ifT q]
        · rw [ifF q, ifF q]; exact s.r g
  have r1 : mR (cxM M x1) 4201 (mn M + 1) = 4398046511104 := by
    unfold cxM cxN liM
    rw [mR_msI, mR_msR, ifF (by omega), mR_msR, ifF (by omega), mR_msR, ifF (by omega), mR_msI, mR_mnew, ifF (by omega), mR_msR, ifF (by omega), mR_msR, ifT ⟨rfl, rfl⟩]
  have r2 : mR (cxM M x1) 4201 (mn M + 2) = 4398046511104 := by
    unfold cxM cxN liM
    rw [mR_msI, mR_msR, ifF (by omega), mR_msR, ifF (by omega), mR_msR, ifT ⟨rfl, rfl⟩]
  have z1 : mI (cxM M x1) 4202 (mn M + 1) = 0 := by
    unfold cxM cxN liM
    rw [mI_msI, ifF (by omega), mI_msR, mI_msR, mI_msR, mI_msI, ifF (by omega), mI_mnew, ifF (by omega), mI_msR, mI_msR, mI_msI, ifF (by omega), mI_mnew, ifT (by omega)]
  have z2 : mI (cxM M x1) 4202 (mn M + 2) = 0 := by
    unfold cxM cxN liM
    rw [mI_msI, ifF (by omega), mI_msR, mI_msR, mI_msR, mI_msI, ifF (by omega), mI_mnew, ifT (by omega)]
  have z4 : mI (cxM M x1) 1804 (mn M) = 0 := by
    unfold cxM cxN liM
    rw [mI_msI, ifF (by omega), mI_msR, mI_msR, mI_msR, mI_msI, ifF (by omega), mI_mnew, ifF (by omega), mI_msR, mI_msR, mI_msI, ifF (by omega), mI_mnew, ifF (by omega), mI_mnew, ifT rfl]
  refine ⟨F, ⟨hn, rfl⟩, ⟨k0, k1, k2⟩, ⟨?_, ?_, ?_, ?_, z4⟩, ⟨fun Mb hb => ⟨⟨k1, z1, by decide, fun i hi => absurd hi (Nat.not_lt_zero _), Or.inl ⟨r1, rfl⟩⟩, ⟨by omega, by omega⟩, by rw [r1]; omega, fun z => absurd r1 z⟩, r1⟩, fun Mb hb => ⟨⟨k2, z2, by decide, fun i hi => absurd hi (Nat.not_lt_zero _), Or.inl ⟨r2, rfl⟩⟩, ⟨by omega, by omega⟩, by rw [r2]; omega, fun z => absurd r2 z⟩, r2⟩
  · unfold cxM cxN liM
    rw [mR_msI, mR_msR, ifF (by omega), mR_msR, ifF (by omega), mR_msR, ifF (by omega), mR_msI, mR_mnew, ifF (by omega), mR_msR, ifT ⟨rfl, rfl⟩]
  · unfold cxM cxN
    rw [mR_msI, mR_msR, ifF (by omega), mR_msR, ifT ⟨rfl, rfl⟩]
  · unfold cxM
    rw [mR_msI, mR_msR, ifT ⟨rfl, rfl⟩]
  · unfold cxM
    rw [mI_msI, ifT ⟨rfl, rfl⟩]
theorem cx_al (x1 : Int32) (hc : mn M + 3 ≤ 601024 ∧ ms M + 24 ≤ 7293034) (h0 : 167 ≤ mn M) (hm : Ls (cxM M x1) 88 mss) (hn : Ls (cxM M x1) 97 ns) : K_X2_newModel x1 M = if nI mss.length + nI ns.length = 24 then KJ_X2_newModel_52 x1 (mn M) 90 1 (cxM M x1) else KJ_X2_newModel_52 x1 (mn M) 90 0 (cxM M x1) := by
  have n1 : mn (mnew M 10 0 5) = mn M + 1 := rfl
  have s1 : ms (mnew M 10 0 5) = ms M + 5 := rfl
  have n2 : mn (msR (liM (mnew (mnew M 10 0 5) 22 0 3) (mn M + 1)) 1802 (mn M) (mn M + 1)) = mn M + 2 := rfl
  have s2 : ms (msR (liM (mnew (mnew M 10 0 5) 22 0 3) (mn M + 1)) 1802 (mn M) (mn M + 1)) = ms M + 8 := rfl
  have k1 : mk (mnew (mnew M 10 0 5) 22 0 3) (mn M + 1) = 22 := by rw [mk_mnew, ifT (by omega)]
  have i1 : mI (mnew (mnew M 10 0 5) 22 0 3) 4202 (mn M + 1) = 0 := by rw [mI_mnew, ifT (by omega)]
  have a1 := (ls_init k1 (by omega) i1).1
  have k2 : mk (mnew (msR (liM (mnew (mnew M 10 0 5) 22 0 3) (mn M + 1)) 1802 (mn M) (mn M + 1)) 22 0 3) (mn M + 2) = 22 := by rw [mk_mnew, ifT (by omega)]
  have i2 : mI (mnew (msR (liM (mnew (mnew M 10 0 5) 22 0 3) (mn M + 1)) 1802 (mn M) (mn M + 1)) 22 0 3) 4202 (mn M + 2) = 0 := by rw [mI_mnew, ifT (by omega)]
  have a2 := (ls_init k2 (by omega) i2).1
  have kv1 : mk (msR (msI (mnew (mnew M 10 0 5) 22 0 3) 4200 (mn M + 1) 0) 4201 (mn M + 1) 4398046511104) (mn M) = 10 := by
    show mk (mnew (mnew M 10 0 5) 22 0 3) (mn M) = 10
    rw [mk_mnew, ifF (by omega), mk_mnew, ifT rfl]
  have kv2 : mk (msR (msI (mnew (msR (liM (mnew (mnew M 10 0 5) 22 0 3) (mn M + 1)) 1802 (mn M) (mn M + 1)) 22 0 3) 4200 (mn M + 2) 0) 4201 (mn M + 2) 4398046511104) (mn M) = 10 := by
    show mk (mnew (msR (liM (mnew (mnew M 10 0 5) 22 0 3) (mn M + 1)) 1802 (mn M) (mn M + 1)) 22 0 3) (mn M) = 10
    rw [mk_mnew, ifF (by omega)]; exact kv1
  have r411 : mR (msR (cxN M) 411 90 (mn M)) 411 90 = mn M := by rw [mR_msR, ifT ⟨rfl, rfl⟩]
  have e411 : mR (cxM M x1) 411 90 = mn M := r411
  unfold K_X2_newModel K_X10_init
  rw [ifT ⟨by omega, by omega⟩, nm_eq, nm_eq, ifT (by omega), ifT (by omega), ifT ⟨by omega, by omega⟩, nm_eq, nm_eq, n1, ifT (by omega), a1, ob_some, ifT kv1, nm_eq]
  rw [show msR (msR (msI (mnew (mnew M 10 0 5) 22 0 3) 4200 (mn M + 1) 0) 4201 (mn M + 1) 4398046511104) 1802 (mn M) (mn M + 1) = msR (liM (mnew (mnew M 10 0 5) 22 0 3) (mn M + 1)) 1802 (mn M) (mn M + 1) from rfl, ifT ⟨by omega, by omega⟩, nm_eq, nm_eq, n2, ifT (by omega), a2, ob_some, ifT kv2, nm_eq, ob_some, nm_eq]
  rw [show msR (msR (msI (mnew (msR (liM (mnew (mnew M 10 0 5) 22 0 3) (mn M + 1)) 1802 (mn M) (mn M + 1)) 22 0 3) 4200 (mn M + 2) 0) 4201 (mn M + 2) 4398046511104) 1803 (mn M) (mn M + 2) = cxN M from rfl, r411, ifT (show mk (msR (cxN M) 411 90 (mn M)) (mn M) = 10 from kv2), nm_eq]
  rw [show msI (msR (cxN M) 411 90 (mn M)) 1801 (mn M) x1 = cxM M x1 from rfl, ls_size hm, ob_some, ls_size hn, ob_some, e411]
/-- what the twin's tables of elements keep -/
def Frm (c : Nat) (σ σ' : TS) : Prop := Km σ' ∧ Mz σ σ' ∧ Ez σ σ' ∧ ∀ k, k ≠ c → tA σ' 46 k = tA σ 46 k
theorem Frm.tr {c : Nat} (h : Frm c σ0 σ) (g : Frm c σ σ') : Frm c σ0 σ' := ⟨g.1, h.2.1.tr g.2.1, h.2.2.1.tr g.2.2.1, fun k hk => (g.2.2.2 k hk).trans (h.2.2.2 k hk)⟩
theorem Frm.ft {S : List Nat} {c : Nat} (h : Frm c σ0 σ) (f : Ft S σ σ') (hS : (46 :: 58 :: eTb).all (fun k => !S.contains k) = true) : Frm c σ0 σ' := by
  have hf : ∀ k, k ∈ (46 :: 58 :: eTb) → S.contains k = false := fun k hk => by
    have := List.all_eq_true.mp hS k hk
    simpa using this
  obtain ⟨⟨K, k1, k2⟩, h2, h3, h4⟩ := h
  refine ⟨⟨K, by rw [(f 65 (hf 65 (by decide))).1]; exact k1, k2⟩, h2.tr (Mz.ft f ?_), h3.tr (Ez.ft f ?_), fun k hk => by rw [(f 46 (hf 46 (by decide))).2.2.1]; exact h4 k hk⟩
  · rw [List.all_eq_true]
    intro k hk
    rw [hf k (by revert hk; simp only [List.mem_cons, List.not_mem_nil, or_false]; omega)]; rfl
  · rw [List.all_eq_true]
    intro k hk
    rw [hf k (by revert hk; simp only [List.mem_cons, List.not_mem_nil, or_false]; omega)]; rfl
/-- how the elements of a class end -/
def ElO (C : PC) (Mb : CM) (σb : TS) (M0 : CM) (σ0 : TS) (i dep c s n cur ce cc E0 : Nat) (x1 : Int32) (o : Option ((Unit ⊕ (Unit ⊕ Nat)) × CM)) (p : Option (Unit × TS)) : Prop :=
  (∃ M' σ' i' es' K', o = some (.inl (), M') ∧ p = some ((), σ') ∧ Pe C M' σ' i' dep c s n ∧ i ≤ i' ∧ Es Mb σb M' σ' ∧ ClX C Mb M' σ' cur ce cc E0 es' ∧ (tI σ' 65 = nI K' ∧ 1 ≤ K' ∧ K' + (ct C - i') ≤ cX C) ∧ Frm cc σ0 σ' ∧ Fz (fun o => o = 90 ∨ o = ce ∨ o = mR M0 4201 ce) M0 M' ∧ (mR M' 4201 ce = mR M0 4201 ce ∨ mn M0 ≤ mR M' 4201 ce) ∧ ((K_X2_isKey 14 M' = some (0, M') ∧ F_isWord 7309752731624370030 σ' = some (0, σ')) ∨ (x1 = 0 ∧ K_X2_isKey 14 M' = some (1, M') ∧ F_isWord 7309752731624370030 σ' = some (1, σ') ∧ i' < ct C))) ∨
  (∃ M' σ' p', o = some (.inl (), M') ∧ p = some ((), σ') ∧ x1 = 1 ∧ K_X2_isKey 14 M' = some (1, M') ∧ K_X2_stop M' = some (mn M', wM M' 2 p') ∧ FB C Mb σb (wM M' 2 p') (mn M') σ' ∧ Frm cc σ0 σ') ∨
  ∃ w M' σ', o = some (.inr (.inr w), M') ∧ p = some ((), σ') ∧ FB C Mb σb M' w σ' ∧ Frm cc σ0 σ'
end CLASS
