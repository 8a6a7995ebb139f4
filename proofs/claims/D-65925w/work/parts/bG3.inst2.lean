/-! Layer B: the flat model: instances of an element: the component's step; what stays -/
set_option maxRecDepth 100000
section INST2
variable {C C' : PC} {D D' D2 : FQ} {M M' M1 M2 : CM} {σ σ' σ0 σ1 σ2 σ4 : TS} {mss fss xs bs qs os : List Nat} {B l k n o m u w Q I I' L V V' Bm Bm' b v r R R' E E' cr i i' k0 fr e eo fl z env kk tf cb d len to : Nat} {P P' X T : Nat → Prop} {S S' O : List Nat} {a : Nat × Nat × Nat} {A W W1 W2 : List (Nat × Nat × Nat)} {ks : List (Nat × Nat)} {x : Int64} {cf : Nat → Nat → Int32 → Int32 → Int32 → CM → Option ((Unit ⊕ Nat) × CM)} {cf' : Int32 → Int32 → Int32 → TS → Option (Unit × TS)}
/-- the twin may write more after a fault -/
theorem FfO.tw (h : FfO C B P mss fss T fiS O D D' M M' σ σ' w) (f : Ft S σ' σ2) (hS : S.all fiS.contains = true) (hK : itK.all (fun k => !S.contains k) = true) (h0 : S.contains 0 = false ∧ S.contains 1 = false) : FfO C B P mss fss T fiS O D D' M M' σ σ2 w := by
  obtain ⟨⟨a1, a2, a3, a4⟩, b, c, d, ⟨e1, e2, e3, e4, e5⟩, g1, g2, g3⟩ := h
  obtain ⟨I', v⟩ := a1.mv (X := none_) Fz.rf (fun o ho z => absurd z (fun q => q)) rfl f hK
  exact ⟨⟨I', a2, a3, a4⟩, b, c.tr v (fun _ z => z), d, ⟨e1, by rw [(f 0 h0.1).1]; exact e2, by rw [(f 0 h0.1).1]; exact e3, e4, by rw [(f 1 h0.2).1]; exact e5⟩, g1, g2, g3.tr (f.mono hS)⟩
/-- a step of the twin alone -/
theorem SqM.tw (W : FW C B P mss fss D M σ) (f : Ft S σ σ') (hS : S.all fiS.contains = true) (hK : itK.all (fun k => !S.contains k) = true) (k : KpT σ σ' V I Bm E i) : SqM C P V I Bm R E i D D M M σ σ' := ⟨(W.wzT f hK).2, Dx.rf D M, fun _ _ => RwS.rf, Fq.rf, O1.rf _ _, f.mono hS, k⟩
/-- the chain's start is put back -/
theorem SqM.ch {y : Int32} (h : SqM C P V I Bm R E i D D' M M' (tsI σ 113 y) σ4) (W : FW C B P mss fss D M σ) (W4 : FW C B P mss fss D' M' σ4) : SqM C P V I Bm R E i D D' M M' σ (tsI σ4 113 (tI σ 113)) := by
  obtain ⟨a1, a2, a3, a4, a5, a6, ⟨k1, k2, k3, k4, k5, ⟨k6, k7⟩, k8⟩⟩ := h
  have f1 : Ft [113] σ (tsI σ 113 y) := (Ft.rf _ σ).p_tsI rfl
  have f2 : Ft [113] σ4 (tsI σ4 113 (tI σ 113)) := (Ft.rf _ σ4).p_tsI rfl
  obtain ⟨-, v1⟩ := W.wzT f1 (by decide)
  obtain ⟨-, v2⟩ := W4.wzT f2 (by decide)
  exact ⟨(v1.tr a1 (fun _ z => z)).tr v2 (fun _ z => z), a2, a3, a4, a5, ((f1.mono (by decide)).tr a6).tr (f2.mono (by decide)), ⟨k1, k2, k3, k4, k5, ⟨rfl, k7⟩, k8⟩⟩
theorem KpT.put (p : PutS σ E W σ') : KpT σ σ' V I Bm E i := by
  obtain ⟨p1, p2, p3, p4⟩ := p
  refine ⟨fun f hf n _ => ?_, fun n _ _ => (p1 88 rfl).2.2.1 n, fun f hf n _ => ?_, fun f hf n _ => ?_, fun f hf j hj => ?_, ⟨(p1 113 rfl).1, (p1 114 rfl).1⟩, fun c _ => (p1 112 rfl).2.2.1 c⟩
  · simp only [List.mem_cons, List.not_mem_nil, or_false] at hf
    rcases hf with rfl | rfl | rfl | rfl | rfl | rfl <;> exact (p1 _ rfl).2.2.1 n
  · simp only [List.mem_cons, List.not_mem_nil, or_false] at hf
    rcases hf with rfl | rfl | rfl | rfl | rfl <;> exact (p1 _ rfl).2.2.1 n
  · simp only [List.mem_cons, List.not_mem_nil, or_false] at hf
    rcases hf with rfl | rfl | rfl | rfl | rfl | rfl | rfl | rfl | rfl | rfl <;> exact (p1 _ rfl).2.2.1 n
  · obtain ⟨q1, q2, q3⟩ := p4 j hj
    simp only [List.mem_cons, List.not_mem_nil, or_false] at hf
    rcases hf with rfl | rfl | rfl
    · exact q1
    · exact q2
    · exact q3
theorem KpT.ni {idx : Int32} : KpT σ (niT σ I i' e k E' len idx) V I Bm E i := by
  obtain ⟨-, vo⟩ := niT_v (σ := σ) (I := I) (i := i') (e := e) (k := k) (E := E') (len := len) (idx := idx)
  have ff := niT_f (σ := σ) (I := I) (i := i') (e := e) (k := k) (E := E') (len := len) (idx := idx)
  refine ⟨fun f hf n hn => vo f (by simp only [List.mem_cons, List.not_mem_nil, or_false] at hf ⊢; omega) n (by omega), fun n hn _ => vo 88 (by decide) n (by omega), fun f hf n _ => ?_, fun f hf n _ => ?_, fun f hf j hj => ?_, ⟨(ff 113 rfl).1, (ff 114 rfl).1⟩, fun c _ => (ff 112 rfl).2.2.1 c⟩
  · simp only [List.mem_cons, List.not_mem_nil, or_false] at hf
    rcases hf with rfl | rfl | rfl | rfl | rfl <;> exact (ff _ rfl).2.2.1 n
  · simp only [List.mem_cons, List.not_mem_nil, or_false] at hf
    rcases hf with rfl | rfl | rfl | rfl | rfl | rfl | rfl | rfl | rfl | rfl <;> exact (ff _ rfl).2.2.1 n
  · simp only [List.mem_cons, List.not_mem_nil, or_false] at hf
    rcases hf with rfl | rfl | rfl <;> exact (ff _ rfl).2.2.1 j
/-- one instance of an element: what the component does -/
theorem k_inst1 {f j mo io cls io2 : Nat} {x3 x5 x8 : Int32} (hj : j < many z) (hmo : mk M mo = 16 ∧ mI M 3002 mo = nI z) (hz9 : z ≤ 9) (hr : KL_X0_instances_122 cf FU io mo x3 x5 eo cls x8 (nI j) x3 M = some ((), M1)) (k1 : mk M1 eo = 11 ∧ mI M1 2004 eo = nI z ∧ mI M1 2003 eo = nI w ∧ mk M1 1 = 1) (hn : K_X0_newInst io cls (nI w) (nI (if z = 0 then 0 else j + 1)) M1 = some (.inl io2, M2)) (k2 : mk M2 io2 = 14 ∧ mI M2 2600 io2 = nI I ∧ mk M2 mo = 16) :
    KL_X0_instances_110 cf (f + 1) io mo x3 x5 eo cls x8 (nI j) M = KJ_X0_instances_195_110 cf (KL_X0_instances_110 cf f) io mo x3 x5 eo cls x8 (nI j) io2 (if j = 0 then msI M2 3005 mo (nI I) else M2) := by
  have hm9 : many z ≤ 9 := by unfold many; by_cases y : z = 0 <;> simp [y] <;> omega
  have j176 : ∀ y : Int32, K_X0_newInst io cls (nI w) y M1 = some (.inl io2, M2) → KJ_X0_instances_176_110 cf (KL_X0_instances_110 cf f) io mo x3 x5 eo cls x8 (nI j) 1 io cls (nI w) y M1 = KJ_X0_instances_195_110 cf (KL_X0_instances_110 cf f) io mo x3 x5 eo cls x8 (nI j) io2 (if j = 0 then msI M2 3005 mo (nI I) else M2) := fun y hy => by
    unfold KJ_X0_instances_176_110
    rw [ifT (show 1 = 1 ∧ mk M1 1 = 1 from ⟨rfl, k1.2.2.2⟩), hy, obS_inl]
    by_cases q : j = 0
    · rw [ifT (show nI j = 0 from by rw [q]; rfl), ifT k2.1, ifT k2.2.2, k2.2.1, nm_eq, ifT q]
    · rw [ifF (show ¬ nI j = 0 from fun y => q ((bI_eq (b := 0) (by omega) (by decide)).mp y)), ifF q]
  rw [KL_X0_instances_110, ifT hmo.1, k_many hmo.1 hmo.2 hz9, ob_some, ifF (fun q => by have := (bI_le (by omega) (by omega)).mp q; omega), hr, ob_some, ifT k1.1, ifT k1.1, k1.2.1]
  by_cases q : z = 0
  · rw [ifT q] at hn
    rw [ifT (show nI z = 0 from by rw [q]; rfl), k1.2.2.1, show (0 : Int32) = nI 0 from rfl, j176 _ hn]
  · rw [ifF q] at hn
    rw [ifF (show ¬ nI z = 0 from fun y => q ((bI_eq (b := 0) (by omega) (by decide)).mp y)), k1.2.2.1, nI_addL, j176 _ hn]
end INST2
