/-! Layer B: a fault is told, both sides; what is flat stays -/
set_option maxRecDepth 100000
/-- what a fault leaves of object 1 and the twin -/
def flM (M : CM) (r p : Int32) : CM := msI (msI (wM M r p) 4 1 r) 5 1 p
def flT (s : TS) : TS := tsI (tsI (tsI s 2 (tI s 0)) 3 (tI s 1)) 0 0
section FAILS
variable {C C' : PC} {P : Nat → Prop} {mss fss : List Nat} {D D' D1 : FQ} {M M' M1 : CM} {σ σ' s : TS} {z7 : Nat → Nat} {B V I Bm K N E A Wn q qs v a b : Nat} {S I0 R A0 X0 : List Nat} {r p : Int32}
theorem k_fails (M : CM) (r p : Int32) : K_X0_fails (mn M) (wM M r p) = some (-5, flM M r p) := by
  have k1 : mk (wM M r p) (mn M) = 7 := wM_k M r p
  unfold K_X0_fails
  rw [ifT k1, nm_eq, ifT (show mk (msI (wM M r p) 4 1 (mI (wM M r p) 1200 (mn M))) (mn M) = 7 from k1), nm_eq, (wM_v M r p).1, mI_msI, ifF (by omega), (wM_v M r p).2]
  rfl
theorem t_faulted : F_faulted s = some (-5, flT s) := by
  unfold F_faulted
  rw [nm_eq, nm_eq, nm_eq]
  rfl
theorem flT_f : Ft [0, 2, 3] s (flT s) := (((Ft.rf _ s).p_tsI rfl).p_tsI rfl).p_tsI rfl
/-- nothing old is written -/
theorem FP.so (W : FW C B P mss fss D M σ) (h : FP C P mss D M σ z7 V I Bm K N E A Wn q qs) (F : Fz none_ M M') (w : Wz C C' P M M' σ σ) : FP C' P mss D M' σ z7 V I Bm K N E A Wn q qs := by
  have pw := W.2.1
  have n167 := W.n167
  have so : ∀ o, o < mn M → So M M' o := fun o ho => F.so ho (fun z => z)
  have row : ∀ l, l ∈ [98, 106, 111, 112, 113] → ∀ k, k < (pl D l).length → So M M' ((pl D l).getD k 0) := fun l hl k hk => so _ (pw.2.1 l (by
    have : ∀ l, l ∈ [98, 106, 111, 112, 113] → l ∈ flL := by decide
    exact this l hl) k hk).2.1.2
  obtain ⟨X, ⟨⟨-, n2, -⟩, -⟩, a1, ⟨⟨-, -, -, e4⟩, -⟩, ⟨⟨-, -, c3⟩, -⟩, ⟨⟨-, -, -, d4⟩, -⟩, -, jn, se, -⟩ := id h
  have V98 := X.1.1.1
  have fq : Fq D (fun _ => False) M M' := F.mono (fun o ho z => z.elim)
  have FX := X.kpw W fq (fun t z => z.elim) (fun k hk => ⟨fun f _ _ => (row 98 (by decide) k (by omega)).i f, fun f _ _ => (row 98 (by decide) k (by omega)).r f⟩) w (Dx.rf D M) (Ft.rf [] σ) (by decide) ⟨(so 1 (by omega)).i _, (so 1 (by omega)).i _⟩
  have nk : NdK D M σ D M' σ 106 K N := ⟨fun k hk => ⟨rfl, fun f _ => (row 106 (by decide) k (by omega)).i f, fun f _ => (row 106 (by decide) k (by omega)).r f⟩, fun _ _ _ _ => rfl, fun _ => rfl⟩
  refine h.mv FX nk ⟨fun _ _ => rfl, fun v hv => ⟨(row 98 (by decide) v (by omega)).r _, (row 98 (by decide) v (by omega)).r _⟩, fun k hk => ⟨(row 111 (by decide) k (by omega)).r _, (row 111 (by decide) k (by omega)).r _⟩, fun k hk => ⟨(row 112 (by decide) k (by omega)).i _, (row 112 (by decide) k (by omega)).i _, (row 112 (by decide) k (by omega)).r _⟩, fun k hk => ⟨(row 113 (by decide) k (by omega)).r _, (row 113 (by decide) k (by omega)).i _, (row 113 (by decide) k (by omega)).i _⟩, ⟨fun f _ => (so 1 (by omega)).i f, (so 105 (by omega)).i 604⟩, fun j => (so 114 (by omega)).x j, fun _ _ => rfl, fun _ _ _ => rfl⟩ (fun v hv => ?_) (jn.mv (fun j => (so 115 (by omega)).a j) (fun _ => rfl) (fun _ => rfl) (fun _ => rfl)) se
  obtain ⟨-, -, x3, x4⟩ := a1 v hv
  have s := row 98 (by decide) v (by omega)
  rw [s.i 3212]
  refine ⟨fun z => ?_, x4⟩
  have x3 := x3 z
  unfold Fl0 at x3 ⊢
  rw [s.i 3213]
  exact x3
theorem flM_kf : KF D [4, 5] [] [] [] (wM M r p) (flM M r p) := (KF.rf.wI rfl TZ.one).wI rfl TZ.one
theorem flM_v : mI (flM M r p) 4 1 = r ∧ mI (flM M r p) 5 1 = p ∧ mn (flM M r p) = mn M + 1 ∧ ms (flM M r p) = ms M + 8 := by
  unfold flM
  refine ⟨by rw [mI_msI, ifF (by omega), mI_msI, ifT ⟨rfl, rfl⟩], by rw [mI_msI, ifT ⟨rfl, rfl⟩], rfl, rfl⟩
/-- old objects but object 1 -/
theorem flM_so {o : Nat} (ho : o < mn M) (h1 : o ≠ 1) : So M (flM M r p) o := by
  have F : Fz (fun o => o = 1) (wM M r p) (flM M r p) := by
    unfold flM
    exact ((Fz.rf (X := fun o => o = 1)).msI (fun _ => rfl)).msI (fun _ => rfl)
  exact ((wM_f M r p).so ho (fun z => z)).tr (F.so (by have := (wM_n M r p).1; omega) h1)
theorem flM_i {f : Nat} (h1 : 1 < mn M) (hf : f ≠ 4 ∧ f ≠ 5) : mI (flM M r p) f 1 = mI M f 1 := by
  unfold flM
  rw [mI_msI, ifF (by omega), mI_msI, ifF (by omega)]
  exact ((wM_f M r p).so h1 (fun z => z)).i f
/-- a fault is told: what was read and what is flat stay -/
theorem z_failS (W : FW C B P mss fss D M σ) (hc : cN C + 1 ≤ 601024 ∧ cS C + 8 ≤ 7293034) (h1 : tI σ 0 = r ∧ tI σ 1 = p) : K_X0_fails (mn M) (wM M r p) = some (-5, flM M r p) ∧ F_faulted σ = some (-5, flT σ) ∧ FW (C.rm (cN C + 1) (cS C + 8)) B P mss fss D (flM M r p) (flT σ) ∧ (mI (flM M r p) 4 1 = tI (flT σ) 2 ∧ mI (flM M r p) 5 1 = tI (flT σ) 3 ∧ tI (flT σ) 0 = 0) ∧ ∀ z7 V I Bm K N E A Wn q qs, FP C P mss D M σ z7 V I Bm K N E A Wn q qs → FP (C.rm (cN C + 1) (cS C + 8)) P mss D (flM M r p) (flT σ) z7 V I Bm K N E A Wn q qs := by
  obtain ⟨W1, v1, F1⟩ := W.wm r p hc
  obtain ⟨W2, v2⟩ := W1.kf (flM_kf (D := D) (M := M) (r := r) (p := p)) rfl rfl rfl (flT_f (s := σ)) (by decide)
  refine ⟨k_fails M r p, t_faulted, W2, ⟨flM_v.1.trans h1.1.symm, flM_v.2.1.trans h1.2.symm, rfl⟩, fun z7 V I Bm K N E A Wn q qs h => ?_⟩
  have h2 := h.so W F1 (v1.tr (Wz.rm W.c12) (fun _ z => z) : Wz C (C.rm (cN C + 1) (cS C + 8)) P M (wM M r p) σ σ)
  exact h2.sv W1 v2 (SvR.kf (I := [4, 5]) (A0 := []) (flM_kf (D := D) (M := M) (r := r) (p := p)) rfl rfl ⟨rfl, rfl⟩ rfl) rfl rfl (fun f hf n _ => by
    have : ∀ f, f ∈ [121, 122, 123, 124, 134, 162] → ([0, 2, 3] : List Nat).contains f = false := by decide
    exact (flT_f f (this f hf)).2.2.1 n) flT_f (by decide) (by decide)
end FAILS
