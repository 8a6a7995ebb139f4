/-! Layer B: what was read and what is flat stay while solving and running -/
set_option maxRecDepth 100000
section KEEP
variable {C : PC} {P : Nat → Prop} {mss fss : List Nat} {D D' D1 : FQ} {M M' M1 : CM} {σ σ' s : TS} {z7 : Nat → Nat} {B V I Bm K N E A Wn q qs v a b : Nat} {S I0 R A0 X0 : List Nat}
theorem TZ.toG {t : Nat} (h : TZ t) : TG t := by unfold TZ tg at h; unfold TG; omega
theorem TZ.toV {t : Nat} (h : TZ t) : TV t := by unfold TZ at h; unfold TV; unfold tg at *; omega
theorem FW.kf (W : FW C B P mss fss D M σ) (k : KF D I0 R A0 X0 M M') (h1 : [9, 601, 602, 603, 4202].all (fun k => !I0.contains k) = true) (h2 : [600, 801, 802, 803, 804, 805, 806, 2605, 3204, 4201].all (fun k => !R.contains k) = true) (h3 : X0.all (fun x => x < 167) = true) (f : Ft S σ σ') (hK : itK.all (fun k => !S.contains k) = true) : FW C B P mss fss D M' σ' ∧ Wz C C P M M' σ σ' := by
  have hI : ∀ k, k ∈ [9, 601, 602, 603, 4202] → I0.contains k = false := fun k hk => by simpa using List.all_eq_true.mp h1 k hk
  have hR : ∀ k, k ∈ [600, 801, 802, 803, 804, 805, 806, 2605, 3204, 4201] → R.contains k = false := fun k hk => by simpa using List.all_eq_true.mp h2 k hk
  have rm := rm_same (D := D) (M := M) (M' := M') ⟨k.n, k.2.2.2.2.2.2.2.2⟩ (fun o => ⟨k.r (hR _ (by decide)) o, k.r (hR _ (by decide)) o, k.gl o⟩)
  refine W.mv2 (k.1.mono (fun t z => z.toG)) (k.i (hI 9 (by decide)) 1) (W.2.1.kf k (hI 4202 (by decide)) (by simp only [List.all_cons, List.all_nil, hR 2605 (by decide), hR 3204 (by decide), hR 4201 (by decide)]; rfl) h3) (Dx.rf D M) ⟨Nat.le_of_eq rm.1, Nat.le_of_eq rm.2⟩ (fun q hq => k.r (hR _ ?_) _) (fun q hq => k.i (hI _ ?_) _) f hK
  · have : ∀ q, q ∈ bfR → q.1 ∈ [600, 801, 802, 803, 804, 805, 806, 2605, 3204, 4201] := by decide
    exact this q hq
  · have : ∀ q, q ∈ bfI → q.1 ∈ [9, 601, 602, 603, 4202] := by decide
    exact this q hq
theorem FW.sv (W : FW C B P mss fss D M σ) (sv : SvR I0 A0 D M D' M') (hp : PoW D' M') (fx : FXb M') (h9 : I0.contains 9 = false) (f : Ft S σ σ') (hK : itK.all (fun k => !S.contains k) = true) : FW C B P mss fss D' M' σ' ∧ Wz C C P M M' σ σ' :=
  W.mv2 (sv.2.1.mono (fun t z => z.toG)) (sv.2.2.2.2.1 9 h9) hp sv.1 sv.2.2.2.1 (fun q hq => (fx.2.1 q hq).trans (W.2.2.2.1.2.1 q hq).symm) (fun q hq => (fx.2.2 q hq).trans (W.2.2.2.1.2.2 q hq).symm) f hK
/-- variables, nodes, equations, actions, whens: what solving leaves -/
theorem SvR.row (sv : SvR I0 A0 D M D' M') (W : PoW D M) {l k : Nat} (hl : l ∈ [98, 106, 111, 112, 113]) (hk : k < (pl D l).length) (h3 : I0.all (fun x => decide (x < 3000) || svX.contains x) = true) : (∀ f, 3000 ≤ f → svX.contains f = false → mI M' f ((pl D l).getD k 0) = mI M f ((pl D l).getD k 0)) ∧ ∀ f, 3000 ≤ f → ([3801, 4003] : List Nat).contains f = false → mR M' f ((pl D l).getD k 0) = mR M f ((pl D l).getD k 0) := by
  have hl' : l ∈ flL ∧ flX l ≤ 12000 ∧ 98 ≤ l ∧ l ≤ 113 := by
    have : ∀ l, l ∈ [98, 106, 111, 112, 113] → l ∈ flL ∧ flX l ≤ 12000 ∧ 98 ≤ l ∧ l ≤ 113 := by decide
    exact this l hl
  obtain ⟨-, q2, q3⟩ := W.2.1 l hl'.1 k hk
  have := (W.1 l (flL_A l hl'.1)).2.2
  have r := sv.2.2.2.2.2.2.2.1 _ q2.2 q2.1 (by rw [tgo_d q2.1, q3]; unfold tg; omega) (by rw [tgo_d q2.1, q3]; unfold tg; omega)
  refine ⟨fun f f1 f2 => r.1 f f1 ?_, r.2⟩
  cases e : I0.contains f with
  | false => rfl
  | true =>
    have := List.all_eq_true.mp h3 f (by simpa using e)
    rw [f2, Bool.or_false] at this
    have := of_decide_eq_true this
    omega
theorem FP.sv (W : FW C B P mss fss D M σ) (h : FP C P mss D M σ z7 V I Bm K N E A Wn q qs) (w : Wz C C P M M' σ σ') (sv : SvR I0 A0 D M D' M') (hI : [15, 16, 35, 37, 39, 41, 43].all (fun k => !I0.contains k) = true) (h3 : I0.all (fun x => decide (x < 3000) || svX.contains x) = true) (nd : ∀ f, f ∈ [121, 122, 123, 124, 134, 162] → ∀ n, n < N → tA σ' f n = tA σ f n) (f : Ft S σ σ') (hS : (flN ++ itK).all (fun k => !S.contains k) = true) (hS2 : [44, 94, 104, 105, 128, 129, 130, 144, 145, 146, 147, 148, 149, 150, 151, 152, 153, 154, 155, 156, 157, 158, 159, 160, 174, 175].all (fun k => !S.contains k) = true) : FP C P mss D' M' σ' z7 V I Bm K N E A Wn q qs := by
  have pw := W.2.1
  have n167 := W.n167
  have hi : ∀ k, k ∈ [15, 16, 35, 37, 39, 41, 43] → mI M' k 1 = mI M k 1 := fun k hk => sv.2.2.2.2.1 k (by simpa using List.all_eq_true.mp hI k hk)
  have hf : ∀ k, k ∈ [44, 94, 104, 105, 128, 129, 130, 144, 145, 146, 147, 148, 149, 150, 151, 152, 153, 154, 155, 156, 157, 158, 159, 160, 174, 175] → S.contains k = false := fun k hk => by simpa using List.all_eq_true.mp hS2 k hk
  have hn : ∀ k, k ∈ [74, 75] → S.contains k = false := fun k hk => by
    have : ∀ k, k ∈ [74, 75] → (flN ++ itK).contains k = true := by decide
    simpa using List.all_eq_true.mp hS k (by simpa using this k hk)
  have tI_ : ∀ k, k ∈ [44, 94, 104, 105, 128, 129, 130, 144, 145, 146, 147, 148, 149, 150, 151, 152, 153, 154, 155, 156, 157, 158, 159, 160, 174, 175] → tI σ' k = tI σ k := fun k hk => (f k (hf k hk)).1
  have tA_ : ∀ k, k ∈ [44, 94, 104, 105, 128, 129, 130, 144, 145, 146, 147, 148, 149, 150, 151, 152, 153, 154, 155, 156, 157, 158, 159, 160, 174, 175] → ∀ j, tA σ' k j = tA σ k j := fun k hk => (f k (hf k hk)).2.2.1
  have so : ∀ o, o < 167 → ¬ TZ o → So M M' o := fun o ho hz => Fz.so sv.2.1 (by omega) (fun z => hz (by rw [tgo_s ho] at z; exact z))
  have pl98 : ∀ l, l ∈ [98, 106, 111, 112, 113] → pl D' l = pl D l := fun l hl => sv.2.2.1 l (by rintro rfl; exact absurd hl (by decide)) (by rintro rfl; exact absurd hl (by decide))
  obtain ⟨X, ⟨⟨-, n2, -⟩, -⟩, a1, ⟨⟨-, -, -, e4⟩, -⟩, ⟨⟨-, -, c3⟩, -⟩, ⟨⟨-, -, -, d4⟩, -⟩, -, jn, se, -⟩ := id h
  have V98 := X.1.1.1
  have nsv : ∀ {f}, f < 3217 → svX.contains f = false := fun {f} hf => by
    cases e : svX.contains f with
    | false => rfl
    | true =>
      have : f ∈ svX := by simpa using e
      simp only [List.mem_cons, List.not_mem_nil, or_false] at this
      omega
  have nmx : ∀ {f}, f < 3801 → ([3801, 4003] : List Nat).contains f = false := fun {f} hf => by
    cases e : ([3801, 4003] : List Nat).contains f with
    | false => rfl
    | true =>
      have : f ∈ ([3801, 4003] : List Nat) := by simpa using e
      simp only [List.mem_cons, List.not_mem_nil, or_false] at this
      omega
  have r98 : ∀ {v}, v < V → _ := fun {v} hv => sv.row pw (l := 98) (k := v) (by decide) (by omega) h3
  have FX := X.kpw W sv.2.1 (fun t z => z.toV) (fun k hk => ⟨fun f f1 f2 => (r98 hk).1 f f1 (nsv (by omega)), fun f f1 f2 => (r98 hk).2 f f1 (nmx (by omega))⟩) w sv.1 f (by rw [List.all_append, Bool.and_eq_true] at hS; exact hS.1) ⟨hi 15 (by decide), hi 16 (by decide)⟩
  have nk : NdK D M σ D' M' σ' 106 K N := ⟨fun k hk => by
    obtain ⟨b1, b2⟩ := sv.row pw (l := 106) (k := k) (by decide) (by omega) h3
    refine ⟨by rw [pl98 106 (by decide)], fun f hf => b1 f ?_ ?_, fun f hf => b2 f ?_ (nmx ?_)⟩
    · simp only [List.mem_cons, List.not_mem_nil, or_false] at hf; omega
    · simp only [List.mem_cons, List.not_mem_nil, or_false] at hf
      rcases hf with rfl | rfl | rfl | rfl | rfl <;> rfl
    · simp only [List.mem_cons, List.not_mem_nil, or_false] at hf; omega
    · simp only [List.mem_cons, List.not_mem_nil, or_false] at hf; omega, nd, tA_ 94 (by decide)⟩
  refine h.mv FX nk ⟨pl98, fun v hv => ⟨(r98 hv).2 _ (by decide) rfl, (r98 hv).2 _ (by decide) rfl⟩, fun k hk => ?_, fun k hk => ?_, fun k hk => ?_, ⟨fun f hf => hi f ?_, (so 105 (by decide) (by unfold TZ tg; omega)).i 604⟩, fun j => (so 114 (by decide) (by unfold TZ tg; omega)).x j, fun f hf => tI_ f ?_, fun f hf => tA_ f ?_⟩ (fun v hv => ?_) (jn.mv (fun j => (so 115 (by decide) (by unfold TZ tg; omega)).a j) (tA_ 155 (by decide)) (f 74 (hn 74 (by decide))).2.2.1 (f 75 (hn 75 (by decide))).2.2.1) (se.ft f ?_)
  · obtain ⟨-, b2⟩ := sv.row pw (l := 111) (k := k) (by decide) (by omega) h3
    exact ⟨b2 _ (by decide) rfl, b2 _ (by decide) rfl⟩
  · obtain ⟨b1, b2⟩ := sv.row pw (l := 112) (k := k) (by decide) (by omega) h3
    exact ⟨b1 _ (by decide) rfl, b1 _ (by decide) rfl, b2 _ (by decide) rfl⟩
  · obtain ⟨b1, b2⟩ := sv.row pw (l := 113) (k := k) (by decide) (by omega) h3
    exact ⟨b2 _ (by decide) rfl, b1 _ (by decide) rfl, b1 _ (by decide) rfl⟩
  · have : ∀ f, f ∈ [35, 37, 39, 41, 43] → f ∈ [15, 16, 35, 37, 39, 41, 43] := by decide
    exact this f hf
  · have : ∀ f, f ∈ [128, 129, 130, 144, 148, 152, 154, 156] → f ∈ [44, 94, 104, 105, 128, 129, 130, 144, 145, 146, 147, 148, 149, 150, 151, 152, 153, 154, 155, 156, 157, 158, 159, 160, 174, 175] := by decide
    exact this f hf
  · have : ∀ f, f ∈ [145, 146, 147, 149, 150, 151, 153, 158, 159, 174, 175] → f ∈ [44, 94, 104, 105, 128, 129, 130, 144, 145, 146, 147, 148, 149, 150, 151, 152, 153, 154, 155, 156, 157, 158, 159, 160, 174, 175] := by decide
    exact this f hf
  · obtain ⟨-, -, x3, x4⟩ := a1 v hv
    rw [pl98 98 (by decide), (r98 hv).1 3212 (by decide) rfl, tA_ 105 (by decide)]
    refine ⟨fun z => ?_, x4⟩
    rw [tA_ 94 (by decide)] at z
    have x3 := x3 z
    unfold Fl0 at x3 ⊢
    rw [pl98 98 (by decide), (r98 hv).1 3213 (by decide) rfl, tA_ 104 (by decide)]
    exact x3
  · simp only [List.all_cons, List.all_nil, hf 44 (by decide), hn 74 (by decide), hf 155 (by decide), hf 156 (by decide), hf 157 (by decide)]; rfl
end KEEP
