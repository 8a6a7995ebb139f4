/-! Layer B: what stands between calls; calls that write little -/
set_option maxRecDepth 100000
abbrev smI : List Nat := [1, 3, 45, 93, 94]
abbrev smA : List Nat := [2, 3, 116]
abbrev smT : List Nat := [4, 5, 6, 7, 8, 9, 170, 171, 172, 173, 176, 223, 224, 246, 247]
/-- little is written -/
def SmK (M M' : CM) : Prop := Fz (fun o => o = 1 ∨ smA.contains o = true) M M' ∧ (mn M' = mn M ∧ ms M' ≤ ms M) ∧ (∀ o, mk M' o = mk M o ∧ ml M' o = ml M o) ∧ (∀ g o, ¬ (smI.contains g = true ∧ o = 1) → mI M' g o = mI M g o) ∧ (∀ g o, mR M' g o = mR M g o) ∧ ∀ a j, smA.contains a = false → mA M' a j = mA M a j
/-- a run has begun or not -/
def Run3 (V U Wn : Nat) (D : FQ) (M : CM) (σ : TS) : Prop := (mI M 91 1 = 0 ∧ tI σ 110 = 0) ∨ ((¬ mI M 91 1 = 0 ∧ ¬ tI σ 110 = 0) ∧ VaX V U Wn D M σ ∧ EvN2 0 M σ ∧ mI M 95 1 = tI σ 237 ∧ ((mI M 92 1 = 0 ∧ tI σ 111 = 0 ∧ ∃ t0, t0 < 2147483648 ∧ tI σ 165 = nI t0) ∨ (¬ mI M 92 1 = 0 ∧ ¬ tI σ 111 = 0)))
/-- solvable or not -/
def Slv (C : PC) (B : Nat) (P : Nat → Prop) (mss fss : List Nat) (V q A Wn : Nat) (D : FQ) (M : CM) (σ : TS) : Prop := ((mI M 46 1 = 0 ∧ tI σ 109 = 0) ∧ mI M 91 1 = 0 ∧ tI σ 110 = 0) ∨ ((¬ mI M 46 1 = 0 ∧ ¬ tI σ 109 = 0) ∧ ∃ U S K1 K2 Ns, RnW C B P mss fss V U S q A Wn K1 K2 Ns D M σ ∧ Run3 V U Wn D M σ)
/-- flat or not -/
def StI (C : PC) (B : Nat) (P : Nat → Prop) (mss fss : List Nat) (D : FQ) (M : CM) (σ : TS) : Prop := ((mI M 30 1 = 0 ∧ tI σ 108 = 0) ∧ (mI M 46 1 = 0 ∧ tI σ 109 = 0) ∧ mI M 91 1 = 0 ∧ tI σ 110 = 0) ∨ ((¬ mI M 30 1 = 0 ∧ ¬ tI σ 108 = 0) ∧ mI M 604 105 = tI σ 127 ∧ ∃ z7 V I Bm K N E A Wn q qs, FP C P mss D M σ z7 V I Bm K N E A Wn q qs ∧ Kn V σ ∧ Slv C B P mss fss V q A Wn D M σ)
section INV
variable {C C' : PC} {B : Nat} {P : Nat → Prop} {mss fss : List Nat} {D : FQ} {V U S q A Wn K1 K2 N I Bm K E qs Ns : Nat} {z7 : Nat → Nat} {M M' M1 : CM} {σ σ' : TS} {x y : Int32} {I0 A0 T : List Nat}
theorem SmK.rf : SmK M M := ⟨Fz.rf, ⟨rfl, Nat.le_refl _⟩, fun _ => ⟨rfl, rfl⟩, fun _ _ _ => rfl, fun _ _ => rfl, fun _ _ _ => rfl⟩
theorem SmK.of (k : K1f I0 A0 M M') (hI : I0.all smI.contains = true) (hA : A0.all smA.contains = true) : SmK M M' := by
  have cI : ∀ g, I0.contains g = true → smI.contains g = true := fun g hg => List.all_eq_true.mp hI g (by simpa using hg)
  have cA : ∀ g, A0.contains g = true → smA.contains g = true := fun g hg => List.all_eq_true.mp hA g (by simpa using hg)
  obtain ⟨k1, k2, k3, k4, k5, k6, k7⟩ := id k
  refine ⟨k.fz.mono (fun o _ z => z.imp id (cA o)), ⟨k1.1, Nat.le_of_eq k1.2⟩, k2, fun g o z => k3 g o (fun y => z ⟨cI g y.1, y.2⟩), k4, fun a j ha => k5 a j ?_⟩
  cases e : A0.contains a with
  | false => rfl
  | true => rw [cA a e] at ha; cases ha
theorem SmK.ou (k : OuK M M') : SmK M M' := by
  obtain ⟨k1, k2, k3, k4, k5, k6, k7, k8⟩ := k
  exact ⟨k8.mono (fun o _ z => z.imp id (fun e => by rw [e]; rfl)), ⟨k7.1, Nat.le_of_eq k7.2⟩, k6, fun g o z => k1 g o (fun y => z ⟨by rw [y.1]; rfl, y.2⟩), k2, fun a j ha => k3 a j (fun e => by rw [e] at ha; cases ha)⟩
theorem SmK.ku (k : Ku M M') : SmK M M' := by
  obtain ⟨k1, k2, k3, k4, k5, k6, -⟩ := k
  exact ⟨k1.mono (fun o _ z => z.imp id (fun e => by rw [e]; rfl)), ⟨k2.1, Nat.le_of_eq k2.2⟩, k6, fun g o z => k3 g o (fun y => z ⟨by rw [y.1]; rfl, y.2⟩), k4, fun a j ha => k5 a j (fun e => by rw [e] at ha; cases ha)⟩
theorem SmK.i (k : SmK M M') {g : Nat} (h : smI.contains g = false) (o : Nat) : mI M' g o = mI M g o := k.2.2.2.1 g o (fun z => by rw [h] at z; cases z.1)
theorem SmK.io (k : SmK M M') (g : Nat) {o : Nat} (h : o ≠ 1) : mI M' g o = mI M g o := k.2.2.2.1 g o (fun z => h z.2)
theorem SmK.r (k : SmK M M') (g o : Nat) : mR M' g o = mR M g o := k.2.2.2.2.1 g o
theorem SmK.a (k : SmK M M') {a : Nat} (h : smA.contains a = false) (j : Nat) : mA M' a j = mA M a j := k.2.2.2.2.2 a j h
theorem SmK.x (k : SmK M M') {a : Nat} (h : smA.contains a = false) (h1 : a ≠ 1) (hn : a < mn M) (j : Nat) : mX M' a j = mX M a j := (k.1.so hn (fun z => by
  rcases z with z | z
  · exact h1 z
  · rw [h] at z; cases z)).x j
theorem FW.sm (W : FW C B P mss fss D M σ) (k : SmK M M') (f : Ft smT σ σ') : FW C B P mss fss D M' σ' ∧ Wz C C P M M' σ σ' := by
  have hX : ∀ o, (o = 1 ∨ smA.contains o = true) → (o < 167 ∧ o ∉ flA) ∧ TG o := fun o z => by
    rcases z with rfl | z
    · exact ⟨⟨by decide, by decide⟩, Or.inl (by decide)⟩
    · have : o ∈ smA := by simpa using z
      simp only [List.mem_cons, List.not_mem_nil, or_false] at this
      rcases this with rfl | rfl | rfl
      · exact ⟨⟨by decide, by decide⟩, Or.inl (by decide)⟩
      · exact ⟨⟨by decide, by decide⟩, Or.inl (by decide)⟩
      · exact ⟨⟨by decide, by decide⟩, Or.inr (Or.inl (by decide))⟩
  have fq : Fq D TG M M' := k.1.mono (fun o _ z => by rw [tgo_s (hX o z).1.1]; exact (hX o z).2)
  have hp : PoW D M' := W.2.1.gn W.n167 k.1 (fun o _ z => Or.inl (hX o z).1) (fun _ _ => k.r _ _) (fun _ _ => k.r _ _) (fun o h1 h2 => by have := k.2.1.1; omega)
  have h3 : ∀ o, mR M' 2605 o = mR M 2605 o ∧ mR M' 4201 o = mR M 4201 o ∧ ml M' o = ml M o := fun o => ⟨k.r _ _, k.r _ _, (k.2.2.1 o).2⟩
  have rm : rmN D M' ≤ rmN D M ∧ rmS D M' ≤ rmS D M := by
    have e1 : ptN D M' = ptN D M := funext fun i => by unfold ptN; rw [capI_same h3]
    have e2 : ptS D M' = ptS D M := funext fun i => by unfold ptS; rw [capI_same h3]
    unfold rmN rmS
    rw [e1, e2, k.2.1.1]
    exact ⟨Nat.le_refl _, Nat.add_le_add_right k.2.1.2 _⟩
  exact W.mv2 fq (k.i rfl 1) hp (Dx.rf D M) rm (fun q _ => k.r _ _) (fun q hq => k.io _ (by have := (fixI q hq).1; omega)) f (by decide)
theorem rm_sm (k : SmK M M') : rmN D M' = rmN D M ∧ rmS D M' ≤ rmS D M := by
  have h3 : ∀ o, mR M' 2605 o = mR M 2605 o ∧ mR M' 4201 o = mR M 4201 o ∧ ml M' o = ml M o := fun o => ⟨k.r _ _, k.r _ _, (k.2.2.1 o).2⟩
  have e1 : ptN D M' = ptN D M := funext fun i => by unfold ptN; rw [capI_same h3]
  have e2 : ptS D M' = ptS D M := funext fun i => by unfold ptS; rw [capI_same h3]
  unfold rmN rmS
  rw [e1, e2, k.2.1.1]
  exact ⟨rfl, Nat.add_le_add_right k.2.1.2 _⟩
theorem SmK.mss {k : Nat} (h : k ≤ ms M) : SmK M (msS M k) := ⟨⟨Nat.le_refl _, fun _ _ => ⟨rfl, rfl⟩, fun _ _ _ => ⟨⟨rfl, rfl⟩, fun _ => rfl, fun _ => rfl, fun _ => rfl, fun _ => rfl, fun _ => rfl⟩⟩, ⟨rfl, h⟩, fun _ => ⟨rfl, rfl⟩, fun _ _ _ => rfl, fun _ _ => rfl, fun _ _ _ => rfl⟩
theorem FP.sm (W : FW C B P mss fss D M σ) (h : FP C P mss D M σ z7 V I Bm K N E A Wn q qs) (k : SmK M M') (f : Ft smT σ σ') : FP C P mss D M' σ' z7 V I Bm K N E A Wn q qs := by
  obtain ⟨W', wz⟩ := W.sm k f
  have n167 := W.n167
  have X := h.1
  have r167 : ∀ l, l ∈ flL → ∀ k, k < (pl D l).length → (pl D l).getD k 0 ≠ 1 := fun l hl k hk => by have := (W.2.1.2.1 l hl k hk).2.1.1; omega
  obtain ⟨V96, V98⟩ : V ≤ 96 ∧ V ≤ (pl D 98).length := ⟨X.2.1.1, X.1.1.1⟩
  obtain ⟨⟨m1, m2, m3⟩, -⟩ := h.2.1
  obtain ⟨⟨-, -, -, e4⟩, -⟩ := h.2.2.2.1
  obtain ⟨⟨-, -, d4⟩, -⟩ := h.2.2.2.2.1
  obtain ⟨⟨-, -, -, g4⟩, -⟩ := h.2.2.2.2.2.1
  have fq : Fq D (fun t => t < 167) M M' := k.1.mono (fun o _ z => by
    rcases z with z | z
    · rw [z, tgo_s (by decide)]; decide
    · have : o ∈ smA := by simpa using z
      simp only [List.mem_cons, List.not_mem_nil, or_false] at this
      rcases this with rfl | rfl | rfl <;> rw [tgo_s (by decide)] <;> decide)
  have FX : FlY z7 C P D mss M' σ' V I Bm := X.kpw W fq (fun t z => by unfold TV tg; omega) (fun j hj => ⟨fun f _ _ => k.io f (r167 98 (by decide) j (by omega)), fun f _ _ => k.r _ _⟩) wz (Dx.rf D M) f (by decide) ⟨k.i rfl 1, k.i rfl 1⟩
  have nk : NdK D M σ D M' σ' 106 K N := ⟨fun j hj => ⟨rfl, fun f _ => k.io f (r167 106 (by decide) j (by omega)), fun f _ => k.r _ _⟩, fun g hg n _ => (f g (by
    have : ∀ f, f ∈ [121, 122, 123, 124, 134, 162] → smT.contains f = false := by decide
    exact this g hg)).2.2.1 n, fun v => (f 94 rfl).2.2.1 v⟩
  refine FP.mv h FX nk ⟨fun _ _ => rfl, fun v hv => ⟨k.r _ _, k.r _ _⟩, fun j hj => ⟨k.r _ _, k.r _ _⟩, fun j hj => ⟨k.io _ (r167 112 (by decide) j (by omega)), k.io _ (r167 112 (by decide) j (by omega)), k.r _ _⟩, fun j hj => ⟨k.r _ _, k.io _ (r167 113 (by decide) j (by omega)), k.io _ (r167 113 (by decide) j (by omega))⟩, ⟨fun g hg => k.i (by
      have : ∀ f, f ∈ [35, 37, 39, 41, 43] → smI.contains f = false := by decide
      exact this g hg) 1, k.io _ (by decide)⟩, fun j => k.x (by decide) (by decide) (by omega) j, fun g hg => (f g (by
      have : ∀ f, f ∈ [128, 129, 130, 144, 148, 152, 154, 156] → smT.contains f = false := by decide
      exact this g hg)).1, fun g hg => (f g (by
      have : ∀ f, f ∈ [145, 146, 147, 149, 150, 151, 153, 158, 159, 174, 175] → smT.contains f = false := by decide
      exact this g hg)).2.2.1⟩ (fun v hvV => ?_) ?_ ?_
  · obtain ⟨-, -, x3, x4⟩ := h.2.2.1 v hvV
    have lv := r167 98 (by decide) v (by omega)
    refine ⟨fun z => ?_, by rw [k.io _ lv, (f 105 rfl).2.2.1]; exact x4⟩
    rw [(f 94 rfl).2.2.1] at z
    have := x3 z
    unfold Fl0 at this ⊢
    rw [k.io _ lv, (f 104 rfl).2.2.1]
    exact this
  · exact h.2.2.2.2.2.2.2.1.mv (fun j => k.a rfl j) (f 155 rfl).2.2.1 (f 74 rfl).2.2.1 (f 75 rfl).2.2.1
  · exact h.2.2.2.2.2.2.2.2.1.ft f (by decide)
theorem RnW.sm (w : RnW C B P mss fss V U S q A Wn K1 K2 Ns D M σ) (k : SmK M M') (f : Ft smT σ σ') (h0 : tI σ' 0 = 0) : RnW C B P mss fss V U S q A Wn K1 K2 Ns D M' σ' := by
  obtain ⟨W, ⟨z7, I, Bm, K, Nf, E, qs, hd, sg, c, fp, sv⟩, kn⟩ := w
  obtain ⟨W', wz⟩ := W.sm k f
  have n167 := W.n167
  have X := fp.1
  have r167 : ∀ l, l ∈ flL → ∀ k, k < (pl D l).length → (pl D l).getD k 0 ≠ 1 := fun l hl k hk => by have := (W.2.1.2.1 l hl k hk).2.1.1; omega
  obtain ⟨V96, V98⟩ : V ≤ 96 ∧ V ≤ (pl D 98).length := ⟨X.2.1.1, X.1.1.1⟩
  obtain ⟨⟨-, -, d4⟩, -⟩ := fp.2.2.2.2.1
  have ar : ∀ {x0 l X0 K : Nat}, ArS x0 l X0 D M K → x0 ≠ 1 → ArS x0 l X0 D M' K := fun {x0 l X0 K} ⟨_, _, _, ⟨e1, e2, e3⟩, r1, r2⟩ hx => ⟨W'.2.1, W'.2.2.2.1, W'.n167, ⟨(k.io 604 hx).trans e1, e2, e3⟩, by have rm := W'.2.2.2.2; omega, by have rm := W'.2.2.2.2; omega⟩
  have sn : ∀ {x0 l X0 K : Nat}, ArS x0 l X0 D M K → l ∈ flL → SnL D M D M' l K := fun {x0 l X0 K} a hl j hj => by
    have l1 := a.2.2.2.1.2.1
    exact ⟨rfl, fun f _ _ => k.io f (r167 l hl j (by omega)), fun f _ _ => k.r _ _⟩
  refine ⟨W', ⟨z7, I, Bm, K, Nf, E, qs, hd, sg, c, fp.sm W k f, ?_⟩, kn.ft f rfl rfl⟩
  refine SvS.mv sv ⟨⟨ar sv.1.1.1 (by decide), ar sv.2.2.2.2.1.1 (by decide), sn sv.1.1.1 (by decide), sn sv.2.2.2.2.1.1 (by decide)⟩, fun _ _ => rfl, fun v hv g _ => k.io g (r167 98 (by decide) v (by omega)), fun j hj => ⟨fun g _ => k.io g (r167 112 (by decide) j (by omega)), k.r _ _⟩, fun j hj => k.r _ _, fun g hg => k.i (by
      have : ∀ f, f ∈ [57, 65, 66, 74, 75] → smI.contains f = false := by decide
      exact this g hg) 1, k.r _ _, fun a ha j => k.a (by
      have : ∀ f, f ∈ [119, 120, 121, 122, 123, 128, 129, 130, 131, 132, 140, 141, 142, 143, 144] → smA.contains f = false := by decide
      exact this a ha) j, fun a ha j => k.x (by
      have : ∀ f, f ∈ [126, 127, 137] → smA.contains f = false := by decide
      exact this a ha) (by
      have : ∀ f, f ∈ [126, 127, 137] → f ≠ 1 := by decide
      exact this a ha) (by
      have : ∀ f, f ∈ [126, 127, 137] → f < 167 := by decide
      have := this a ha
      omega) j⟩ f (by decide) h0
theorem VaX.sm (W : FW C B P mss fss D M σ) (hV : V ≤ (pl D 98).length) (hW : Wn ≤ (pl D 113).length) (d : VaX V U Wn D M σ) (k : SmK M M') (f : Ft smT σ σ') (h0 : tI σ' 0 = 0) (h171 : tI σ' 171 = nI 0) : VaX V U Wn D M' σ' := by
  have r167 : ∀ l, l ∈ flL → ∀ k, k < (pl D l).length → (pl D l).getD k 0 ≠ 1 := fun l hl k hk => by have := (W.2.1.2.1 l hl k hk).2.1.1; omega
  obtain ⟨-, ⟨a1, a2, a3, a4, a5⟩, -, a7⟩ := d
  refine ⟨h0, ⟨by rw [k.i rfl, (f 165 rfl).1]; exact a1, fun u hu => ?_, fun v hv z => ?_, fun r hr z => ?_, fun w hw => ?_⟩, h171, by rw [k.i rfl, (f 222 rfl).1]; exact a7⟩
  · rw [k.a rfl, k.a rfl, (f 166 rfl).2.2.1, (f 167 rfl).2.2.1]; exact a2 u hu
  · rw [(f 94 rfl).2.2.1] at z
    rw [k.io _ (r167 98 (by decide) v (by omega)), k.io _ (r167 98 (by decide) v (by omega)), (f 168 rfl).2.2.1, (f 169 rfl).2.2.1]; exact a3 v hv z
  · rw [(f 154 rfl).1] at z
    rw [k.a rfl, (f 163 rfl).2.2.1]; exact a4 r hr z
  · rw [k.io _ (r167 113 (by decide) w (by omega)), (f 235 rfl).2.2.1]; exact a5 w hw
theorem StI.sm (W : FW C B P mss fss D M σ) (h : StI C B P mss fss D M σ) (k : SmK M M') (f : Ft smT σ σ') (h0 : tI σ' 0 = 0) (h171 : tI σ' 171 = nI 0) : StI C B P mss fss D M' σ' := by
  have i : ∀ {g}, smI.contains g = false → mI M' g 1 = mI M g 1 := fun h => k.i h 1
  unfold StI at h ⊢
  rw [i (g := 30) rfl, i (g := 46) rfl, i (g := 91) rfl, (f 108 rfl).1, (f 109 rfl).1, (f 110 rfl).1, k.io 604 (o := 105) (by decide), (f 127 rfl).1]
  refine h.imp id (fun ⟨a, b, z7, V, I, Bm, K, N, E, A, Wn, q, qs, fp, kn, sl⟩ => ⟨a, b, z7, V, I, Bm, K, N, E, A, Wn, q, qs, fp.sm W k f, kn.ft f rfl rfl, ?_⟩)
  unfold Slv at sl ⊢
  rw [i (g := 46) rfl, i (g := 91) rfl, (f 109 rfl).1, (f 110 rfl).1]
  refine sl.imp id (fun ⟨a, U, S, K1, K2, Ns, w, r⟩ => ⟨a, U, S, K1, K2, Ns, w.sm k f h0, ?_⟩)
  unfold Run3 at r ⊢
  rw [i (g := 91) rfl, i (g := 92) rfl, i (g := 95) rfl, (f 110 rfl).1, (f 111 rfl).1, (f 237 rfl).1, (f 165 rfl).1]
  obtain ⟨⟨-, V98, -⟩, -, -, -, ⟨-, -, Wl⟩, -⟩ := w.st
  refine r.imp id (fun ⟨a, d, e, g⟩ => ⟨a, d.sm W V98 Wl k f h0 h171, ⟨by rw [i (g := 97) rfl, (f 239 rfl).1]; exact e.1, by rw [i (g := 96) rfl, (f 238 rfl).1]; exact e.2⟩, g⟩)
end INV
