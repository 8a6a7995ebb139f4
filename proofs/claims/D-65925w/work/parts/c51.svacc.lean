/-! Layer B: the calls that read a solvable model: alias, unknown, equation, block -/
set_option maxRecDepth 100000
/-- a call that only reads -/
def AcR {α : Type} (M : CM) (σ : TS) (kr : Option (α × CM)) (tq : Option (α × TS)) : Prop := ∃ r, kr = some (r, M) ∧ tq = some (r, σ)
section SVACC
variable {C : PC} {B : Nat} {P : Nat → Prop} {mss fss : List Nat} {V U S q A Wn K1 K2 N e u v b nb : Nat} {D : FQ} {M : CM} {σ : TS} {x y : Int32}
theorem AcR.st {α : Type} (r : α) : AcR M σ (some (r, M)) (some (r, σ)) := ⟨r, rfl, rfl⟩
theorem le_n {n : Nat} (hn : n < 2147483648) {x : Int32} (h : ¬ x < 0) (g : x ≤ nI n) : ∃ i, i ≤ n ∧ x = nI i := by
  obtain ⟨i, rfl, i2⟩ := bI_of (Int32.not_lt.mp h)
  exact ⟨i, (bI_le i2 hn).mp g, rfl⟩
/-- what solving has found out -/
theorem RnW.un (w : RnW C B P mss fss V U S q A Wn K1 K2 N D M σ) : ∃ E hd sg, (AlL V σ hd sg ∧ AlM D V M σ hd sg ∧ UvR D V σ M σ hd U) ∧ IdxR V E U S K1 N D M σ ∧ RolR M σ U ∧ StR U M σ ∧ BlR S U M σ := by
  obtain ⟨W, ⟨z7, I, Bm, K, Nf, E, qs, hd, sg, c, fp, sv⟩, kn⟩ := w
  obtain ⟨i, ⟨ro, st, bl⟩, ⟨al, am, uv, -⟩, -⟩ := sv
  exact ⟨E, hd, sg, ⟨al, am, uv⟩, i, ro, st, bl⟩
/-- a variable of kind 0: its head, sign and unknown -/
theorem RnW.hd (w : RnW C B P mss fss V U S q A Wn K1 K2 N D M σ) (hv : v < V) : ∃ h x, h < V ∧ mI M 3217 ((pl D 98).getD v 0) = nI h ∧ tA σ 177 v = nI h ∧ (mI M 3218 ((pl D 98).getD v 0) = x ∧ tA σ 178 v = x ∧ sg1 x) ∧ (tA σ 94 v = 0 → ∃ u, u < U ∧ mI M 3219 ((pl D 98).getD h 0) = nI u ∧ tA σ 179 h = nI u ∧ LfU σ v u x) := by
  obtain ⟨⟨V96, -, U180, -⟩, -⟩ := w.st
  obtain ⟨E, hd, sg, ⟨al, am, uv⟩, -⟩ := w.un
  obtain ⟨a1, a2, a3, a4⟩ := al v hv
  obtain ⟨⟨b1, b2⟩, b3, b4⟩ := am v hv
  have hh : hd v < V := by omega
  refine ⟨hd v, sg v, hh, b1, b2, ⟨b3, b4, a4⟩, fun z => ?_⟩
  have h0 : tA σ 94 (hd v) = 0 := by
    by_cases q : hd v = v
    · rw [q]; exact z
    · exact (a3 q).2
  rcases uv (hd v) hh with ⟨-, u, u1, u2, u3⟩ | ⟨y, -⟩
  · exact ⟨u, u1, u2, u3, ⟨z, by omega⟩, ⟨hd v, by omega, b2, u3⟩, by omega, b4, a4⟩
  · exact absurd ⟨h0, a2⟩ y
theorem z_alias (w : RnW C B P mss fss V U S q A Wn K1 K2 N D M σ) (h : ¬ mI M 46 1 = 0 ∧ ¬ tI σ 109 = 0) (x y : Int32) : AcR M σ (K_X0_alias x y M) (F_alias x y σ) := by
  obtain ⟨⟨V96, V98, U180, -⟩, ⟨h15, h107⟩, -⟩ := w.st
  unfold K_X0_alias F_alias
  rw [ifF h.1, ifF h.2, h15, t_isv h107 V96, ob_some]
  by_cases q : x < 0
  · rw [ifT q, ifT q, ifT (rfl : (0 : Int32) = 0)]; exact AcR.st _
  rw [ifF q, ifF q]
  obtain ⟨v, rfl, v2⟩ := bI_of (Int32.not_lt.mp q)
  by_cases q2 : nI v < nI V
  · have hv : v < V := (bI_lt v2 (by omega)).mp q2
    rw [ifT q2, ifF (Int32.not_le.mpr q2), ifF (by decide : ¬ (1 : Int32) = 0)]
    obtain ⟨k17, gt, ⟨k, k1, k2, k3⟩, -⟩ := w.vr hv
    obtain ⟨hh, sx, h1, h2, h3, ⟨h4, h5, -⟩, h6⟩ := w.hd hv
    obtain ⟨k17h, gth, -⟩ := w.vr h1
    have i96 : inb (nI v) 96 := inb_nI' (by omega) (by decide)
    have xv : ix (nI v) = v := ix_nI (by omega)
    have i96h : inb (nI hh) 96 := inb_nI' (by omega) (by decide)
    have xh : ix (nI hh) = hh := ix_nI (by omega)
    by_cases y0 : y < 0
    · rw [ifT y0, ifT y0]; exact AcR.st _
    rw [ifF y0, ifF y0]
    by_cases y2 : y ≤ 2
    · obtain ⟨j, j1, rfl⟩ := le_n (n := 2) (by decide) y0 y2
      rw [ifT y2, ifT y2, gt, ob_some, ifT (Or.inr k17)]
      have : j = 0 ∨ j = 1 ∨ j = 2 := by omega
      rcases this with rfl | rfl | rfl
      · rw [ifF (by decide), ifT (by decide), ifT (by decide), ifT k17, h2, ifT i96, xv, h3]; exact AcR.st _
      · rw [ifF (by decide), ifF (by decide), ifF (by decide), ifT (by decide), ifT k17, h4, ifT i96, xv, h5]; exact AcR.st _
      · rw [ifT (by decide), ifF (by decide), ifF (by decide), ifT k17, ifT i96, xv, k2, k3]
        by_cases z : nI k = 0
        · obtain ⟨u, u1, u2, u3, -⟩ := h6 (k3.trans z)
          have up : (0 : Int32) ≤ nI u := nn_nI (by omega)
          rw [ifT z, ifT z, ifT k17, h2, gth, ob_some, ifT (Or.inr k17h), ifT k17h, u2, nm_eq, ifT up, ifT i96, h3, ifT i96h, xh, u3, ifT up, ifT i96, ifT i96h]
          exact AcR.st _
        · rw [ifF z, ifF z, ifF (by decide)]; exact AcR.st _
    · rw [ifF y2, ifF y2]; exact AcR.st _
  · rw [ifF q2, ifT (Int32.not_lt.mp q2), ifT (rfl : (0 : Int32) = 0)]; exact AcR.st _
theorem k_or (z : Int32) : AcR M σ (nm z fun v => if 0 ≤ v then some (v, M) else some (-2, M)) (ob (F_orNone z σ) fun r s => some (r, s)) := by
  rw [nm_eq]
  unfold F_orNone
  by_cases q : 0 ≤ z
  · rw [ifT q, ifT q, ob_some]; exact AcR.st _
  · rw [ifF q, ifF q, ob_some]; exact AcR.st _
theorem z_unknown (w : RnW C B P mss fss V U S q A Wn K1 K2 N D M σ) (h : ¬ mI M 46 1 = 0 ∧ ¬ tI σ 109 = 0) (x y : Int32) : AcR M σ (K_X0_unknown x y M) (F_unknown x y σ) := by
  obtain ⟨⟨V96, V98, U180, -⟩, -, ⟨h57, h197⟩, -, -, uk, -, bl, ro, -⟩ := w.st
  unfold K_X0_unknown F_unknown
  rw [ifF h.1, ifF h.2, h57, h197]
  by_cases q : x < 0
  · rw [ifT q, ifT q]; exact AcR.st _
  rw [ifF q, ifF q]
  obtain ⟨u, rfl, v2⟩ := bI_of (Int32.not_lt.mp q)
  by_cases q2 : nI u < nI U
  · have hu : u < U := (bI_lt v2 (by omega)).mp q2
    rw [ifT q2, ifT q2]
    obtain ⟨⟨b, b1, b2, b3⟩, ⟨o, o1, o2, o3⟩, e121, -⟩ := uk.2 u hu
    obtain ⟨k, k1, k2, k3, -⟩ := ro u hu
    obtain ⟨nb, fb, -, -, -, l4⟩ := bl
    obtain ⟨m1, m2, m3⟩ := l4 u hu
    have i180 : inb (nI u) 180 := inb_nI' (by omega) (by decide)
    have i200 : inb (nI u) 200 := inb_nI' (by omega) (by decide)
    have xu : ix (nI u) = u := ix_nI (by omega)
    by_cases y0 : y < 0
    · have ne : ∀ c : Int32, 0 ≤ c → ¬ y = c := fun c hc z => by rw [z] at y0; exact Int32.not_lt.mpr hc y0
      rw [ifT y0, ifF (ne 0 (by decide)), ifF (ne 1 (by decide)), ifF (ne 2 (by decide)), ifF (ne 3 (by decide)), ifF (ne 4 (by decide))]; exact AcR.st _
    rw [ifF y0]
    by_cases y2 : y ≤ 4
    · obtain ⟨j, j1, rfl⟩ := le_n (n := 4) (by decide) y0 y2
      rw [ifT y2]
      have : j = 0 ∨ j = 1 ∨ j = 2 ∨ j = 3 ∨ j = 4 := by omega
      rcases this with rfl | rfl | rfl | rfl | rfl
      · rw [ifT (by decide), ifT (by decide), ifT i180, xu, ifT i200, b2, b3, nm_eq, ifT (nn_nI (by omega))]; exact AcR.st _
      · rw [ifF (by decide), ifT (by decide), ifF (by decide), ifT (by decide), ifT i180, xu, ifT i200, o2, o3, nm_eq, ifT (nn_nI (by omega))]; exact AcR.st _
      · rw [ifF (by decide), ifF (by decide), ifT (by decide), ifF (by decide), ifF (by decide), ifT (by decide), ifT i180, xu, ifT i200, e121]; exact k_or _
      · rw [ifF (by decide), ifF (by decide), ifF (by decide), ifT (by decide), ifF (by decide), ifF (by decide), ifF (by decide), ifT (by decide), ifT i180, xu, ifT i200, m1]
        by_cases z : tA σ 192 u = 2
        · rw [ifT z, m2 z, nm_eq, ifF (by decide)]; exact AcR.st _
        · rw [ifF z, ifT i200]; exact k_or _
      · rw [ifF (by decide), ifF (by decide), ifF (by decide), ifF (by decide), ifF (by decide), ifF (by decide), ifF (by decide), ifF (by decide), ifT (by decide), ifT i180, xu, ifT i200, k2, k3, nm_eq, ifT (nn_nI (by omega))]; exact AcR.st _
    · have ne : ∀ c : Int32, c ≤ 4 → ¬ y = c := fun c hc z => y2 (by rw [z]; exact hc)
      rw [ifF y2, ifF (ne 0 (by decide)), ifF (ne 1 (by decide)), ifF (ne 2 (by decide)), ifF (ne 3 (by decide)), ifF (ne 4 (by decide))]; exact AcR.st _
  · rw [ifF q2, ifF q2]; exact AcR.st _
/-- the unknowns of an equation, counted -/
theorem eq_lp (hU : U ≤ 180) (h57 : mI M 57 1 = nI U) (h197 : tI σ 197 = nI U) (he : e < 180) (rw_ : ∀ u, u < U → mA M 132 (180 * e + u) = tA σ 202 (200 * e + u)) (hy : 3 ≤ y) : ∀ (d u c kf tf : Nat), u + d = U → d < kf → d < tf → c ≤ u → ∃ r, KL_X0_equation_2_86 kf (nI e) y (nI c) (nI u) M = some (r, M) ∧ L_equation_80 tf (nI e) y (nI c) (nI u) σ = some (r, σ) := by
  intro d
  induction d with
  | zero =>
    intro u c kf tf hu hk ht hc
    obtain ⟨kf, rfl⟩ : ∃ g, kf = g + 1 := ⟨kf - 1, by omega⟩
    obtain ⟨tf, rfl⟩ : ∃ g, tf = g + 1 := ⟨tf - 1, by omega⟩
    have le : nI U ≤ nI u := (bI_le (by omega) (by omega)).mpr (by omega)
    exact ⟨_, by rw [KL_X0_equation_2_86, h57, ifT le], by rw [L_equation_80, h197, ifT le]⟩
  | succ d ih =>
    intro u c kf tf hu hk ht hc
    obtain ⟨kf, rfl⟩ : ∃ g, kf = g + 1 := ⟨kf - 1, by omega⟩
    obtain ⟨tf, rfl⟩ : ∃ g, tf = g + 1 := ⟨tf - 1, by omega⟩
    have le : ¬ nI U ≤ nI u := fun z => by have := (bI_le (by omega) (by omega)).mp z; omega
    have eq1 : (180 : Int32) * nI e + nI u = nI (180 * e + u) := by
      rw [show (180 : Int32) = nI 180 from rfl, nI_mul, bI_add]
    have eq2 : nI e * (200 : Int32) + nI u = nI (200 * e + u) := by
      rw [show (200 : Int32) = nI 200 from rfl, nI_mul, bI_add, Nat.mul_comm]
    have isn : F_isIn (nI u) (nI e) σ = some (tA σ 202 (200 * e + u), σ) := by
      unfold F_isIn
      rw [eq2, ifT (inb_nI' (by omega) (by decide)), ix_nI (by omega)]
    rw [KL_X0_equation_2_86, L_equation_80, h57, h197, ifF le, ifF le, eq1, ifT (inb_nI' (by omega) (by decide)), ix_nI (by omega), isn, ob_some, rw_ u (by omega)]
    by_cases z : tA σ 202 (200 * e + u) = 0
    · rw [ifT z, ifT z, nm_eq, nm_eq, nI_addL]
      exact ih (u + 1) c kf tf (by omega) (by omega) (by omega) (by omega)
    rw [ifF z, ifF z, nm_eq, nm_eq, nm_eq, nm_eq, nm_eq, nm_eq, nI_addL, nI_addL]
    have go := ih (u + 1) (c + 1) kf tf (by omega) (by omega) (by omega) (by omega)
    by_cases y4 : y < 4
    · have y3 : y = 3 := by
        have n0 : ¬ y < 0 := Int32.not_lt.mpr (Int32.le_trans (by decide : (0 : Int32) ≤ 3) hy)
        obtain ⟨j, rfl, j2⟩ := bI_of (Int32.not_lt.mp n0)
        have := (bI_lt (b := 4) j2 (by decide)).mp y4
        have := (bI_le (a := 3) (by decide) j2).mp hy
        rw [show j = 3 by omega]; rfl
      rw [ifT y4, ifF (show ¬ nI c = y - 4 from fun z => by rw [y3] at z; exact nI_m1 (u := c) (by omega) z)]
      exact go
    · rw [ifF y4]
      by_cases q : nI c = y - 4
      · rw [ifT q, ifT q]; exact ⟨_, rfl, rfl⟩
      · rw [ifF q, ifF q]; exact go
theorem z_eqnAcc (w : RnW C B P mss fss V U S q A Wn K1 K2 N D M σ) (h : ¬ mI M 46 1 = 0 ∧ ¬ tI σ 109 = 0) (x y : Int32) : AcR M σ (K_X0_equation_2 x y M) (F_equation x y σ) := by
  obtain ⟨⟨V96, V98, U180, S180, -⟩, -, ⟨h57, h197⟩, -, -, uk, -⟩ := w.st
  obtain ⟨E, hd, sg, -, ix_, -, -, nb, fb, -, -, b3, -⟩ := w.un
  obtain ⟨-, ⟨m65, i143, -⟩, -, -, -, dr, -⟩ := id ix_
  have fu := FUb
  unfold K_X0_equation_2 F_equation
  rw [ifF h.1, ifF h.2, m65, i143]
  by_cases q : x < 0
  · rw [ifT q, ifT q]; exact AcR.st _
  rw [ifF q, ifF q]
  obtain ⟨e, rfl, v2⟩ := bI_of (Int32.not_lt.mp q)
  by_cases q2 : nI e < nI S
  · have he : e < S := (bI_lt v2 (by omega)).mp q2
    rw [ifT q2, ifT q2]
    obtain ⟨d1, d2, -⟩ := dr e he
    obtain ⟨d3, -⟩ := b3 e he
    have i180 : inb (nI e) 180 := inb_nI' (by omega) (by decide)
    have i400 : inb (nI e) 400 := inb_nI' (by omega) (by decide)
    have xe : ix (nI e) = e := ix_nI (by omega)
    by_cases y0 : (0 : Int32) ≤ y
    · rw [ifT y0, ifT y0]
      by_cases y3 : (3 : Int32) ≤ y
      · have ne : ∀ c : Int32, c < 3 → ¬ y = c := fun c hc z => by rw [z] at y3; exact Int32.not_le.mpr hc y3
        rw [ifT y3, ifF (ne 0 (by decide)), ifF (ne 1 (by decide)), ifF (ne 2 (by decide))]
        obtain ⟨r, r1, r2⟩ := eq_lp (e := e) U180 h57 h197 (by omega) (fun u hu => ix_.rw_ he (by omega)) y3 U 0 0 FU FU (by omega) (by omega) (by omega) (Nat.le_refl _)
        rw [show (0 : Int32) = nI 0 from rfl, r1, r2]
        cases r with
        | inl r =>
          rw [obS_inl, obS_inl]
          by_cases z : y = 3
          · rw [ifT z, ifT z]; exact AcR.st _
          · rw [ifF z, ifF z]; exact AcR.st _
        | inr r => rw [obS_inr, obS_inr]; exact AcR.st _
      · rw [ifF y3]
        have n0 : ¬ y < 0 := Int32.not_lt.mpr y0
        obtain ⟨j, rfl, j2⟩ := bI_of y0
        have hj : j < 3 := Nat.lt_of_not_le (fun z => y3 ((bI_le (a := 3) (by decide) j2).mpr z))
        have : j = 0 ∨ j = 1 ∨ j = 2 := by omega
        rcases this with rfl | rfl | rfl
        · rw [ifT (by decide), ifT (by decide), ifT i180, xe, ifT i400, d1]; exact k_or _
        · rw [ifF (by decide), ifT (by decide), ifF (by decide), ifT (by decide), ifT i180, xe, ifT i400, d2]; exact k_or _
        · rw [ifF (by decide), ifF (by decide), ifF (by decide), ifF (by decide), ifT (by decide), ifT i180, xe, ifT i400, d3]; exact k_or _
    · rw [ifF y0, ifF y0]; exact AcR.st _
  · rw [ifF q2, ifF q2]; exact AcR.st _
theorem z_block (w : RnW C B P mss fss V U S q A Wn K1 K2 N D M σ) (h : ¬ mI M 46 1 = 0 ∧ ¬ tI σ 109 = 0) (x y : Int32) : AcR M σ (K_X0_block x y M) (F_block x y σ) := by
  obtain ⟨⟨V96, V98, U180, S180, -⟩, -⟩ := w.st
  obtain ⟨E, hd, sg, -, -, -, -, nb, fb, ⟨m75, i208, nbS, fb0⟩, bb, -⟩ := w.un
  unfold K_X0_block F_block
  rw [ifF h.1, ifF h.2, m75, i208]
  by_cases q : x < 0
  · rw [ifT q, ifT q]; exact AcR.st _
  rw [ifF q, ifF q]
  obtain ⟨b, rfl, v2⟩ := bI_of (Int32.not_lt.mp q)
  by_cases q2 : nI b < nI nb
  · have hb : b < nb := (bI_lt v2 (by omega)).mp q2
    rw [ifT q2, ifT q2]
    obtain ⟨⟨f1, f2, f3⟩, ⟨g1, g2, g3, g4⟩, ⟨g5, g6⟩, g7⟩ := bb b hb
    have i181 : inb (nI b) 181 := inb_nI' (by omega) (by decide)
    have i181' : inb (nI (b + 1)) 181 := inb_nI' (by omega) (by decide)
    have i180 : inb (nI b) 180 := inb_nI' (by omega) (by decide)
    have i400 : inb (nI b) 400 := inb_nI' (by omega) (by decide)
    have xb : ix (nI b) = b := ix_nI (by omega)
    have xb1 : ix (nI (b + 1)) = b + 1 := ix_nI (by omega)
    by_cases y0 : (0 : Int32) ≤ y
    · rw [ifT y0, ifT y0, nI_addL, ifT i181', ifT i181, show ix (nI (b + 1)) = b + 1 from xb1, xb, g2, g1, nI_sub (by omega), nm_eq]
      obtain ⟨j, rfl, j2⟩ := bI_of y0
      by_cases z0 : j = 0
      · subst z0
        rw [ifF (by decide), ifT (by decide), ifT (by decide), ifT i400, g4]; exact AcR.st _
      by_cases z1 : j = 1
      · subst z1
        rw [ifF (by decide), ifF (by decide), ifF (by decide), ifT (by decide), ifT i180, ifT i400, g5]
        by_cases z : tA σ 213 b = 0
        · rw [ifT z, ifT z]; exact AcR.st _
        · rw [ifF z, ifF z]; exact AcR.st _
      have y2 : (2 : Int32) ≤ nI j := (bI_le (a := 2) (by decide) j2).mpr (by omega)
      have n0 : ¬ nI j = 0 := fun z => z0 ((bI_eq (b := 0) j2 (by decide)).mp z)
      have n1 : ¬ nI j = 1 := fun z => z1 ((bI_eq (b := 1) j2 (by decide)).mp z)
      rw [ifT y2, ifF n0, ifF n1]
      by_cases y100 : nI j < 100
      · have s2 : nI j - 2 = nI (j - 2) := nI_subL j 2 (by show 2 ≤ j; omega)
        rw [ifT y100, ifT y100, s2]
        unfold KJ_X0_block_86 KJ_X0_block_103 J_block_78
        rw [ifT (rfl : (0 : Int32) = 0), s2, ifT i400, xb, g4]
        by_cases z : nI (j - 2) < nI (fb (b + 1) - fb b)
        · have hj := (bI_lt (by omega) (by omega)).mp z
          obtain ⟨e, u, ⟨e1, -, e3, e4⟩, -⟩ := g7 (fb b + (j - 2)) (by omega) (by omega)
          rw [ifT z, ifT z, ifT (rfl : (0 : Int32) = 0), ifT i181, g1, bI_add, ifT (inb_nI' (by omega) (by decide)), ix_nI (by omega), e3, ifT y100, ifT i400, g3, bI_add, ifT (inb_nI' (by omega) (by decide)), ix_nI (by omega), e4]
          exact AcR.st _
        · rw [ifF z, ifF z]; exact AcR.st _
      · have hj100 : 100 ≤ j := Nat.le_of_not_lt (fun z => y100 ((bI_lt (b := 100) j2 (by decide)).mpr z))
        have s2 : nI j - 100 = nI (j - 100) := nI_subL j 100 (by show 100 ≤ j; omega)
        rw [ifF y100, ifF y100, s2]
        unfold KJ_X0_block_86 KJ_X0_block_103 J_block_78
        rw [ifF (by decide : ¬ (1 : Int32) = 0), s2, ifT i400, xb, g4]
        by_cases z : nI (j - 100) < nI (fb (b + 1) - fb b)
        · have hj := (bI_lt (by omega) (by omega)).mp z
          obtain ⟨e, u, -, u1, -, u3, u4⟩ := g7 (fb b + (j - 100)) (by omega) (by omega)
          rw [ifT z, ifT z, ifF (by decide : ¬ (1 : Int32) = 0), ifT i181, g1, bI_add, ifT (inb_nI' (by omega) (by decide)), ix_nI (by omega), u3, ifF y100, ifT i400, g3, bI_add, ifT (inb_nI' (by omega) (by decide)), ix_nI (by omega), u4]
          exact AcR.st _
        · rw [ifF z, ifF z]; exact AcR.st _
    · rw [ifF y0, ifF y0]; exact AcR.st _
  · rw [ifF q2, ifF q2]; exact AcR.st _
end SVACC
