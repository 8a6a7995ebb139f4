/-! Layer B: judging: variables' units, nodes, and loops of tests -/
set_option maxRecDepth 100000
/-- the first unlike one was y -/
def JT (y : Int32) (T : Nat) (σ : TS) : Prop := tI σ 172 = y ∧ ∃ t, tI σ 173 = nI t ∧ 1 ≤ t ∧ t ≤ T
/-- one test of a loop, the twin -/
def JsT {β : Type} (σ0 : TS) (L : Nat → Int32 → TS → Option (β × TS)) (lab : Nat → Int32) (j : Nat) (b : Bool) : Prop := ∀ tf σ, JWf σ0 σ → ∃ s2, Ft [170, 171] σ s2 ∧ tI s2 171 = nI 0 ∧ L (tf + 1) (nI j) σ = if b then ob (F_tell (lab j) s2) fun _ s => L tf (nI (j + 1)) s else L tf (nI (j + 1)) s2
/-- the same, the component -/
def JsK (M0 : CM) (KL : Nat → Int32 → CM → Option ((Unit ⊕ Int32) × CM)) (lab : Nat → Int32) (j : Nat) (b : Bool) : Prop := ∀ kf M, Ku M0 M → ∃ M', Ku M0 M' ∧ KL (kf + 1) (nI j) M = if b then some (.inr (1 + lab j), M') else KL kf (nI (j + 1)) M'
section JUDGE1
variable {C : PC} {P : Nat → Prop} {mss fss : List Nat} {D D' : FQ} {M M0 M' : CM} {σ σ0 σ' s : TS} {z7 : Nat → Nat} {B V I Bm K N E A Wn q qs v n a T m k : Nat} {S : List Nat} {x y : Int32} {vv : Nat → Nat} {β : Type}
theorem nI_shr {n k : Nat} (h : n < 2147483648) {y : Int32} (hy : (nI n >>> y).toBitVec = (nI n).toBitVec.sshiftRight k) : nI n >>> y = nI (n / 2 ^ k) := by
  have nn : ∀ k : Nat, k < 4294967296 → (nI k).toBitVec.toNat = k := fun k hk => by
    show (Int32.ofNat k).toBitVec.toNat = k
    rw [Int32.toBitVec_ofNat', BitVec.toNat_ofNat]; omega
  apply Int32.toBitVec_inj.mp
  rw [hy]
  have hm : (nI n).toBitVec.msb = false := by
    rw [BitVec.msb_eq_false_iff_two_mul_lt, nn n (by omega)]; omega
  rw [BitVec.sshiftRight_eq_of_msb_false hm]
  apply BitVec.eq_of_toNat_eq
  have : n / 2 ^ k ≤ n := Nat.div_le_self _ _
  rw [BitVec.toNat_ushiftRight, Nat.shiftRight_eq_div_pow, nn n (by omega), nn _ (by omega)]
theorem nI_31 {n : Nat} (h : n < 2147483648) : nI n &&& 31 = nI (n % 32) := by
  have nn : ∀ k : Nat, k < 4294967296 → (nI k).toBitVec.toNat = k := fun k hk => by
    show (Int32.ofNat k).toBitVec.toNat = k
    rw [Int32.toBitVec_ofNat', BitVec.toNat_ofNat]; omega
  apply Int32.toBitVec_inj.mp
  apply BitVec.eq_of_toNat_eq
  rw [Int32.toBitVec_and, BitVec.toNat_and, nn n (by omega), nn _ (by omega)]
  show n &&& 31 = n % 32
  exact Nat.and_two_pow_sub_one_eq_mod n 5
theorem t_unitOf (hv : v < 96) (h : tA σ 95 v = unT vv) (hb : ∀ k, k < 3 → 1 ≤ vv k ∧ vv k ≤ 15) : F_unitOf (nI v) σ = some (pU (eVr vv), σ) := by
  have b0 := hb 0 (by decide)
  have b1 := hb 1 (by decide)
  have b2 := hb 2 (by decide)
  have bb : bU 400000 (eVr vv) := by
    unfold eVr
    exact ⟨⟨by simp only; omega, by simp only; omega⟩, ⟨by simp only; omega, by simp only; omega⟩, by simp only; omega, by simp only; omega⟩
  have i8 : ∀ n : Nat, nI n - 8 = iI ((n : Int) - 8) := fun n => by rw [iI_nI, show (8 : Int32) = iI 8 by decide, iI_sub]
  unfold F_unitOf
  rw [ifT (inb_nI' hv (by decide)), ix_nI (by omega), h, nm_eq]
  unfold unT
  by_cases q : vv 0 = 8 ∧ vv 1 = 8 ∧ vv 2 = 8
  · rw [ifT q, ifT rfl, t_uf0, ob_some]
    have : eVr vv = (0, 0, 0) := by unfold eVr; rw [q.1, q.2.1, q.2.2]; rfl
    rw [this]
  · obtain ⟨X, hX⟩ : ∃ X, X = vv 0 + 32 * vv 1 + 1024 * vv 2 + 1048576 := ⟨_, rfl⟩
    have hXb : X < 2147483648 := by omega
    rw [ifF q, ← hX, ifF (fun z => by have := (bI_eq (b := 0) hXb (by decide)).mp z; omega), nI_31 hXb, nI_shr (k := 5) hXb rfl, nI_31 (by omega), nI_shr (k := 10) hXb rfl, nI_31 (by omega), show X % 32 = vv 0 by omega, show X / 2 ^ 5 % 32 = vv 1 by omega, show X / 2 ^ 10 % 32 = vv 2 by omega, i8, i8, i8]
    have t := t_uf (σ := σ) bb
    rw [show F_unitFrom (iI ((vv 0 : Int) - 8)) (iI ((vv 1 : Int) - 8)) (iI ((vv 2 : Int) - 8)) σ = _ from t, ob_some]
theorem FW.ku (W : FW C B P mss fss D M σ) {l : Nat} (hl : l ∈ flA) (K : Ku M M') : Ls M' l (pl D l) := by
  have k1 : mk M 1 = 1 := (W.2.2.2.1.1 (1, 1, 0) (by decide)).1
  have k116 : mk M 116 = 50 := (W.2.2.2.1.1 (116, 50, 700) (by decide)).1
  have := flA_rng l hl
  refine (W.2.1.1 l hl).1.fz K.1 (by have := W.n167; omega) (fun o ho => ?_)
  rcases ho with rfl | rfl
  · rw [k1]; decide
  · rw [k116]; decide
theorem FW.k8 (W : FW C B P mss fss D M σ) (h45 : mI M 45 1 = 0 ∨ mI M 45 1 = 1) : K8 M := ⟨W.2.2.2.1.1 (116, 50, 700) (by decide), h45⟩
theorem un_all (W : FW C B P mss fss D M σ) (FX : FlY z7 C P D mss M σ V I Bm) (hv : v < V) : UnH M σ v := by
  have V96 := FX.2.1.1
  have l98 := FX.1.1.1
  obtain ⟨vv, v1, v2⟩ := (FX.1.2.2.2 v hv).2.2.2.1
  obtain ⟨a1, a2, a3⟩ := W.2.1.2.2.1 v (by omega)
  have i8 : ∀ n : Nat, nI n - 8 = iI ((n : Int) - 8) := fun n => by rw [iI_nI, show (8 : Int32) = iI 8 by decide, iI_sub]
  have b0 := v1 0 (by decide)
  have b1 := v1 1 (by decide)
  have b2 := v1 2 (by decide)
  refine ⟨eVr vv, (pl D 98).getD v 0, ?_, fun σ' f => t_unitOf (by omega) (by rw [(f 95 rfl).2.2.1]; exact v2) (fun k hk => (v1 k hk).2), fun M' K => ls_get (W.ku (by decide) K) (by omega), (W.2.1.2.1 98 (by decide) v (by omega)).1, a1, by omega, by rw [b0.1, i8]; rfl, by rw [b1.1, i8]; rfl, by rw [b2.1, i8]; rfl⟩
  unfold eVr
  exact ⟨⟨by simp only; omega, by simp only; omega⟩, ⟨by simp only; omega, by simp only; omega⟩, by simp only; omega, by simp only; omega⟩
/-- a node: the same unit on both sides -/
theorem nodeU (W : FW C B P mss fss D M σ) (FX : FlY z7 C P D mss M σ V I Bm) (h45 : mI M 45 1 = 0 ∨ mI M 45 1 = 1) (NF : NdF D M σ K N) {h : Nat} (hh : h ≤ 100) {fx : Int32} (nd : NdR fx D M σ 106 V h 0 K N a n) : ∃ u, bV 100000 u ∧ CU M 100 a u ∧ TU σ 100 n u := by
  obtain ⟨⟨-, n1, n2⟩, ⟨n3, -⟩, na⟩ := NF
  have nd0 : NdR 0 D M σ 106 V 100 0 K N a n := NdR.mvx (fun q => absurd q (by decide)) NdK.rf (Nat.le_refl _) (Nat.le_refl _) (Nat.le_refl V) h 100 0 a n hh nd
  obtain ⟨b1, b2⟩ := nd0.nb
  obtain ⟨⟨z, z1, z2⟩, -⟩ := na n b1 b2
  obtain ⟨u, u1, u2, u3, -⟩ := z_unitN (W.k8 h45) (fun k hk => (W.2.1.2.1 106 (by decide) k (by omega)).1) (by omega) (fun v hv => un_all W FX hv) 100 a n z nd0 z1 (by omega)
  exact ⟨u, u1.mono (by omega), u2, u3⟩
theorem t_tell0 (h : tI s 173 = 0) : ∃ s', F_tell x s = some ((), s') ∧ Ft [172, 173] s s' ∧ JT x 1 s' := by
  unfold F_tell
  rw [ifT h, nm_eq, nm_eq]
  refine ⟨_, rfl, ((Ft.rf _ s).p_tsI rfl).p_tsI rfl, rfl, 1, ?_, Nat.le_refl _, Nat.le_refl _⟩
  show tI s 173 + 1 = nI 1
  rw [h]; rfl
theorem t_tell1 (h : JT y T s) (hT : T ≤ 100000) : ∃ s', F_tell x s = some ((), s') ∧ Ft [172, 173] s s' ∧ JT y (T + 1) s' := by
  obtain ⟨h1, t, t1, t2, t3⟩ := h
  unfold F_tell
  rw [ifF (fun z => by rw [t1] at z; have := (bI_eq (b := 0) (by omega) (by decide)).mp z; omega), nm_eq]
  refine ⟨_, rfl, (Ft.rf _ s).p_tsI rfl, h1, t + 1, ?_, by omega, by omega⟩
  show tI s 173 + 1 = nI (t + 1)
  rw [t1]; exact nI_addL t 1
theorem JWf.st (J : JWf σ0 σ) (f : Ft [170, 171] σ s) (h : tI s 171 = nI 0) : JWf σ0 s := ⟨J.1.tr (f.mono (by decide)), h⟩
theorem JWf.tl (J : JWf σ0 σ) (f : Ft [172, 173] σ s) : JWf σ0 s := ⟨J.1.tr (f.mono (by decide)), (f 171 rfl).1.trans J.2⟩
theorem JT.st (J : JT y T σ) (f : Ft [170, 171] σ s) : JT y T s := by
  obtain ⟨h1, t, t1, t2⟩ := J
  exact ⟨(f 172 rfl).1.trans h1, t, (f 173 rfl).1.trans t1, t2⟩
/-- a loop of tests when one was unlike -/
theorem jg_told {L : Nat → Int32 → TS → Option (β × TS)} {lab : Nat → Int32} {ρ : β} (hend : ∀ tf σ, JWf σ0 σ → L (tf + 1) (nI m) σ = some (ρ, σ)) {j0 : Nat} (hst : ∀ j, j0 ≤ j → j < m → ∃ b, JsT σ0 L lab j b) : ∀ (d j tf : Nat) (σ : TS) (T : Nat), j + d = m → j0 ≤ j → d < tf → JWf σ0 σ → JT y T σ → T + d ≤ 100000 → ∃ σ', L tf (nI j) σ = some (ρ, σ') ∧ JWf σ0 σ' ∧ JT y (T + d) σ' := by
  intro d
  induction d with
  | zero =>
    intro j tf σ T hj h0 hf J t hT
    obtain ⟨tf, rfl⟩ : ∃ g, tf = g + 1 := ⟨tf - 1, by omega⟩
    obtain rfl : j = m := by omega
    exact ⟨σ, hend tf σ J, J, t⟩
  | succ d ih =>
    intro j tf σ T hj h0 hf J t hT
    obtain ⟨tf, rfl⟩ : ∃ g, tf = g + 1 := ⟨tf - 1, by omega⟩
    obtain ⟨b, hb⟩ := hst j h0 (by omega)
    obtain ⟨s2, f2, e2, st⟩ := hb tf σ J
    have J2 := J.st f2 e2
    have t2 := t.st f2
    rw [st]
    cases b with
    | false =>
      obtain ⟨σ', a1, a2, a3, t', b1, b2, b3⟩ := ih (j + 1) tf s2 T (by omega) (by omega) (by omega) J2 t2 (by omega)
      exact ⟨σ', a1, a2, a3, t', b1, b2, by omega⟩
    | true =>
      obtain ⟨s3, c1, c2, c3⟩ := t_tell1 (x := lab j) t2 (by omega)
      rw [ifT rfl, c1, ob_some]
      obtain ⟨σ', a1, a2, a3⟩ := ih (j + 1) tf s3 (T + 1) (by omega) (by omega) (by omega) (J2.tl c2) c3 (by omega)
      exact ⟨σ', a1, a2, by rw [show T + (d + 1) = T + 1 + d by omega]; exact a3⟩
/-- a loop of tests, both sides -/
theorem jg_lock {L : Nat → Int32 → TS → Option (β × TS)} {KL : Nat → Int32 → CM → Option ((Unit ⊕ Int32) × CM)} {lab : Nat → Int32} {ρ : β} (hend : ∀ tf σ, JWf σ0 σ → L (tf + 1) (nI m) σ = some (ρ, σ)) {j0 : Nat} (hst : ∀ j, j0 ≤ j → j < m → ∃ b, JsT σ0 L lab j b ∧ JsK M0 KL lab j b) : ∀ (d j tf kf : Nat) (M : CM) (σ : TS), j + d = m → j0 ≤ j → d < tf → d ≤ 1000 → Ku M0 M → JWf σ0 σ → tI σ 173 = 0 →
    (∃ M' σ', KL (kf + d) (nI j) M = KL kf (nI m) M' ∧ L tf (nI j) σ = some (ρ, σ') ∧ Ku M0 M' ∧ JWf σ0 σ' ∧ tI σ' 173 = 0) ∨
    ∃ M' σ' y, KL (kf + d) (nI j) M = some (.inr (1 + y), M') ∧ L tf (nI j) σ = some (ρ, σ') ∧ Ku M0 M' ∧ JWf σ0 σ' ∧ JT y (1 + d) σ' := by
  intro d
  induction d with
  | zero =>
    intro j tf kf M σ hj h0 hf hd Km J t
    obtain ⟨tf, rfl⟩ : ∃ g, tf = g + 1 := ⟨tf - 1, by omega⟩
    obtain rfl : j = m := by omega
    exact Or.inl ⟨M, σ, rfl, hend tf σ J, Km, J, t⟩
  | succ d ih =>
    intro j tf kf M σ hj h0 hf hd Km J t
    obtain ⟨tf, rfl⟩ : ∃ g, tf = g + 1 := ⟨tf - 1, by omega⟩
    obtain ⟨b, hb, hk⟩ := hst j h0 (by omega)
    obtain ⟨s2, f2, e2, st⟩ := hb tf σ J
    obtain ⟨M2, K2, sk⟩ := hk (kf + d) M Km
    have J2 := J.st f2 e2
    rw [st, show kf + (d + 1) = kf + d + 1 by omega, sk]
    cases b with
    | false =>
      rcases ih (j + 1) tf kf M2 s2 (by omega) (by omega) (by omega) (by omega) K2 J2 ((f2 173 rfl).1.trans t) with ⟨M', σ', a1, a2, a3, a4, a5⟩ | ⟨M', σ', y, a1, a2, a3, a4, a5, t', b1, b2, b3⟩
      · exact Or.inl ⟨M', σ', a1, a2, a3, a4, a5⟩
      · exact Or.inr ⟨M', σ', y, a1, a2, a3, a4, a5, t', b1, b2, by omega⟩
    | true =>
      right
      obtain ⟨s3, c1, c2, c3⟩ := t_tell0 (x := lab j) ((f2 173 rfl).1.trans t)
      rw [ifT rfl, ifT rfl, c1, ob_some]
      obtain ⟨σ', a1, a2, a3, t', b1, b2, b3⟩ := jg_told (y := lab j) hend (j0 := j0) (fun j h1 h2 => by
        obtain ⟨b, q1, -⟩ := hst j h1 h2
        exact ⟨b, q1⟩) d (j + 1) tf s3 1 (by omega) (by omega) (by omega) (J2.tl c2) c3 (by omega)
      exact ⟨M2, σ', lab j, rfl, a1, K2, a2, a3, t', b1, b2, by omega⟩
end JUDGE1
