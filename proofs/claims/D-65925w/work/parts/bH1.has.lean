/-! Layer B: the flat model: the twin finds names among elements -/
set_option maxRecDepth 100000
/-- the same from element e on, r of them left -/
def HasL (σ' : TS) (a b i k d e r : Nat) : Prop := (∀ s, Ft fiS σ' s → ∀ x dp g f, dp ≤ d + 2 → 12 - d ≤ g → r < f → (hs σ' a b i x → L_has_21 (G_has g) f (nI k) x (nI dp) (nI e) s = some (.inr 1, s)) ∧ (¬ hs σ' a b i x → ∃ y, (y = .inl () ∨ y = .inr 0) ∧ L_has_21 (G_has g) f (nI k) x (nI dp) (nI e) s = some (y, s))) ∧ ∀ e', e ≤ e' → e' < e + r → ¬ tA σ' 57 e' = 0 → ∃ k2, F_classOf (tB σ' 51 e') σ' = some (nI k2, σ') ∧ ExD σ' (12 - d) k2
/-- the elements of class k -/
def ClD (C : PC) (P : Nat → Prop) (M : CM) (σ : TS) (k o E0 : Nat) (es : List Nat) : Prop := LsP P M (mR M 1802 o) es ∧ (tA σ 45 k = nI E0 ∧ tA σ 46 k = nI es.length ∧ E0 + es.length ≤ ix (tI σ 58)) ∧ ∀ j, j < es.length → ElR C P M σ (es.getD j 0) (E0 + j)
section HAS1
variable {C C' : PC} {D D' D2 : FQ} {M M' M1 M2 : CM} {σ σ' σ0 σ1 σ2 σ4 s : TS} {mss fss xs bs qs os es : List Nat} {B l k n o m u w Q I I' L V V' Bm Bm' b c v r R R' R2 E E' E0 cr i i' k0 k2 fr e eo fl z env kk tf cb d len to dk dp : Nat} {P P' X T : Nat → Prop} {S S' O : List Nat} {a : Nat × Nat × Nat} {A W Wn W1 W2 : List (Nat × Nat × Nat)} {ks : List (Nat × Nat)} {x : Int64} {cf : Nat → Nat → Int32 → Int32 → Int32 → CM → Option ((Unit ⊕ Nat) × CM)} {cf' cm : Int32 → Int32 → Int32 → TS → Option (Unit × TS)}
theorem ClD.mv (h : ClD C P M σ k o E0 es) (v : Wz C C P M M' σ σ') (f : Ft fiS σ σ') (ho : P o) (h58 : ix (tI σ 58) ≤ 480) : ClD C P M' σ' k o E0 es := by
  obtain ⟨h1, ⟨h2, h3, h4⟩, h5⟩ := h
  have s := v.2.1.1 o ho
  refine ⟨by rw [s.r]; exact h1.wz v (fun _ z => z), ⟨by rw [(f 45 rfl).2.2.1]; exact h2, by rw [(f 46 rfl).2.2.1]; exact h3, by rw [(f 58 rfl).1]; exact h4⟩, fun j hj => (h5 j hj).wz v (fun _ z => z) (by omega)⟩
theorem classOf_ft (f : Ft fiS σ s) {r : Int32} (h : F_classOf x σ = some (r, σ)) : F_classOf x s = some (r, s) := by
  have loop : ∀ (n : Nat) (j : Int32), (L_classOf_2 n x j σ = none ∧ L_classOf_2 n x j s = none) ∨ ∃ y, L_classOf_2 n x j σ = some (y, σ) ∧ L_classOf_2 n x j s = some (y, s) := by
    intro n
    induction n with
    | zero => intro j; exact Or.inl ⟨rfl, rfl⟩
    | succ n ih =>
      intro j
      rw [L_classOf_2, L_classOf_2, (f 49 rfl).1]
      by_cases q : tI σ 49 ≤ j
      · rw [ifT q, ifT q]; exact Or.inr ⟨_, rfl, rfl⟩
      · rw [ifF q, ifF q]
        by_cases q2 : inb j 24
        · rw [ifT q2, ifT q2, (f 41 rfl).2.2.2]
          by_cases q3 : lg_cmp (tB σ 41 (ix j)) x = 0
          · rw [ifT q3, ifT q3]; exact Or.inr ⟨_, rfl, rfl⟩
          · rw [ifF q3, ifF q3, nm_eq, nm_eq]; exact ih _
        · rw [ifF q2, ifF q2]; exact Or.inl ⟨rfl, rfl⟩
  unfold F_classOf at h ⊢
  rcases loop FU 0 with ⟨h1, h2⟩ | ⟨y, h1, h2⟩
  · rw [h1] at h; exact absurd h (by intro z; cases z)
  · rw [h1] at h
    rw [h2]
    cases y with
    | inl u =>
      rw [obS_inl] at h ⊢
      have := congrArg Prod.fst (Option.some.inj h)
      have this : (-1 : Int32) = r := this
      rw [this]
    | inr u =>
      rw [obS_inr] at h ⊢
      have := congrArg Prod.fst (Option.some.inj h)
      have this : u = r := this
      rw [this]
/-- no two members of an instance have one name -/
theorem FiS.uq (hB1 : B ≤ 1280) (F : FiS C B P mss fss D M σ V I Bm cr R E) (hi : i < I) (hb : b < Bm) (hc : c < Bm) (h83 : tA σ 83 b = nI i ∧ tA σ 83 c = nI i) (h84 : tA σ 84 b = nI e ∧ tA σ 84 c = nI eo) (he : e < 480 ∧ eo < 480) (hx : tB σ 50 e = tB σ 50 eo) : b = c := by
  obtain ⟨-, -, -, bs, b1, b2, b3, b4, b5, b6⟩ := F.2.1.2.1 i hi
  obtain ⟨⟨L, WN0⟩, h1280, hQ⟩ := F.wn hB1
  obtain ⟨E0, e1, e2⟩ := F.1.1.2.2.2.2.2.2.1
  have h24 := F.1.1.2.2.2.2.1.1.1
  have h480 : ∀ x, x < ix (tI σ 58) → x < 480 := fun x hx => by
    rw [e1, ix_nI (by omega)] at hx
    omega
  obtain ⟨n, e', q, w, -, ⟨a1, a2, -⟩, -, ⟨a3, a4, a5, a6⟩, -⟩ := F.2.1.2.2.1 b hb
  obtain ⟨n2, e2', q2, w2, -, ⟨c1, c2, -⟩, -, ⟨c3, c4, c5, c6⟩, -⟩ := F.2.1.2.2.1 c hc
  rw [h84.1] at a1
  rw [h84.2] at c1
  have a1 := (bI_eq (by omega) (by have := h480 _ a2; omega)).mp a1
  have c1 := (bI_eq (by omega) (by have := h480 _ c2; omega)).mp c1
  rw [← a1] at a6
  rw [← c1] at c6
  rw [a6, c6] at hx
  have := (wc_inj WN0 a5 c5).mp hx
  exact b4 b c (b5 b hb h83.1) (b5 c hc h83.2) (by rw [a3, c3, this])
theorem HasL.nil (h : tA σ' 45 k = nI E0 ∧ tA σ' 46 k = nI len) (hk : k < 24) (hE : E0 + len < 2000) : HasL σ' b b i k d (E0 + len) 0 := ⟨fun s fs x dp g f h1 h2 h3 => by
  obtain ⟨f, rfl⟩ : ∃ n, f = n + 1 := ⟨f - 1, by omega⟩
  refine ⟨fun z => ?_, fun _ => ⟨.inl (), Or.inl rfl, ?_⟩⟩
  · obtain ⟨m, _, ⟨q1, q2⟩, _⟩ := z; omega
  · rw [L_has_21, ifT (inb_nI' hk (by decide)), ifT (inb_nI' hk (by decide)), ix_nI (by omega), (fs 45 rfl).2.2.1, (fs 46 rfl).2.2.1, h.1, h.2, bI_add, ifT ((bI_le (by omega) (by omega)).mpr (Nat.le_refl _))], fun e' h1 h2 => by omega⟩
/-- an element with a name in front -/
theorem HasL.elem {p q : Nat} (H : HasL σ' p q i k d (e + 1) r) (h : tA σ' 45 k = nI E0 ∧ tA σ' 46 k = nI len) (hk : k < 24) (he : E0 ≤ e ∧ e < E0 + len ∧ E0 + len ≤ 480) (h57 : tA σ' 57 e = 0) (hb : b ≤ p ∧ p ≤ q) (hx : ∀ x, hs σ' b p i x ↔ tA σ' 52 e &&& 16 = 0 ∧ tB σ' 50 e = x) (hu : ∀ x, tB σ' 50 e = x → ¬ hs σ' p q i x) : HasL σ' b q i k d e (r + 1) := by
  refine ⟨fun s fs x dp g f h1 h2 h3 => ?_, fun e' h1 h2 h3 => H.2 e' (by
    by_cases z : e' = e
    · rw [z] at h3; exact absurd h57 h3
    · omega) (by omega) h3⟩
  obtain ⟨f, rfl⟩ : ∃ n, f = n + 1 := ⟨f - 1, by omega⟩
  have ie : inb (nI e) 481 := inb_nI' (by omega) (by decide)
  have head : L_has_21 (G_has g) (f + 1) (nI k) x (nI dp) (nI e) s = if tB σ' 50 e = x then if tA σ' 52 e &&& 16 = 0 then some (.inr 1, s) else some (.inr 0, s) else L_has_21 (G_has g) f (nI k) x (nI dp) (nI (e + 1)) s := by
    rw [L_has_21, ifT (inb_nI' hk (by decide)), ifT (inb_nI' hk (by decide)), ix_nI (show k < 2147483648 by omega), (fs 45 rfl).2.2.1, (fs 46 rfl).2.2.1, h.1, h.2, bI_add, ifF (fun z => by have := (bI_le (by omega) (by omega)).mp z; omega), ifT ie, ix_nI (by omega), (fs 57 rfl).2.2.1, ifT h57, ifT ie, (fs 50 rfl).2.2.2, (fs 52 rfl).2.2.1]
    by_cases y : tB σ' 50 e = x
    · rw [ifT (lg_eq.mpr y), ifT ie, ifT y]
    · rw [ifF (fun z => y (lg_eq.mp z)), ifF y]
      unfold J_has_80_21
      rw [ifT ie, ix_nI (by omega), (fs 57 rfl).2.2.1, ifT h57, nI_addL, nm_eq]
  rw [head]
  obtain ⟨H1, H2⟩ := H.1 s fs x dp g f h1 h2 (by omega)
  by_cases y : tB σ' 50 e = x
  · rw [ifT y]
    by_cases y2 : tA σ' 52 e &&& 16 = 0
    · rw [ifT y2]
      exact ⟨fun _ => rfl, fun z => absurd ((hs.cut hb.1 hb.2).mpr (Or.inl ((hx x).mpr ⟨y2, y⟩))) z⟩
    · rw [ifF y2]
      refine ⟨fun z => ?_, fun _ => ⟨_, Or.inr rfl, rfl⟩⟩
      rcases (hs.cut hb.1 hb.2).mp z with z | z
      · exact absurd ((hx x).mp z).1 y2
      · exact absurd z (hu x y)
  · rw [ifF y]
    refine ⟨fun z => ?_, fun z => H2 (fun y => z ((hs.cut hb.1 hb.2).mpr (Or.inr y)))⟩
    rcases (hs.cut hb.1 hb.2).mp z with z | z
    · exact absurd ((hx x).mp z).2 y
    · exact H1 z
/-- an extends in front -/
theorem HasL.ext {p q : Nat} (H : HasL σ' p q i k d (e + 1) r) (h : tA σ' 45 k = nI E0 ∧ tA σ' 46 k = nI len) (hk : k < 24) (he : E0 ≤ e ∧ e < E0 + len ∧ E0 + len ≤ 480) (h57 : ¬ tA σ' 57 e = 0) (hb : b ≤ p ∧ p ≤ q) (hd : d < 12) (hc : F_classOf (tB σ' 51 e) σ' = some (nI k2, σ')) (hp : HasP σ' b p i k2 (d + 1)) : HasL σ' b q i k d e (r + 1) := by
  refine ⟨fun s fs x dp g f h1 h2 h3 => ?_, fun e' h1 h2 h3 => ?_⟩
  rotate_left
  · by_cases z : e' = e
    · rw [z]; exact ⟨k2, hc, by have := hp.2; rw [show 13 - (d + 1) = 12 - d by omega] at this; exact this⟩
    · exact H.2 e' (by omega) (by omega) h3
  obtain ⟨f, rfl⟩ : ∃ n, f = n + 1 := ⟨f - 1, by omega⟩
  have ie : inb (nI e) 481 := inb_nI' (by omega) (by decide)
  obtain ⟨P1, P2⟩ := hp.1 s fs x (dp + 1) g (by omega) (by omega)
  have cl := classOf_ft fs hc
  have head : L_has_21 (G_has g) (f + 1) (nI k) x (nI dp) (nI e) s = ob (G_has g (nI k2) x (nI (dp + 1)) s) fun r16 s15 => if r16 = 0 then L_has_21 (G_has g) f (nI k) x (nI dp) (nI (e + 1)) s15 else some (.inr 1, s15) := by
    rw [L_has_21, ifT (inb_nI' hk (by decide)), ifT (inb_nI' hk (by decide)), ix_nI (show k < 2147483648 by omega), (fs 45 rfl).2.2.1, (fs 46 rfl).2.2.1, h.1, h.2, bI_add, ifF (fun z => by have := (bI_le (by omega) (by omega)).mp z; omega), ifT ie, ix_nI (by omega), (fs 57 rfl).2.2.1, ifF h57]
    unfold J_has_80_21
    rw [ifT ie, ix_nI (by omega), (fs 57 rfl).2.2.1, ifF h57, ifT ie, (fs 51 rfl).2.2.2, cl, ob_some]
    simp only [nI_addL, nm_eq]
  rw [head]
  obtain ⟨H1, H2⟩ := H.1 s fs x dp g f h1 h2 (by omega)
  by_cases y : hs σ' b p i x
  · rw [P1 y, ob_some, ifF (show ¬ (1 : Int32) = 0 by decide)]
    exact ⟨fun _ => rfl, fun z => absurd ((hs.cut hb.1 hb.2).mpr (Or.inl y)) z⟩
  · rw [P2 y, ob_some, ifT rfl]
    refine ⟨fun z => ?_, fun z => H2 (fun y => z ((hs.cut hb.1 hb.2).mpr (Or.inr y)))⟩
    rcases (hs.cut hb.1 hb.2).mp z with z | z
    · exact absurd z y
    · exact H1 z
/-- all of a class -/
theorem HasL.all (H : HasL σ' b c i k d E0 len) (h45 : tA σ' 45 k = nI E0) (hk : k < 24) (hl : len ≤ 20) (hd : d ≤ 12) (h46 : tA σ' 46 k = nI len) (hE : E0 + len ≤ 480) : HasP σ' b c i k d := by
  refine ⟨fun s fs x dp g h1 h2 => ?_, ?_⟩
  rotate_left
  · rw [show 13 - d = (12 - d) + 1 by omega]
    refine ⟨hk, fun e E1 len1 g1 g2 g3 g4 g5 g6 => ?_⟩
    rw [h45] at g1
    rw [h46] at g2
    have q1 := (bI_eq (by omega) (by omega)).mp g1
    have q2 := (bI_eq (by omega) (by omega)).mp g2
    exact H.2 e (by omega) (by omega) g6
  obtain ⟨g, rfl⟩ : ∃ n, g = n + 1 := ⟨g - 1, by omega⟩
  have fu := FUb
  obtain ⟨H1, H2⟩ := H.1 s fs x dp g FU h1 (by omega) (by omega)
  have head : G_has (g + 1) (nI k) x (nI dp) s = obS (L_has_21 (G_has g) FU (nI k) x (nI dp) (nI E0) s) (fun r32 s29 => some (r32, s29)) fun _ s29 => some (0, s29) := by
    show B_has (G_has g) (nI k) x (nI dp) s = _
    unfold B_has
    rw [ifF (show ¬ nI k < 0 from by rw [nI_ltL (by omega) (by decide)]; exact Nat.not_lt_zero _), ifT (show nI dp ≤ 14 from by rw [show (14 : Int32) = nI 14 from rfl, bI_le (by omega) (by decide)]; omega), ifT (inb_nI' hk (by decide)), ix_nI (by omega), (fs 45 rfl).2.2.1, h45, nm_eq]
  rw [head]
  refine ⟨fun z => by rw [H1 z, obS_inr], fun z => ?_⟩
  obtain ⟨y, q1, q2⟩ := H2 z
  rw [q2]
  rcases q1 with rfl | rfl
  · rw [obS_inl]
  · rw [obS_inr]
theorem HasL.mv {p q : Nat} (H : HasL σ p q i k d e r) (f : Ft fiS σ σ') (kp : KpT σ σ' V I Bm E i') (hb : q ≤ Bm) : HasL σ' p q i k d e r := ⟨fun s fs x dp g n h1 h2 h3 => ⟨fun z => (H.1 s (f.tr fs) x dp g n h1 h2 h3).1 ((hs.mv f kp hb).mp z), fun z => (H.1 s (f.tr fs) x dp g n h1 h2 h3).2 (fun y => z ((hs.mv f kp hb).mpr y))⟩, fun e' h1 h2 h3 => by
  rw [(f 57 rfl).2.2.1] at h3
  obtain ⟨k2, a, b⟩ := H.2 e' h1 h2 h3
  exact ⟨k2, by rw [(f 51 rfl).2.2.2]; exact classOf_ft f a, b.fwd f (by decide) _ _⟩⟩
end HAS1
