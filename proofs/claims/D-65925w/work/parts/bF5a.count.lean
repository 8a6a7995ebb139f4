/-! Layer B: the flat model: how many variables an instance has, by its class alone -/
set_option maxRecDepth 100000
/-- how many of the variables v .. v + d are instance n's -/
def cnt (σ : TS) (n : Nat) : Nat → Nat → Nat
  | _, 0 => 0
  | v, d + 1 => (if tA σ 96 v = nI n then 1 else 0) + cnt σ n (v + 1) d
/-- the class of that name -/
def clI (σ : TS) (x : Int64) : Nat := ix (((F_classOf x σ).map Prod.fst).getD (-1))
/-- variables of one element, of elements in order, of a class -/
def nvE (σ : TS) (f : Nat → Nat) (e : Nat) : Nat := if tA σ 57 e = 0 then (if tB σ 51 e = 0 ∧ tA σ 52 e &&& 16 = 0 then many (ix (tA σ 53 e)) else 0) else f (clI σ (tB σ 51 e))
def nvS (σ : TS) (f : Nat → Nat) : Nat → Nat → Nat
  | _, 0 => 0
  | e, r + 1 => nvE σ f e + nvS σ f (e + 1) r
def nv (σ : TS) : Nat → Nat → Nat
  | 0, _ => 0
  | g + 1, k => nvS σ (nv σ g) (ix (tA σ 45 k)) (ix (tA σ 46 k))
/-- all that class k extends is there, g deep, with its elements -/
def ExN (σ : TS) : Nat → Nat → Prop
  | 0, _ => False
  | g + 1, k => k < 24 ∧ ∃ E0 len, tA σ 45 k = nI E0 ∧ tA σ 46 k = nI len ∧ E0 + len ≤ 480 ∧ ∀ e, E0 ≤ e → e < E0 + len → ¬ tA σ 57 e = 0 → ∃ k2, F_classOf (tB σ 51 e) σ = some (nI k2, σ) ∧ ExN σ g k2
/-- of the variables V .. V' those of instance i are as many as class k says -/
def CnI (σ : TS) (i V V' g k : Nat) : Prop := ExN σ g k ∧ cnt σ i V (V' - V) = nv σ g k
def CnL (σ : TS) (i V V' g e r : Nat) : Prop := (∀ e', e ≤ e' → e' < e + r → ¬ tA σ 57 e' = 0 → ∃ k2, F_classOf (tB σ 51 e') σ = some (nI k2, σ) ∧ ExN σ g k2) ∧ cnt σ i V (V' - V) = nvS σ (nv σ g) e r
def CnE (σ : TS) (i V V' g e : Nat) : Prop := (¬ tA σ 57 e = 0 → ∃ k2, F_classOf (tB σ 51 e) σ = some (nI k2, σ) ∧ ExN σ g k2) ∧ cnt σ i V (V' - V) = nvE σ (nv σ g) e
/-- so it is for every new instance -/
def NwC (σ : TS) (V V' I I' : Nat) : Prop := ∀ n, I ≤ n → n < I' → ∃ k g, tA σ 74 n = nI k ∧ g ≤ 13 ∧ CnI σ n V V' g k
def VnS (σ : TS) (V I : Nat) : Prop := ∀ n n', n < I → n' < I → tA σ 74 n = tA σ 74 n' → cnt σ n 0 V = cnt σ n' 0 V
section COUNT
variable {C : PC} {σ σ' σ1 σ2 s : TS} {B l k n i V V' V1 V2 I I' I1 I2 Bm Bm' Bm1 Bm2 b v e r g E : Nat} {S : List Nat} {x : Int64}
theorem cnt_add : ∀ (d v e : Nat), cnt σ n v (d + e) = cnt σ n v d + cnt σ n (v + d) e := by
  intro d
  induction d with
  | zero => intro v e; rw [Nat.zero_add, Nat.add_zero]; show cnt σ n v e = 0 + cnt σ n v e; rw [Nat.zero_add]
  | succ d ih =>
    intro v e
    rw [Nat.succ_add]
    show _ + cnt σ n (v + 1) (d + e) = (_ + cnt σ n (v + 1) d) + _
    rw [ih (v + 1) e, show v + 1 + d = v + (d + 1) by omega, Nat.add_assoc]
theorem cnt_cut (h1 : V ≤ V1) (h2 : V1 ≤ V2) : cnt σ n V (V2 - V) = cnt σ n V (V1 - V) + cnt σ n V1 (V2 - V1) := by
  have := cnt_add (σ := σ) (n := n) (V1 - V) V (V2 - V1)
  rw [show V1 - V + (V2 - V1) = V2 - V by omega, show V + (V1 - V) = V1 by omega] at this
  exact this
theorem cnt_eq : ∀ (d v : Nat), (∀ u, v ≤ u → u < v + d → tA s 96 u = tA σ 96 u) → cnt s n v d = cnt σ n v d := by
  intro d
  induction d with
  | zero => intro v h; rfl
  | succ d ih =>
    intro v h
    show (if tA s 96 v = nI n then 1 else 0) + cnt s n (v + 1) d = (if tA σ 96 v = nI n then 1 else 0) + cnt σ n (v + 1) d
    rw [h v (Nat.le_refl _) (by omega), ih (v + 1) (fun u h1 h2 => h u (by omega) (by omega))]
theorem cnt_0 : ∀ (d v : Nat), (∀ u, v ≤ u → u < v + d → ¬ tA σ 96 u = nI n) → cnt σ n v d = 0 := by
  intro d
  induction d with
  | zero => intro v h; rfl
  | succ d ih =>
    intro v h
    show (if tA σ 96 v = nI n then 1 else 0) + cnt σ n (v + 1) d = 0
    rw [ifF (h v (Nat.le_refl _) (by omega)), ih (v + 1) (fun u h1 h2 => h u (by omega) (by omega))]
theorem cnt_d : ∀ (d v : Nat), (∀ u, v ≤ u → u < v + d → tA σ 96 u = nI n) → cnt σ n v d = d := by
  intro d
  induction d with
  | zero => intro v h; rfl
  | succ d ih =>
    intro v h
    show (if tA σ 96 v = nI n then 1 else 0) + cnt σ n (v + 1) d = d + 1
    rw [ifT (h v (Nat.le_refl _) (by omega)), ih (v + 1) (fun u h1 h2 => h u (by omega) (by omega))]
    omega
theorem clI_eq (h : F_classOf x σ = some (nI k, σ)) (hk : k < 24) : clI σ x = k := by
  unfold clI
  rw [h]
  exact ix_nI (by omega)
theorem ExN.k24 (h : ExN σ g k) : k < 24 := by
  cases g with
  | zero => exact h.elim
  | succ g => exact h.1
theorem ExN.fwd (f : Ft S σ s) (hS : [41, 45, 46, 49, 51, 57].all (fun k => !S.contains k) = true) : ∀ g k, ExN σ g k → ExN s g k
  | 0, _, h => h.elim
  | g + 1, k, h => by
    have hf : ∀ k, k ∈ [41, 45, 46, 49, 51, 57] → S.contains k = false := fun k hk => by simpa using List.all_eq_true.mp hS k hk
    obtain ⟨h0, E0, len, h1, h2, h3, h4⟩ := h
    refine ⟨h0, E0, len, by rw [(f 45 (hf 45 (by decide))).2.2.1]; exact h1, by rw [(f 46 (hf 46 (by decide))).2.2.1]; exact h2, h3, fun e h5 h6 h7 => ?_⟩
    rw [(f 57 (hf 57 (by decide))).2.2.1] at h7
    obtain ⟨k2, a, b⟩ := h4 e h5 h6 h7
    exact ⟨k2, by rw [(f 51 (hf 51 (by decide))).2.2.2]; exact classOf_fr f hS a, ExN.fwd f hS g k2 b⟩
theorem nvS_eq {f f' : Nat → Nat} : ∀ (r e : Nat), (∀ e', e ≤ e' → e' < e + r → nvE s f' e' = nvE σ f e') → nvS s f' e r = nvS σ f e r := by
  intro r
  induction r with
  | zero => intro e h; rfl
  | succ r ih =>
    intro e h
    show nvE s f' e + nvS s f' (e + 1) r = nvE σ f e + nvS σ f (e + 1) r
    rw [h e (Nat.le_refl _) (by omega), ih (e + 1) (fun u h1 h2 => h u (by omega) (by omega))]
abbrev nvF : List Nat := [41, 45, 46, 49, 51, 52, 53, 57]
theorem nvF_ex (hS : nvF.all (fun k => !S.contains k) = true) : [41, 45, 46, 49, 51, 57].all (fun k => !S.contains k) = true := by
  rw [List.all_eq_true] at hS ⊢
  exact fun k hk => hS k (by
    have : ∀ k, k ∈ [41, 45, 46, 49, 51, 57] → k ∈ nvF := by decide
    exact this k hk)
theorem nvE_ft {g' : Nat} (f : Ft S σ s) (hS : nvF.all (fun k => !S.contains k) = true) (h : ¬ tA σ 57 e = 0 → ∃ k2, F_classOf (tB σ 51 e) σ = some (nI k2, σ) ∧ k2 < 24 ∧ nv s g' k2 = nv σ g k2) : nvE s (nv s g') e = nvE σ (nv σ g) e := by
  have hf : ∀ k, k ∈ nvF → S.contains k = false := fun k hk => by simpa using List.all_eq_true.mp hS k hk
  unfold nvE
  rw [(f 57 (hf 57 (by decide))).2.2.1, (f 51 (hf 51 (by decide))).2.2.2, (f 52 (hf 52 (by decide))).2.2.1, (f 53 (hf 53 (by decide))).2.2.1]
  by_cases q : tA σ 57 e = 0
  · rw [ifT q, ifT q]
  · obtain ⟨k2, c, c2, c3⟩ := h q
    rw [ifF q, ifF q, clI_eq c c2, clI_eq (classOf_fr f (nvF_ex hS) c) c2, c3]
theorem nv_ft (f : Ft S σ s) (hS : nvF.all (fun k => !S.contains k) = true) : ∀ g k, ExN σ g k → nv s g k = nv σ g k
  | 0, _, h => h.elim
  | g + 1, k, h => by
    have hf : ∀ k, k ∈ nvF → S.contains k = false := fun k hk => by simpa using List.all_eq_true.mp hS k hk
    obtain ⟨h0, E0, len, h1, h2, h3, h4⟩ := h
    show nvS s (nv s g) (ix (tA s 45 k)) (ix (tA s 46 k)) = nvS σ (nv σ g) (ix (tA σ 45 k)) (ix (tA σ 46 k))
    rw [(f 45 (hf 45 (by decide))).2.2.1, (f 46 (hf 46 (by decide))).2.2.1, h1, h2, ix_nI (by omega), ix_nI (by omega)]
    refine nvS_eq len E0 (fun e h5 h6 => nvE_ft f hS (fun h7 => ?_))
    obtain ⟨k2, a, b⟩ := h4 e h5 h6 h7
    exact ⟨k2, a, b.k24, nv_ft f hS g k2 b⟩
theorem nv_st : ∀ g k, ExN σ g k → ∀ g', g ≤ g' → nv σ g' k = nv σ g k
  | 0, _, h => h.elim
  | g + 1, k, h => fun g' hg => by
    obtain ⟨g', rfl⟩ : ∃ q, g' = q + 1 := ⟨g' - 1, by omega⟩
    obtain ⟨h0, E0, len, h1, h2, h3, h4⟩ := h
    show nvS σ (nv σ g') (ix (tA σ 45 k)) (ix (tA σ 46 k)) = nvS σ (nv σ g) (ix (tA σ 45 k)) (ix (tA σ 46 k))
    rw [h1, h2, ix_nI (by omega), ix_nI (by omega)]
    refine nvS_eq len E0 (fun e h5 h6 => nvE_ft (S := []) (Ft.rf _ _) rfl (fun h7 => ?_))
    obtain ⟨k2, a, b⟩ := h4 e h5 h6 h7
    exact ⟨k2, a, b.k24, nv_st g k2 b g' (by omega)⟩
theorem CnI.ft (h : CnI σ i V V' g k) (f : Ft S σ s) (hS : nvF.all (fun k => !S.contains k) = true) (h9 : ∀ u, V ≤ u → u < V' → tA s 96 u = tA σ 96 u) : CnI s i V V' g k := ⟨h.1.fwd f (nvF_ex hS) _ _, by rw [nv_ft f hS g k h.1, cnt_eq _ _ (fun u h1 h2 => h9 u h1 (by omega))]; exact h.2⟩
theorem CnL.nil : CnL σ i V V g e 0 := ⟨fun e' h1 h2 => by omega, by rw [Nat.sub_self]; rfl⟩
theorem CnL.cons (h : CnE σ i V V1 g e) (f : Ft S σ s) (hS : nvF.all (fun k => !S.contains k) = true) (h9 : ∀ u, V ≤ u → u < V1 → tA s 96 u = tA σ 96 u) (hV : V ≤ V1 ∧ V1 ≤ V2) (h2 : CnL s i V1 V2 g (e + 1) r) : CnL s i V V2 g e (r + 1) := by
  have hf : ∀ k, k ∈ nvF → S.contains k = false := fun k hk => by simpa using List.all_eq_true.mp hS k hk
  refine ⟨fun e' h3 h4 h5 => ?_, ?_⟩
  · by_cases z : e' = e
    · rw [z, (f 57 (hf 57 (by decide))).2.2.1] at h5
      obtain ⟨k2, a, b⟩ := h.1 h5
      exact ⟨k2, by rw [z, (f 51 (hf 51 (by decide))).2.2.2]; exact classOf_fr f (nvF_ex hS) a, b.fwd f (nvF_ex hS) _ _⟩
    · exact h2.1 e' (by omega) (by omega) h5
  · rw [cnt_cut hV.1 hV.2, h2.2, cnt_eq _ _ (fun u h1 h2 => h9 u h1 (by omega)), h.2]
    show _ = nvE s (nv s g) e + nvS s (nv s g) (e + 1) r
    rw [nvE_ft (g := g) f hS (fun h7 => ?_)]
    obtain ⟨k2, a, b⟩ := h.1 h7
    exact ⟨k2, a, b.k24, nv_ft f hS g k2 b⟩
theorem CnL.all {E0 len : Nat} (h : CnL σ i V V' g E0 len) (hk : k < 24) (h5 : tA σ 45 k = nI E0) (h6 : tA σ 46 k = nI len) (hE : E0 + len ≤ 480) : CnI σ i V V' (g + 1) k := ⟨⟨hk, E0, len, h5, h6, hE, h.1⟩, by
  show _ = nvS σ (nv σ g) (ix (tA σ 45 k)) (ix (tA σ 46 k))
  rw [h5, h6, ix_nI (by omega), ix_nI (by omega)]; exact h.2⟩
/-- an extends -/
theorem CnE.ext {k2 : Nat} (h : CnI σ i V V' g k2) (h57 : ¬ tA σ 57 e = 0) (hc : F_classOf (tB σ 51 e) σ = some (nI k2, σ)) : CnE σ i V V' g e := ⟨fun _ => ⟨k2, hc, h.1⟩, by
  unfold nvE
  rw [ifF h57, clI_eq hc h.1.k24]; exact h.2⟩
/-- whose a new variable is -/
theorem VoS.own (h : VoS σ V V' Bm Bm') (hB : Bm ≤ Bm') : ∀ v, V ≤ v → v < V' → ∃ b, Bm ≤ b ∧ b < Bm' ∧ VrE σ b ∧ tA σ 96 v = tA σ 83 b := by
  obtain ⟨fv, h1, h2, h3⟩ := h
  have : ∀ d, Bm + d ≤ Bm' → ∀ v, V ≤ v → v < fv (Bm + d) → ∃ b, Bm ≤ b ∧ b < Bm + d ∧ VrE σ b ∧ tA σ 96 v = tA σ 83 b := by
    intro d
    induction d with
    | zero => intro _ v q1 q2; rw [Nat.add_zero, h1] at q2; omega
    | succ d ih =>
      intro hd v q1 q2
      by_cases q : v < fv (Bm + d)
      · obtain ⟨b, b1, b2, b3⟩ := ih (by omega) v q1 q
        exact ⟨b, b1, by omega, b3⟩
      · rw [show Bm + (d + 1) = Bm + d + 1 by omega] at q2
        rcases h3 (Bm + d) (by omega) (by omega) with ⟨e, z, g1, g2, g3, g4, g5, g6⟩ | ⟨g1, g2⟩
        · exact ⟨Bm + d, by omega, by omega, ⟨e, g1⟩, g6 v (by omega) q2⟩
        · omega
  intro v q1 q2
  obtain ⟨b, b1, b2, b3⟩ := this (Bm' - Bm) (by omega) v q1 (by rw [show Bm + (Bm' - Bm) = Bm' by omega, h2]; exact q2)
  exact ⟨b, b1, by omega, b3⟩
theorem CnE.real (h : VoB σ b V V') (h4 : tA σ 84 b = nI e) (he : e < 480) (h58 : ix (tI σ 58) ≤ 480) (h3 : tA σ 83 b = nI i) (h57 : tA σ 57 e = 0) : CnE σ i V V' g e := by
  obtain ⟨e', z, ⟨q1, q2, q3, q4⟩, q5, q6, q7, q8, q9⟩ := h
  have : e = e' := (bI_eq (by omega) (by omega)).mp (h4.symm.trans q1)
  subst this
  refine ⟨fun z => absurd h57 z, ?_⟩
  unfold nvE
  rw [ifT h57, ifT ⟨q3, q4⟩, q5, ix_nI (by omega), cnt_d _ _ (fun u u1 u2 => by rw [q9 u u1 (by omega)]; exact h3)]
  omega
theorem CnE.none (h57 : tA σ 57 e = 0) (hn : ¬ (tB σ 51 e = 0 ∧ tA σ 52 e &&& 16 = 0)) (h : ∀ u, V ≤ u → u < V' → ¬ tA σ 96 u = nI i) : CnE σ i V V' g e := by
  refine ⟨fun z => absurd h57 z, ?_⟩
  unfold nvE
  rw [ifT h57, ifF hn]
  exact cnt_0 _ _ (fun u u1 u2 => h u u1 (by omega))
theorem CnE.cls (h : VoS σ V V' b Bm') (hB : b ≤ Bm') (h4 : tA σ 84 b = nI e) (he : e < 480) (h58 : ix (tI σ 58) ≤ 480) (h57 : tA σ 57 e = 0) (h51 : ¬ tB σ 51 e = 0) (hc : ∀ c, b < c → c < Bm' → ∃ n, tA σ 83 c = nI n ∧ n < I' ∧ I ≤ n) (hi : i < I) (hI : I' ≤ 200) : CnE σ i V V' g e := CnE.none h57 (fun z => h51 z.1) (fun u u1 u2 z => by
  obtain ⟨c, c1, c2, ⟨e', q1, q2, q3, q4⟩, c4⟩ := h.own hB u u1 u2
  by_cases y : c = b
  · rw [y, h4] at q1
    have := (bI_eq (a := e) (b := e') (by omega) (by omega)).mp q1
    rw [← this] at q3
    exact h51 q3
  · obtain ⟨n, n1, n2, n3⟩ := hc c (by omega) c2
    rw [c4, n1] at z
    have := (bI_eq (by omega) (by omega)).mp z
    omega)
theorem NwC.nil : NwC σ V V' I I := fun n h1 h2 => by omega
theorem NwC.tr (h : NwC σ V V1 I I1) (g : NwC s V1 V2 I1 I2) (f : Ft S σ s) (hS : nvF.all (fun k => !S.contains k) = true) (hV : V ≤ V1 ∧ V1 ≤ V2) (hI : I ≤ I1 ∧ I2 ≤ 200) (h9 : ∀ u, V ≤ u → u < V1 → tA s 96 u = tA σ 96 u) (h74 : ∀ n, n < I1 → tA s 74 n = tA σ 74 n) (o1 : ∀ v, V ≤ v → v < V1 → ∃ n, tA s 96 v = nI n ∧ n < I1) (o2 : ∀ v, V1 ≤ v → v < V2 → ∃ n, tA s 96 v = nI n ∧ n < 200 ∧ (n < I ∨ I1 ≤ n)) (h1 : I1 ≤ 200) : NwC s V V2 I I2 := fun n n1 n2 => by
  by_cases q : n < I1
  · obtain ⟨k, g', a1, a2, a3⟩ := h n n1 q
    have a3 := a3.ft f hS h9
    refine ⟨k, g', by rw [h74 n q]; exact a1, a2, a3.1, ?_⟩
    rw [cnt_cut hV.1 hV.2, a3.2, cnt_0 _ _ (fun u u1 u2 z => ?_)]; rfl
    obtain ⟨n', b1, b2, b3⟩ := o2 u u1 (by omega)
    rw [b1] at z
    have := (bI_eq (by omega) (by omega)).mp z
    omega
  · obtain ⟨k, g', a1, a2, a3⟩ := g n (by omega) n2
    refine ⟨k, g', a1, a2, a3.1, ?_⟩
    rw [cnt_cut hV.1 hV.2, a3.2, cnt_0 _ _ (fun u u1 u2 z => ?_), Nat.zero_add]
    obtain ⟨n', b1, b2⟩ := o1 u u1 (by omega)
    rw [b1] at z
    have := (bI_eq (by omega) (by omega)).mp z
    omega
theorem NwC.mv (h : NwC σ V V' I I') (f : Ft S σ s) (hS : nvF.all (fun k => !S.contains k) = true) (h9 : ∀ u, V ≤ u → u < V' → tA s 96 u = tA σ 96 u) (h74 : ∀ n, n < I' → tA s 74 n = tA σ 74 n) : NwC s V V' I I' := fun n n1 n2 => by
  obtain ⟨k, g', a1, a2, a3⟩ := h n n1 n2
  exact ⟨k, g', by rw [h74 n n2]; exact a1, a2, a3.ft f hS h9⟩
theorem NwC.all (h : NwC σ 0 V 1 I) {k0 : Nat} (h0 : tA σ 74 0 = nI k0) (hg : g ≤ 13) (c : CnI σ 0 0 V g k0) : VnS σ V I := by
  have one : ∀ n, n < I → ∃ k, tA σ 74 n = nI k ∧ k < 24 ∧ cnt σ n 0 V = nv σ 13 k := fun n hn => by
    by_cases q : n = 0
    · rw [q]; exact ⟨k0, h0, c.1.k24, by rw [nv_st g k0 c.1 13 hg]; exact c.2⟩
    · obtain ⟨k, g', a1, a2, a3⟩ := h n (by omega) hn
      exact ⟨k, a1, a3.1.k24, by rw [nv_st g' k a3.1 13 a2]; exact a3.2⟩
  intro n n' h1 h2 h3
  obtain ⟨k, a1, a2, a3⟩ := one n h1
  obtain ⟨k', b1, b2, b3⟩ := one n' h2
  rw [a1, b1] at h3
  rw [a3, b3, (bI_eq (by omega) (by omega)).mp h3]
theorem VnS.ft (h : VnS σ V I) (h4 : ∀ j, tA s 74 j = tA σ 74 j) (h9 : ∀ j, tA s 96 j = tA σ 96 j) : VnS s V I := fun n n' h1 h2 h3 => by
  rw [h4, h4] at h3
  rw [cnt_eq _ _ (fun u _ _ => h9 u), cnt_eq _ _ (fun u _ _ => h9 u)]
  exact h n n' h1 h2 h3
end COUNT
