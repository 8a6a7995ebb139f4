/-! Layer B: the flat model while it is built: a step, a fault, an expression on the way -/
set_option maxRecDepth 100000
/-- what building writes -/
def TW (t : Nat) : Prop := t = 1 ∨ (111 ≤ t ∧ t ≤ 115) ∨ (tg 98 0 ≤ t ∧ t < tg 99 0) ∨ (tg 111 0 ≤ t ∧ t < tg 114 0)
abbrev fgW : List Nat := [32, 33, 35, 37, 39, 41]
abbrev bwX : List Nat := [0, 74, 75, 76, 77, 82, 83, 84, 85, 86, 87, 88, 89, 94, 95, 96, 97, 98, 99, 100, 101, 102, 103, 107, 115, 116, 117, 121, 122, 123, 124, 126, 127, 129, 130, 131, 134, 137, 138, 162]
/-- what stays of instances, members, variables -/
abbrev vkL : List Nat := [74, 75, 76, 77, 83, 84, 85, 86, 87, 88, 94, 95, 96, 97, 98, 99, 100, 101, 102, 103]
/-- variables' fixed parts stay -/
def VK (V : Nat) (D : FQ) (M : CM) (σ : TS) (M' : CM) (σ' : TS) : Prop := (∀ v, v < V → v < (pl D 98).length → ∀ f, f < 3210 → mR M' f ((pl D 98).getD v 0) = mR M f ((pl D 98).getD v 0)) ∧ ∀ k, k ∈ vkL → ∀ v, tA σ' k v = tA σ k v
/-- a step of building -/
def BTr (V : Nat) (C : PC) (P : Nat → Prop) (K N : Nat) (D : FQ) (M : CM) (σ : TS) (D' : FQ) (M' : CM) (σ' : TS) : Prop := Wz C C P M M' σ σ' ∧ Dx D D' M ∧ NdK D M σ D' M' σ' 106 K N ∧ SgX M M' σ σ' ∧ VK V D M σ M' σ'
/-- a fault while building -/
def FfB (C : PC) (B : Nat) (P : Nat → Prop) (mss fss : List Nat) (M M' : CM) (σ σ' : TS) (w : Nat) : Prop := FfG C B P mss fss M M' σ σ' w ∧ (∃ N', N' ≤ 70000 ∧ tI σ' 126 = nI N') ∧ (∃ E', E' ≤ 120 ∧ tI σ' 143 = nI E') ∧ tI σ' 171 = nI 0
/-- the state -/
def BS (zb : Nat) (z7 : Nat → Nat) (C : PC) (B : Nat) (P : Nat → Prop) (mss fss : List Nat) (V I Bm Lp : Nat) (x3 : Int32) (D : FQ) (M : CM) (σ : TS) (K N E A Wn : Nat) : Prop := FSt 1 105 106 12000 1 z7 C B P mss fss D M σ V I Bm K N Lp 0 x3 ∧ BX zb D M σ V K N E A Wn
/-- an outcome -/
def BO {γ δ β : Type} (zb : Nat) (z7 : Nat → Nat) (C : PC) (B : Nat) (P : Nat → Prop) (mss fss : List Nat) (V I Bm Lp : Nat) (x3 : Int32) (fb : Nat → δ) (D : FQ) (M : CM) (σ : TS) (K N E A Wn : Nat) (kr : Option ((γ ⊕ δ) × CM)) (tr : Option (β × TS)) : Prop :=
  (∃ M' σ' w y, kr = some (.inr (fb w), M') ∧ tr = some (y, σ') ∧ FfB C B P mss fss M M' σ σ' w) ∨
  (∃ D' M' σ' K' N' E' A' Wn' r y, kr = some (.inl r, M') ∧ tr = some (y, σ') ∧ BS zb z7 C B P mss fss V I Bm Lp x3 D' M' σ' K' N' E' A' Wn' ∧ (K ≤ K' ∧ N ≤ N' ∧ E ≤ E' ∧ A ≤ A' ∧ Wn ≤ Wn') ∧ BTr V C P K N D M σ D' M' σ')
section BUILD
variable {zb zb' Lp' : Nat} {x3' : Int32} {C : PC} {D D' D1 D2 : FQ} {M M' M1 M2 M3 M0 : CM} {σ σ' σ1 σ2 σ0 s1 : TS} {mss fss : List Nat} {B V I Bm K N K' N' E A Wn E' A' Wn' v l k x0 dc md X N0 Lp w d s o n i nf L : Nat} {P T : Nat → Prop} {x3 y r : Int32} {z7 : Nat → Nat} {S : List Nat} {γ δ β γ' β' : Type} {fb : Nat → δ}
theorem BTr.rf (h : cnf C ≤ 12) : BTr V C P K N D M σ D M σ := ⟨Wz.rf h, Dx.rf D M, NdK.rf, SgX.rf, fun _ _ _ _ _ => rfl, fun _ _ _ => rfl⟩
theorem BTr.tr (h : BTr V C P K N D M σ D1 M1 σ1) (g : BTr V C P K' N' D1 M1 σ1 D2 M2 σ2) (hK : K ≤ K') (hN : N ≤ N') : BTr V C P K N D M σ D2 M2 σ2 := ⟨h.1.tr g.1 (fun _ z => z), h.2.1.tr g.2.1 h.1.1.1, h.2.2.1.tr g.2.2.1 hK hN, h.2.2.2.1.tr g.2.2.2.1, fun v hv hl f hf => by
  have e := h.2.1.1 98 v hl
  have := g.2.2.2.2.1 v hv e.1 f hf
  rw [e.2] at this
  exact this.trans (h.2.2.2.2.1 v hv hl f hf), fun k hk v => (g.2.2.2.2.2 k hk v).trans (h.2.2.2.2.2 k hk v)⟩
theorem FfB.pre (h : FfB C B P mss fss M1 M' σ1 σ' w) (g : SgX M M1 σ σ1) : FfB C B P mss fss M M' σ σ' w := ⟨h.1.tr g, h.2⟩
theorem FfB.ne (h : FfB C B P mss fss M M' σ σ' w) : tI σ' 0 ≠ 0 := h.1.2.1.2.2.1
/-- the twin goes on -/
theorem FfB.tws (h : FfB C B P mss fss M M' σ σ' w) (f : Ft S σ' σ2) (hS : S.all fgS.contains = true) (hK : itK.all (fun k => !S.contains k) = true) (h0 : S.contains 0 = false ∧ S.contains 1 = false) (h1 : S.contains 126 = false ∧ S.contains 143 = false ∧ S.contains 171 = false) : FfB C B P mss fss M M' σ σ2 w :=
  ⟨h.1.tws f hS hK h0, by rw [(f 126 h1.1).1]; exact h.2.1, by rw [(f 143 h1.2.1).1]; exact h.2.2.1, by rw [(f 171 h1.2.2).1]; exact h.2.2.2⟩
theorem BS.fw (h : BS zb z7 C B P mss fss V I Bm Lp x3 D M σ K N E A Wn) : FW C B P mss fss D M σ := h.1.1
theorem BS.fx (h : BS zb z7 C B P mss fss V I Bm Lp x3 D M σ K N E A Wn) : FlX z7 C P D mss M σ V I Bm := h.1.2.1
theorem BS.hV (h : BS zb z7 C B P mss fss V I Bm Lp x3 D M σ K N E A Wn) : V ≤ (pl D 98).length ∧ V ≤ 96 := ⟨h.fx.1.1.1, h.fx.2.1.1⟩
theorem BS.h0 (h : BS zb z7 C B P mss fss V I Bm Lp x3 D M σ K N E A Wn) : tI σ 0 = 0 := h.1.2.2.2.2.2.2.2
theorem BS.cn (h : BS zb z7 C B P mss fss V I Bm Lp x3 D M σ K N E A Wn) : cnf C ≤ 12 := by
  have := h.fw.1.2.2.2.2.1.2
  omega
/-- a fault of both sides now -/
theorem BS.bad (h : BS zb z7 C B P mss fss V I Bm Lp x3 D M σ K N E A Wn) {x4 : Int32} (hr : x4 ≠ 0) : K_X0_wrong x4 0 M = some (mn M, wM M x4 0) ∧ F_bad x4 0 σ = some ((), badT σ x4) ∧ FfB C B P mss fss M (wM M x4 0) σ (badT σ x4) (mn M) := by
  obtain ⟨b1, b2, b3, -, b4⟩ := h.1.bad hr
  exact ⟨b1, b2, b3, b4, ⟨E, h.2.2.1.1.2.2.1, by rw [(badT_f 143 rfl).1]; exact h.2.2.1.1.2.1⟩, by rw [(badT_f 171 rfl).1]; exact h.2.2.2.2.2.2.2.2.1⟩
/-- what was built stands while other things are written -/
theorem FSt.bwg (h : FSt md x0 l X N0 z7 C B P mss fss D M σ V I Bm K N Lp 0 x3) (hl : l = 106 ∧ x0 = 105) (W' : FW C B P mss fss D' M' σ') (v : Wz C C P M M' σ σ') (F : Fq D T M M') (hT : ∀ t, T t → TW t) (hv9 : ∀ k, k < V → (∀ f, f < 3210 → mI M' f ((pl D 98).getD k 0) = mI M f ((pl D 98).getD k 0)) ∧ ∀ f, f < 3210 → mR M' f ((pl D 98).getD k 0) = mR M f ((pl D 98).getD k 0)) (dx : Dx D D' M) (h1 : (mI M' 15 1 = mI M 15 1 ∧ mI M' 16 1 = mI M 16 1 ∧ mI M' 24 1 = mI M 24 1) ∧ ∀ f, mR M' f 1 = mR M f 1) (hp : pl D' 106 = pl D 106 ∧ pl D' 109 = pl D 109) (f : Ft S σ σ') (hS : bwX.all (fun k => !S.contains k) = true) (hK : itK.all (fun k => !S.contains k) = true) (sg : SgX M M' σ σ') : FSt md x0 l X N0 z7 C B P mss fss D' M' σ' V I Bm K N Lp 0 x3 ∧ BTr V C P K N D M σ D' M' σ' := by
  obtain ⟨rfl, rfl⟩ := hl
  have hf : ∀ k, k ∈ bwX → S.contains k = false := fun k hk => by simpa using List.all_eq_true.mp hS k hk
  have sub : ∀ L : List Nat, (∀ k, k ∈ L → k ∈ bwX) → L.all (fun k => !S.contains k) = true := fun L hL => by
    rw [List.all_eq_true]
    intro k hk
    rw [hf k (hL k hk)]; rfl
  have W := h.1
  have hS2 : (flN ++ itK).all (fun k => !S.contains k) = true := by
    rw [List.all_append, hK, sub flN (by decide)]; rfl
  have FX' := h.2.1.kp W F (fun t z => by
    have z := hT t z
    unfold TW at z
    unfold TV
    unfold tg at *; omega) hv9 v dx f hS2 ⟨h1.1.1, h1.1.2.1⟩
  have nk : NdK D M σ D' M' σ' 106 K N := NdK.ot W (by decide) h.2.2.1.2.1.2.1 F (fun k hk z => by
    have z := hT _ z
    have := h.2.2.1.2.1.2.1
    have := (W.2.1.1 106 (by decide)).2.2
    have e : flX 106 = 12000 := rfl
    unfold TW tg at z; omega) dx f (sub _ (by decide))
  exact ⟨h.mv0 W' FX' v F (fun t z => by
    have z := hT t z
    unfold TW tg at z; omega) h1.1.2.2 (h1.2 27) hp.1 hp.2 f (sub _ (by decide)), v, dx, nk, sg, fun v hv _ g hg => (hv9 v hv).2 g hg, fun k hk v => (f k (hf k (by
    have : ∀ k, k ∈ vkL → k ∈ bwX := by decide
    exact this k hk))).2.2.1 v⟩
theorem FSt.bw (h : FSt md x0 l X N0 z7 C B P mss fss D M σ V I Bm K N Lp 0 x3) (hl : l = 106 ∧ x0 = 105) (W' : FW C B P mss fss D' M' σ') (v : Wz C C P M M' σ σ') (F : Fq D T M M') (hT : ∀ t, T t → TW t) (hv9 : ∀ k, k < V → (∀ f, f < 3210 → mI M' f ((pl D 98).getD k 0) = mI M f ((pl D 98).getD k 0)) ∧ ∀ f, f < 3210 → mR M' f ((pl D 98).getD k 0) = mR M f ((pl D 98).getD k 0)) (dx : Dx D D' M) (h1 : (∀ f, fgW.contains f = false → mI M' f 1 = mI M f 1) ∧ ∀ f, mR M' f 1 = mR M f 1) (hp : pl D' 106 = pl D 106 ∧ pl D' 109 = pl D 109) (f : Ft S σ σ') (hS : bwX.all (fun k => !S.contains k) = true) (hK : itK.all (fun k => !S.contains k) = true) (hG : S.all fgS.contains = true) : FSt md x0 l X N0 z7 C B P mss fss D' M' σ' V I Bm K N Lp 0 x3 ∧ BTr V C P K N D M σ D' M' σ' :=
  h.bwg hl W' v F hT hv9 dx ⟨⟨h1.1 15 rfl, h1.1 16 rfl, h1.1 24 rfl⟩, h1.2⟩ hp f hS hK (SgX.mk1 (fun o h1 h2 => Fz.so F (by have := h.1.n167; omega) (fun z => by
    rw [tgo_s (by omega)] at z
    have z := hT _ z
    unfold TW tg at z; omega)) (fun f hf => h1.1 f (by
      cases e : fgW.contains f with
      | false => rfl
      | true =>
        have : fgW.all fgO.contains = true := by decide
        have := List.all_eq_true.mp this f (by simpa using e)
        rw [hf] at this; cases this)) (f.mono hG))
/-- one step, and on -/
theorem BO.seq {δ' : Type} {fb' : Nat → δ'} {kr : Option ((γ' ⊕ δ') × CM)} {tr : Option (β' × TS)} {hd : δ' → CM → Option ((γ ⊕ δ) × CM)} {kk : γ' → CM → Option ((γ ⊕ δ) × CM)} {tt : β' → TS → Option (β × TS)} (h : BO zb z7 C B P mss fss V I Bm Lp x3 fb' D M σ K N E A Wn kr tr) (hh : ∀ w M, hd (fb' w) M = some (.inr (fb w), M))
    (hbad : ∀ M' σ' w y, FfB C B P mss fss M M' σ σ' w → ∃ y2 σ2, tt y σ' = some (y2, σ2) ∧ FfB C B P mss fss M M' σ σ2 w)
    (hgood : ∀ D' M' σ' K' N' E' A' Wn' r y, BS zb z7 C B P mss fss V I Bm Lp x3 D' M' σ' K' N' E' A' Wn' → (K ≤ K' ∧ N ≤ N' ∧ E ≤ E' ∧ A ≤ A' ∧ Wn ≤ Wn') → BTr V C P K N D M σ D' M' σ' → BO zb' z7 C B P mss fss V I Bm Lp' x3' fb D' M' σ' K' N' E' A' Wn' (kk r M') (tt y σ')) :
    BO zb' z7 C B P mss fss V I Bm Lp' x3' fb D M σ K N E A Wn (obS kr hd kk) (ob tr tt) := by
  rcases h with ⟨M', σ', w, y, b1, b2, b3⟩ | ⟨D', M', σ', K', N', E', A', Wn', r, y, b1, b2, b3, b4, b5⟩
  · obtain ⟨y2, σ2, e2, g⟩ := hbad M' σ' w y b3
    exact Or.inl ⟨M', σ2, w, y2, by rw [b1, obS_inr, hh], by rw [b2, ob_some, e2], g⟩
  · rw [b1, obS_inl, b2, ob_some]
    rcases hgood D' M' σ' K' N' E' A' Wn' r y b3 b4 b5 with ⟨M2, σ2, w, y2, c1, c2, c3⟩ | ⟨D2, M2, σ2, K2, N2, E2, A2, Wn2, r2, y2, c1, c2, c3, c4, c5⟩
    · exact Or.inl ⟨M2, σ2, w, y2, c1, c2, c3.pre b5.2.2.2.1⟩
    · exact Or.inr ⟨D2, M2, σ2, K2, N2, E2, A2, Wn2, r2, y2, c1, c2, c3, by omega, b5.tr c5 b4.1 b4.2.1⟩
/-- nodes made, and on -/
theorem BS.flo {kr : Option ((Nat ⊕ Nat) × CM)} {tr : Option (Int32 × TS)} {kk : Nat → CM → Option ((γ ⊕ δ) × CM)} {tt : Int32 → TS → Option (β × TS)} (h : BS zb z7 C B P mss fss V I Bm Lp x3 D M σ K N E A Wn) (fl : FlO 1 105 106 12000 1 z7 C B P mss fss V I Bm Lp 0 x3 s 100 L D M σ K N kr tr) (hf : FS S σ tr) (hS : S.contains 143 = false ∧ S.contains 171 = false)
    (hbad : ∀ M' σ' w y, FfB C B P mss fss M M' σ σ' w → inb y 70000 → ∃ y2 σ2, tt y σ' = some (y2, σ2) ∧ FfB C B P mss fss M M' σ σ2 w)
    (hgood : ∀ D' M' σ' K' N' a n', BS zb z7 C B P mss fss V I Bm Lp x3 D' M' σ' K' N' E A Wn → (K ≤ K' ∧ N ≤ N') → BTr V C P K N D M σ D' M' σ' → FTr 105 C P 106 K N 0 D M σ D' M' σ' → NdR x3 D' M' σ' 106 V 100 s K' N' a n' → (∃ z, SzR σ' N' 100 n' z ∧ z + L ≤ n' + 1) → BO zb' z7 C B P mss fss V I Bm Lp' x3' fb D' M' σ' K' N' E A Wn (kk a M') (tt (nI n') σ')) :
    BO zb' z7 C B P mss fss V I Bm Lp' x3' fb D M σ K N E A Wn (obS kr (fun w M => some (.inr (fb w), M)) kk) (ob tr tt) := by
  rcases fl with ⟨M', σ', w, y, b1, b2, b3, b4, b5⟩ | ⟨D', M', σ', K', N', a, n', b1, b2, b3, ⟨b4, b5⟩, b6, b7, b8⟩
  · have f := hf _ _ b2
    have g : FfB C B P mss fss M M' σ σ' w := ⟨b3, b5, ⟨E, h.2.2.1.1.2.2.1, by rw [(f 143 hS.1).1]; exact h.2.2.1.1.2.1⟩, by rw [(f 171 hS.2).1]; exact h.2.2.2.2.2.2.2.2.1⟩
    obtain ⟨y2, σ2, e2, g⟩ := hbad M' σ' w y g b4
    exact Or.inl ⟨M', σ2, w, y2, by rw [b1]; exact obS_inr _ _ _ _, by rw [b2, ob_some, e2], g⟩
  · have T := b6
    obtain ⟨t1, t2, t3, t4, t5, t6, ⟨t7, t8, t9⟩, t10⟩ := b6
    have bx := h.2.mv h.fw h.hV t3 b4 b5 t9 (fun t z => TB.bt (Or.inl ⟨rfl, rfl, rfl, rfl⟩) z) t2 (fun f _ => t7 f) t5 (by decide)
    have bt : BTr V C P K N D M σ D' M' σ' := ⟨t1, t2, t3, t4, fun v hv hl g hg => (h.fw.2.1.so3 (by decide) hl t9 (fun z => TB.bt (Or.inl ⟨rfl, rfl, rfl, rfl⟩) z (by
      have := (h.fw.2.1.1 98 (by decide)).2.2
      have e : flX 98 = 96 := rfl
      unfold BT tg; omega))).r g, fun k hk v => (t5 k (by
      have : ∀ k, k ∈ vkL → fbL.contains k = false := by decide
      exact this k hk)).2.2.1 v⟩
    rw [b1, obS_inl, b2, ob_some]
    rcases hgood D' M' σ' K' N' a n' ⟨b3, bx⟩ ⟨b4, b5⟩ bt T b7 b8 with ⟨M2, σ2, w, y2, c1, c2, c3⟩ | ⟨D2, M2, σ2, K2, N2, E2, A2, Wn2, r2, y2, c1, c2, c3, c4, c5⟩
    · exact Or.inl ⟨M2, σ2, w, y2, c1, c2, c3.pre t4⟩
    · exact Or.inr ⟨D2, M2, σ2, K2, N2, E2, A2, Wn2, r2, y2, c1, c2, c3, by omega, bt.tr c5 b4 b5⟩
/-- an expression, and on -/
theorem BS.fl {kk : Nat → CM → Option ((γ ⊕ δ) × CM)} {tt : Int32 → TS → Option (β × TS)} (hB1 : B ≤ 1280) (hi : i < I) (h : BS zb z7 C B P mss fss V I Bm Lp x3 D M σ K N E A Wn) (hnf : nf ≤ cnf C) (Ar : AR P (tN σ) (tQ σ) (cm C) 0 nf (cfn C) M σ d s o n)
    (hbad : ∀ M' σ' w y, FfB C B P mss fss M M' σ σ' w → inb y 70000 → ∃ y2 σ2, tt y σ' = some (y2, σ2) ∧ FfB C B P mss fss M M' σ σ2 w)
    (hgood : ∀ D' M' σ' K' N' a n', BS zb z7 C B P mss fss V I Bm Lp x3 D' M' σ' K' N' E A Wn → (K ≤ K' ∧ N ≤ N') → BTr V C P K N D M σ D' M' σ' → FTr 105 C P 106 K N 0 D M σ D' M' σ' → NdR x3 D' M' σ' 106 V 100 s K' N' a n' → (∃ z, SzR σ' N' 100 n' z ∧ z + N ≤ n' + 1) → BO zb' z7 C B P mss fss V I Bm Lp' x3' fb D' M' σ' K' N' E A Wn (kk a M') (tt (nI n') σ')) :
    BO zb' z7 C B P mss fss V I Bm Lp' x3' fb D M σ K N E A Wn (obS (K_X0_flatten_2 o ((pl D 99).getD i 0) x3 (-1) M) (fun w M => some (.inr (fb w), M)) kk) (ob (F_build (nI n) (nI i) 0 1 σ) tt) :=
  h.flo (z_flatten hB1 hi h.1 hnf Ar) (fS_F_build _ _ _ _ _) ⟨rfl, rfl⟩ hbad hgood
/-- a step ahead -/
theorem BO.pre {kr : Option ((γ ⊕ δ) × CM)} {tr : Option (β × TS)} (bt : BTr V C P K N D M σ D1 M1 σ1) (le : K ≤ K' ∧ N ≤ N' ∧ E ≤ E' ∧ A ≤ A' ∧ Wn ≤ Wn') (h : BO zb z7 C B P mss fss V I Bm Lp x3 fb D1 M1 σ1 K' N' E' A' Wn' kr tr) : BO zb z7 C B P mss fss V I Bm Lp x3 fb D M σ K N E A Wn kr tr := by
  rcases h with ⟨M2, σ2, w, y2, c1, c2, c3⟩ | ⟨D2, M2, σ2, K2, N2, E2, A2, Wn2, r2, y2, c1, c2, c3, c4, c5⟩
  · exact Or.inl ⟨M2, σ2, w, y2, c1, c2, c3.pre bt.2.2.2.1⟩
  · exact Or.inr ⟨D2, M2, σ2, K2, N2, E2, A2, Wn2, r2, y2, c1, c2, c3, by omega, bt.tr c5 le.1 le.2.1⟩
end BUILD
