/-! Layer B: the flat model: a state in which instances are made -/
set_option maxRecDepth 100000
/-- what the twin writes there -/
abbrev fiS : List Nat := [0, 1, 74, 75, 76, 77, 78, 79, 82, 83, 84, 85, 86, 87, 88, 89, 90, 91, 92, 93, 94, 95, 96, 97, 98, 99, 100, 101, 102, 103, 107, 112, 113, 114, 132]
/-- an outer member -/
def outT (σ : TS) (b : Nat) : Prop := ∃ e, (tA σ 84 b = nI e ∧ e < 480) ∧ ¬ tA σ 52 e &&& 16 = 0
/-- V variables, I instances, Bm members (cr more may come in the visits that are under way), R rows, E entries of the twin; os: the outer members -/
def FiS (C : PC) (B : Nat) (P : Nat → Prop) (mss fss : List Nat) (D : FQ) (M : CM) (σ : TS) (V I Bm cr R E : Nat) : Prop := FW C B P mss fss D M σ ∧ FIn C P D mss M σ V I Bm ∧ ((mI M 15 1 = nI V ∧ tI σ 107 = nI V ∧ V ≤ 96) ∧ (mI M 16 1 = nI I ∧ tI σ 82 = nI I ∧ I ≤ 200) ∧ mI M 17 1 = nI Bm ∧ tI σ 89 = nI Bm) ∧ (∃ g, mI M 31 1 = nI g ∧ tI σ 132 = nI g ∧ g ≤ 1000 ∧ Bm + cr ≤ 20 * g) ∧ (mI M 18 1 = nI R ∧ R ≤ (pl D 101).length) ∧ (tI σ 93 = nI E ∧ tI σ 0 = 0) ∧ ∃ os : List Nat, Ls M 102 (os.map fun b => (pl D 100).getD b 0) ∧ pl D 102 = (os.map fun b => (pl D 100).getD b 0) ∧ os.Pairwise (· < ·) ∧ ∀ b, b ∈ os → b < Bm ∧ outT σ b
/-- row r stays, but whether it was hit -/
def RwS (D : FQ) (M : CM) (D' : FQ) (M' : CM) (r : Nat) : Prop := (pl D' 101).getD r 0 = (pl D 101).getD r 0 ∧ mR M' 2800 ((pl D 101).getD r 0) = mR M 2800 ((pl D 101).getD r 0) ∧ mI M' 2801 ((pl D 101).getD r 0) = mI M 2801 ((pl D 101).getD r 0) ∧ mR M' 2802 ((pl D 101).getD r 0) = mR M 2802 ((pl D 101).getD r 0)
/-- whether a row was hit -/
def hit (D : FQ) (M : CM) (r : Nat) : Int32 := mI M 2803 ((pl D 101).getD r 0)
/-- nothing else but the count of rows at object 1 -/
def FqO (D : FQ) (T : Nat → Prop) (M M' : CM) : Prop := Fq D T M M' ∧ O1 [18] M M'
section FIS
variable {C C' : PC} {D D' D2 : FQ} {M M' M2 : CM} {σ σ' σ2 : TS} {mss fss xs bs qs os : List Nat} {B l k n o m u w Q I I' L V V' Bm Bm' b v r R E cr : Nat} {P P' X T : Nat → Prop} {S S' : List Nat} {a : Nat × Nat × Nat}
theorem outT.mv {b : Nat} (h : outT σ b) (h84 : tA σ' 84 b = tA σ 84 b) (h52 : ∀ e, tA σ' 52 e = tA σ 52 e) : outT σ' b := by
  obtain ⟨e, h1, h2⟩ := h
  exact ⟨e, ⟨h84.trans h1.1, h1.2⟩, by rw [h52]; exact h2⟩
theorem RwS.rf : RwS D M D M r := ⟨rfl, rfl, rfl, rfl⟩
theorem RwS.tr (h : RwS D M D' M' r) (g : RwS D' M' D2 M2 r) : RwS D M D2 M2 r := by
  obtain ⟨h1, h2, h3, h4⟩ := h
  obtain ⟨g1, g2, g3, g4⟩ := g
  rw [h1] at g1 g2 g3 g4
  exact ⟨g1, g2.trans h2, g3.trans h3, g4.trans h4⟩
theorem RwS.so (h : r < (pl D 101).length) (hx : Dx D D' M) (s : So M M' ((pl D 101).getD r 0)) : RwS D M D' M' r ∧ hit D' M' r = hit D M r := by
  have e := (hx.1 101 r h).2
  exact ⟨⟨e, s.r _, s.i _, s.r _⟩, by unfold hit; rw [e]; exact s.i _⟩
theorem pth_ft {S : List Nat} (f : Ft S σ σ') (h1 : S.contains 59 = false) (h2 : S.contains 33 = false) (k : Nat) : ∀ u, pth σ' k u = pth σ k u
  | 0 => (f 59 h1).2.2.1 k
  | u + 1 => by
    show tA σ' 33 (ix (pth σ' k u)) = tA σ 33 (ix (pth σ k u))
    rw [pth_ft f h1 h2 k u, (f 33 h2).2.2.1]
theorem Ld_ft (f : Ft fiS σ σ') (x : Int64) : Ld σ' a x ↔ Ld σ a x := by
  unfold Ld
  rw [(f 62 rfl).2.2.1, (f 63 rfl).2.2.2, pth_ft f rfl rfl, (f 29 rfl).2.2.2]
theorem EvR.mv {j : Nat} (h : EvR σ j a) (f : Ft fiS σ σ') (hj : tA σ' 90 j = tA σ 90 j ∧ tA σ' 91 j = tA σ 91 j ∧ tA σ' 92 j = tA σ 92 j) : EvR σ' j a := by
  unfold EvR
  rw [hj.1, hj.2.1, hj.2.2, (f 62 rfl).2.2.1, pth_ft f rfl rfl]
  exact h
theorem EnOK.mv (h : EnOK C P M σ I m a) (v : Wz C C P M M' σ σ') (hI : I ≤ I') (f : Ft fiS σ σ') : EnOK C P M' σ' I' m a := by
  obtain ⟨h1, h2, h3, h4, xs, h5, h6⟩ := h
  have hp := h1
  obtain ⟨⟨p1, km⟩, hm⟩ := hp
  have s := v.2.1.1 _ p1
  have hl : ∃ ys, LsP P M (mR M 2200 m) ys := by
    rcases hm with ⟨_, _, b, _, _, q, _⟩ | ⟨_, _, bs, _, _, _, q, _⟩
    · exact ⟨_, q⟩
    · exact ⟨_, q⟩
  obtain ⟨ys, y⟩ := hl
  have e := h5.uq y.1
  rw [e] at h5 h6
  refine ⟨h1.wz v (fun _ z => z) h2.2, ⟨h2.1, by have := v.2.2.2.1.2.2.1.1; omega⟩, by omega, by rw [(f 62 rfl).2.2.1]; exact h4, ys, ?_, h6⟩
  rw [s.r]
  exact (y.wz v (fun _ z => z)).1
theorem RoR.mv (h : RoR C P D M σ I r a) (v : Wz C C P M M' σ σ') (hx : Dx D D' M) (hr : RwS D M D' M' r) (hI : I ≤ (pl D 99).length ∧ I ≤ I') (f : Ft fiS σ σ') : RoR C P D' M' σ' I' r a := by
  obtain ⟨m, ⟨e1, e2, e3⟩, hm⟩ := h
  obtain ⟨r1, r2, r3, r4⟩ := hr
  have hi := hm.2.2.1
  unfold RoR
  rw [r1, r2, r3, r4]
  exact ⟨m, ⟨e1, e2, by rw [(hx.1 99 _ (by omega)).2]; exact e3⟩, hm.mv v hI.2 f⟩
theorem FiS.r18 (F : FiS C B P mss fss D M σ V I Bm cr R E) : mI M 18 1 = nI R ∧ R ≤ (pl D 101).length := F.2.2.2.2.1
theorem FiS.g0 (F : FiS C B P mss fss D M σ V I Bm cr R E) : tI σ 0 = 0 := F.2.2.2.2.2.1.2
theorem FiS.kr (F : FiS C B P mss fss D M σ V I Bm cr R E) (hr : r < R) : mk M ((pl D 101).getD r 0) = 15 := by
  have h := F.r18.2
  exact (F.1.2.1.2.1 101 (by decide) r (by omega)).1
theorem FiS.wn (F : FiS C B P mss fss D M σ V I Bm cr R E) (hB : B ≤ 1280) : (∃ L, WN M (cm C) L) ∧ cm C ≤ 1280 ∧ tQ σ ≤ 7000 := by
  obtain ⟨⟨K0, hW, -⟩, ⟨-, -, -, c4⟩, -, -, -, -, -, -, -, -, Q, q1, q2, q3⟩ := F.1.1
  exact ⟨hW, by omega, by unfold tQ; rw [q1, ix_nI (by omega)]; omega⟩
theorem FqO.rf : FqO D T M M := ⟨Fq.rf, O1.rf _ _⟩
theorem FqO.tr (h : FqO D T M M') (g : FqO D' T M' M2) (hx : Dx D D' M) : FqO D T M M2 := ⟨h.1.tr g.1 hx, h.2.tr g.2⟩
theorem FqO.mono {T' : Nat → Prop} (h : FqO D T M M') (hT : ∀ t, T t → T' t) : FqO D T' M M' := ⟨h.1.mono hT, h.2⟩
/-- one more row -/
theorem FiS.row (F : FiS C B P mss fss D M σ V I Bm cr R E) (hR : R < 33300) (m i : Nat) (u : Int32) : ∃ D' M', K_X0_newRow m u i M = some ((pl D' 101).getD R 0, M') ∧ FiS C B P mss fss D' M' σ V I Bm cr (R + 1) E ∧ Wz C C P M M' σ σ ∧ Dx D D' M ∧ (∀ r, r < R → RwS D M D' M' r ∧ hit D' M' r = hit D M r) ∧ (mR M' 2800 ((pl D' 101).getD R 0) = m ∧ mI M' 2801 ((pl D' 101).getD R 0) = u ∧ mR M' 2802 ((pl D' 101).getD R 0) = i ∧ hit D' M' R = 0) ∧ FqO D (fun t => t = 1 ∨ t = 101 ∨ t = tg 101 R) M M' := by
  have W := F.1
  have h167 := W.n167
  obtain ⟨r1, r2⟩ := F.r18
  obtain ⟨D', M', k1, k2, k3, k4, k5, k6, k7, k8, k9, k10⟩ := k_newRow W.2.1 h167 r1 r2 hR W.rN W.rS m i u
  have hm := W.rm
  have fq : Fq D (fun t => t = 1 ∨ t = 101 ∨ t = tg 101 R) M M' := k6.mono (fun o ho z => by
    rcases z with z | z | z | z
    · rw [z, tgo_s (by decide)]; exact Or.inl rfl
    · rw [z, tgo_s (by decide)]; exact Or.inr (Or.inl rfl)
    · exact Or.inr (Or.inl ((W.2.1.1 101 (by decide)).2.1.tg (by omega) ho z))
    · refine Or.inr (Or.inr ?_)
      have t := k2.tv (l := 101) (by decide) k3
      rw [← z, tgo_x k4 ho] at t
      exact t)
  have tF : ∀ t, (t = 1 ∨ t = 101 ∨ t = tg 101 R) → TFf t := fun t z => by unfold TFf tg at *; omega
  obtain ⟨W', v⟩ := W.mv (fq.mono tF) k7 (by decide) k2 k4 k10 (Ft.rf [] σ) (by decide)
  have N := F.2.1.kp (T := fun t => t = 1 ∨ t = 101 ∨ t = tg 101 R) W.2.1 fq (fun t z => by
    have l := F.2.1.1
    have mx : ∀ l, l ∈ flL → flX l ≤ 40000 := by decide
    have l98 := (W.2.1.1 98 (by decide)).2.2
    have l99 := (W.2.1.1 99 (by decide)).2.2
    have l100 := (W.2.1.1 100 (by decide)).2.2
    have e98 : flX 98 = 96 := rfl
    have e99 : flX 99 = 200 := rfl
    have e100 : flX 100 = 20000 := rfl
    refine ⟨fun v hv => ?_, fun n hn => ?_, fun b hb => ?_⟩ <;> unfold tg at * <;> omega) v k4 Tk.rf
  obtain ⟨-, -, ⟨⟨a1, a2, a3⟩, ⟨a4, a5, a6⟩, a7, a8⟩, ⟨g, g1, g2, g3, g4⟩, -, ⟨e1, e2⟩, os, o1, o2, o3, o4⟩ := F
  have l100 := N.1.2.2
  have mp : (os.map fun b => (pl D' 100).getD b 0) = os.map fun b => (pl D 100).getD b 0 := List.map_congr_left (fun b hb => by rw [k5 100 (by decide)])
  have L102 : pl D' 102 = pl D 102 := k5 102 (by decide)
  refine ⟨D', M', k1, ⟨W', N, ⟨⟨by rw [k7.1 15 rfl]; exact a1, a2, a3⟩, ⟨by rw [k7.1 16 rfl]; exact a4, a5, a6⟩, by rw [k7.1 17 rfl]; exact a7, a8⟩, ⟨g, by rw [k7.1 31 rfl]; exact g1, g2, g3, g4⟩, ⟨k8, by omega⟩, ⟨e1, e2⟩, os, ?_, ?_, o3, o4⟩, v, k4, fun r hr => ?_, ⟨k9.1, k9.2.1, k9.2.2.1, k9.2.2.2⟩, fq, k7⟩
  · rw [mp, ← o2, ← L102]
    exact (W'.2.1.1 102 (by decide)).1
  · rw [mp, L102]; exact o2
  · refine RwS.so (by omega) k4 (W.2.1.so3 (by decide) (by omega) fq (fun z => ?_))
    have l101 := (W.2.1.1 101 (by decide)).2.2
    have e101 : flX 101 = 33300 := rfl
    unfold tg at z; omega
end FIS
