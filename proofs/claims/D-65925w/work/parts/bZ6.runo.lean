/-! Layer B: running: outcomes of steps -/
set_option maxRecDepth 100000
/-- n objects of faults are made, between steps that write fields -/
def RB (D : FQ) (I A : List Nat) : Nat → CM → CM → Prop
  | 0, M, M' => KF D I [] A [] M M'
  | n + 1, M, M' => ∃ M1 r p, RB D I A n M M1 ∧ KF D I [] A [] (wM M1 r p) M'
/-- a fault of both sides (pq: with the same place) -/
def FoR (pq : Bool) (I A T : List Nat) (nb V : Nat) (D : FQ) (M : CM) (σ : TS) (M' : CM) (σ' : TS) (w : Nat) : Prop := ∃ n r, (n ≤ nb ∧ RB D I A n M M') ∧ (w < mn M' ∧ mk M' w = 7 ∧ mI M' 1200 w = r) ∧ r ≠ 0 ∧ (tI σ' 0 = r ∧ (pq = true → mI M' 1201 w = tI σ' 1)) ∧ Ft T σ σ' ∧ (tI σ' 171 = nI 0 ∧ mI M' 90 1 = tI σ' 222) ∧ PaK V D σ M M'
/-- a step -/
def RsK (I A T : List Nat) (V : Nat) (D : FQ) (M : CM) (σ : TS) (M' : CM) (σ' : TS) : Prop := KF D I [] A [] M M' ∧ Ft T σ σ' ∧ PaK V D σ M M'
def RsO {α β : Type} (pq : Bool) (fb : Nat → α) (I A T : List Nat) (nb V : Nat) (D : FQ) (M : CM) (σ : TS) (Q : α → β → CM → TS → Prop) (kr : Option (α × CM)) (tk : Option (β × TS)) : Prop := (∃ M' σ' w y, kr = some (fb w, M') ∧ tk = some (y, σ') ∧ FoR pq I A T nb V D M σ M' σ' w) ∨ ∃ a b M' σ', kr = some (a, M') ∧ tk = some (b, σ') ∧ RsK I A T V D M σ M' σ' ∧ Q a b M' σ'
/-- the twin after a fault: little is written -/
def TbO {β : Type} (T : List Nat) (s : TS) (tk : Option (β × TS)) : Prop := ∃ y s', tk = some (y, s') ∧ Ft T s s' ∧ tI s' 0 = tI s 0 ∧ tI s' 1 = tI s 1 ∧ tI s' 171 = tI s 171 ∧ tI s' 222 = tI s 222
section RUNO
variable {α β γ δ : Type} {pq : Bool} {fb : Nat → α} {fc : Nat → γ} {I A T I' A' T' : List Nat} {nb nb' V n w v : Nat} {D : FQ} {M M' M1 M2 : CM} {σ σ' σ1 s : TS} {Q : α → β → CM → TS → Prop} {Q' : γ → δ → CM → TS → Prop} {kr : Option (α × CM)} {tk : Option (β × TS)} {r p : Int32}
theorem PaK.rf : PaK V D σ M M := fun _ _ _ => rfl
theorem PaK.tr (h : PaK V D σ M M1) (g : PaK V D σ1 M1 M2) (e : ∀ v, tA σ1 94 v = tA σ 94 v) : PaK V D σ M M2 := fun v hv z => (g v hv ((e v).trans z)).trans (h v hv z)
theorem PaK.of (k : KF D I [] A [] M M') (h : I.contains 3213 = false) : PaK V D σ M M' := fun v _ _ => k.i h _
theorem RB.mono (hI : I.all I'.contains = true) (hA : A.all A'.contains = true) : ∀ n M M', RB D I A n M M' → RB D I' A' n M M'
  | 0, _, _, h => KF.mono h hI rfl hA rfl
  | n + 1, _, _, ⟨M1, r, p, h1, h2⟩ => ⟨M1, r, p, RB.mono hI hA n _ _ h1, KF.mono h2 hI rfl hA rfl⟩
theorem RB.pre (k : KF D I [] A [] M M1) : ∀ n M2, RB D I A n M1 M2 → RB D I A n M M2
  | 0, _, h => KF.tr k h
  | n + 1, _, ⟨M3, r, p, h1, h2⟩ => ⟨M3, r, p, RB.pre k n _ h1, h2⟩
theorem RB.kf (k : KF D I [] A [] M1 M2) : ∀ n, RB D I A n M M1 → RB D I A n M M2
  | 0, h => KF.tr h k
  | n + 1, ⟨M3, r, p, h1, h2⟩ => ⟨M3, r, p, h1, KF.tr h2 k⟩
theorem FoR.pre (g : RsK I A T V D M σ M1 σ1) (hT : T.contains 94 = false) (h : FoR pq I A T nb V D M1 σ1 M' σ' w) : FoR pq I A T nb V D M σ M' σ' w := by
  obtain ⟨n, r, ⟨h1, h2⟩, h3, h4, h5, h6, h7, h8⟩ := h
  exact ⟨n, r, ⟨h1, RB.pre g.1 n _ h2⟩, h3, h4, h5, g.2.1.tr h6, h7, g.2.2.tr h8 (fun v => (g.2.1 94 hT).2.2.1 v)⟩
theorem RsK.tr (g : RsK I A T V D M σ M1 σ1) (h : RsK I A T V D M1 σ1 M2 s) (hT : T.contains 94 = false) : RsK I A T V D M σ M2 s := ⟨g.1.tr h.1, g.2.1.tr h.2.1, g.2.2.tr h.2.2 (fun v => (g.2.1 94 hT).2.2.1 v)⟩
theorem RsK.rf : RsK I A T V D M σ M σ := ⟨KF.rf, Ft.rf _ _, PaK.rf⟩
theorem RsK.mono (h : RsK I A T V D M σ M' σ') (hI : I.all I'.contains = true) (hA : A.all A'.contains = true) (hT : T.all T'.contains = true) : RsK I' A' T' V D M σ M' σ' := ⟨h.1.mono hI rfl hA rfl, h.2.1.mono hT, h.2.2⟩
theorem FoR.mono (h : FoR pq I A T nb V D M σ M' σ' w) (hI : I.all I'.contains = true) (hA : A.all A'.contains = true) (hT : T.all T'.contains = true) (hn : nb ≤ nb') : FoR pq I' A' T' nb' V D M σ M' σ' w := by
  obtain ⟨n, r, ⟨h1, h2⟩, h3, h4, h5, h6, h7, h8⟩ := h
  exact ⟨n, r, ⟨by omega, RB.mono hI hA n _ _ h2⟩, h3, h4, h5, h6.mono hT, h7, h8⟩
/-- the twin goes on a little -/
theorem FoR.tb (h : FoR pq I A T nb V D M σ M' σ' w) (f : Ft T σ' s) (e : tI s 0 = tI σ' 0 ∧ tI s 1 = tI σ' 1 ∧ tI s 171 = tI σ' 171 ∧ tI s 222 = tI σ' 222) : FoR pq I A T nb V D M σ M' s w := by
  obtain ⟨n, r, h1, h3, h4, ⟨h5, h5'⟩, h6, ⟨h7, h7'⟩, h8⟩ := h
  exact ⟨n, r, h1, h3, h4, ⟨e.1.trans h5, fun z => (h5' z).trans e.2.1.symm⟩, h6.tr f, ⟨e.2.2.1.trans h7, h7'.trans e.2.2.2.symm⟩, h8⟩
theorem FoR.ne (h : FoR pq I A T nb V D M σ M' σ' w) : tI σ' 0 ≠ 0 := by
  obtain ⟨n, r, -, -, h4, ⟨h5, -⟩, -⟩ := h
  rw [h5]; exact h4
theorem FoR.wk (h : FoR pq I A T nb V D M σ M' σ' w) : FoR false I A T nb V D M σ M' σ' w := by
  obtain ⟨n, r, h1, h3, h4, ⟨h5, h5'⟩, h6⟩ := h
  exact ⟨n, r, h1, h3, h4, ⟨h5, fun z => by cases z⟩, h6⟩
theorem RsO.pre (g : RsK I A T V D M σ M1 σ1) (hT : T.contains 94 = false) (h : RsO pq fb I A T nb V D M1 σ1 Q kr tk) : RsO pq fb I A T nb V D M σ Q kr tk := by
  rcases h with ⟨M', σ', w, y, e1, e2, e3⟩ | ⟨a, b, M', σ', e1, e2, e3, e4⟩
  · exact Or.inl ⟨M', σ', w, y, e1, e2, e3.pre g hT⟩
  · exact Or.inr ⟨a, b, M', σ', e1, e2, g.tr e3 hT, e4⟩
theorem RsO.mono (h : RsO pq fb I A T nb V D M σ Q kr tk) (hI : I.all I'.contains = true) (hA : A.all A'.contains = true) (hT : T.all T'.contains = true) (hn : nb ≤ nb') : RsO pq fb I' A' T' nb' V D M σ Q kr tk := by
  rcases h with ⟨M', σ', w, y, e1, e2, e3⟩ | ⟨a, b, M', σ', e1, e2, e3, e4⟩
  · exact Or.inl ⟨M', σ', w, y, e1, e2, e3.mono hI hA hT hn⟩
  · exact Or.inr ⟨a, b, M', σ', e1, e2, e3.mono hI hA hT, e4⟩
theorem RsO.im {Q2 : α → β → CM → TS → Prop} (h : RsO pq fb I A T nb V D M σ Q kr tk) (g : ∀ a b M' σ', RsK I A T V D M σ M' σ' → Q a b M' σ' → Q2 a b M' σ') : RsO pq fb I A T nb V D M σ Q2 kr tk := h.imp id (fun ⟨a, b, M', σ', e1, e2, e3, e4⟩ => ⟨a, b, M', σ', e1, e2, e3, g a b M' σ' e3 e4⟩)
/-- one step, then the rest: K gives a fault on at once (kf), the twin goes on (kt) -/
theorem RsO.seq {kf : Option (γ × CM)} {tf : Option (δ × TS)} (hT : T.contains 94 = false) (h : RsO pq fb I A T nb V D M σ Q kr tk)
    (h1 : ∀ w M' σ' y, kr = some (fb w, M') → tk = some (y, σ') → FoR pq I A T nb V D M σ M' σ' w → kf = some (fc w, M') ∧ ∃ y2 s', tf = some (y2, s') ∧ Ft T σ' s' ∧ tI s' 0 = tI σ' 0 ∧ tI s' 1 = tI σ' 1 ∧ tI s' 171 = tI σ' 171 ∧ tI s' 222 = tI σ' 222)
    (h2 : ∀ a b M' σ', kr = some (a, M') → tk = some (b, σ') → RsK I A T V D M σ M' σ' → Q a b M' σ' → RsO pq fc I A T nb V D M' σ' Q' kf tf) : RsO pq fc I A T nb V D M σ Q' kf tf := by
  rcases h with ⟨M', σ', w, y, e1, e2, e3⟩ | ⟨a, b, M', σ', e1, e2, e3, e4⟩
  · obtain ⟨g1, y2, s', g2, g3, g4⟩ := h1 w M' σ' y e1 e2 e3
    exact Or.inl ⟨M', s', w, y2, g1, g2, e3.tb g3 g4⟩
  · exact RsO.pre e3 hT (h2 a b M' σ' e1 e2 e3 e4)
/-- a value's fault, at step level -/
theorem NvO.fo {R : α → β → Prop} {k2 : Option ((α ⊕ Nat) × CM)} {t2 : Option (β × TS)} (h : NvO M σ R k2 t2) (hT : [0, 1, 170, 171].all T.contains = true) (h171 : mI M 90 1 = tI σ 222) (hn : 167 ≤ mn M) (h94 : ∀ v, v < V → (pl D 98).getD v 0 < mn M) : RsO pq (fun w => (.inr w : α ⊕ Nat)) I A T 1 V D M σ (fun a b M' σ' => M' = M ∧ Ft [170, 171] σ σ' ∧ tI σ' 171 = nI 0 ∧ ∃ v, a = .inl v ∧ R v b) k2 t2 := by
  rcases h with ⟨r, y, σ', h1, h2, h3, ⟨h4, h5, h6⟩, h7⟩ | ⟨v, w, σ', h0, h1, h2, h3, h4⟩
  · refine Or.inl ⟨_, σ', _, y, h2, h3, 1, r, ⟨Nat.le_refl _, M, r, 0, KF.rf, KF.rf⟩, ⟨Nat.lt_succ_self _, wM_k M r 0, (wM_v M r 0).1⟩, h1, ⟨h4, fun _ => (wM_v M r 0).2.trans h5.symm⟩, h7.mono hT, ⟨h6, ?_⟩, fun v hv z => ?_⟩
    · rw [(h7 222 rfl).1, ← h171]
      exact ((wM_f M r 0).so (by omega) (fun q => q)).i 90
    · exact ((wM_f M r 0).so (h94 v hv) (fun q => q)).i 3213
  · exact Or.inr ⟨.inl v, w, M, σ', h1, h2, ⟨KF.rf, h4.mono (by
      rw [List.all_eq_true] at hT ⊢
      intro x hx
      exact hT x (by simp only [List.mem_cons, List.not_mem_nil, or_false] at hx ⊢; omega)), PaK.rf⟩, rfl, h4, h3, v, rfl, h0⟩
end RUNO
