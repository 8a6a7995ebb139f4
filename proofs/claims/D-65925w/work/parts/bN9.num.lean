/-! Layer B: the flat model: relations are numbered, both sides as lists -/
set_option maxRecDepth 100000
/-- one more relation: the component -/
def kAs (D : FQ) (k : Nat) (M : CM) : CM := msI (mwX (msI M 3403 ((pl D 106).getD k 0) (mI M 41 1)) 114 (ix (mI M 41 1)) ((pl D 106).getD k 0)) 41 1 (mI M 41 1 + 1)
def kNum (D : FQ) : List Nat → CM → Option ((Unit ⊕ Nat) × CM)
  | [], M => some (.inl (), M)
  | k :: L, M => if mI M 41 1 = 24 then ob (K_X0_wrong 24 0 M) (fun r M' => if mk M' r = 7 then some (.inr r, M') else none) else if inb (mI M 41 1) 24 then kNum D L (kAs D k M) else none
/-- one more: the twin -/
def tAs (k : Nat) (s : TS) : TS := tsI (tsA (tsA s 162 (k + 1) (tI s 154)) 153 (ix (tI s 154)) (nI (k + 1))) 154 (tI s 154 + 1)
def bdT (s : TS) : TS := if tI s 0 = 0 then badT s 24 else s
def tNum : List Nat → TS → TS
  | [], s => s
  | k :: L, s => tNum L (if tI s 154 = 24 then bdT s else tAs k s)
def NuM (M M1 : CM) : Prop := (∀ o, mk M1 o = mk M o) ∧ (∀ o, mI M1 3400 o = mI M 3400 o) ∧ ∀ f o, mR M1 f o = mR M f o
def NuT (σ s : TS) : Prop := Ft [0, 1, 139, 140, 153, 154, 162] σ s ∧ ∃ q, q ≤ 24 ∧ tI s 154 = nI q
/-- what hangs on a node -/
def Rc (M : CM) : Nat → Nat → Nat → Prop
  | 0, _, _ => False
  | h + 1, a, b => b = a ∨ (mR M 3405 a ≠ 0 ∧ Rc M h (mR M 3405 a) b) ∨ (mR M 3406 a ≠ 0 ∧ Rc M h (mR M 3406 a) b) ∨ (mR M 3407 a ≠ 0 ∧ Rc M h (mR M 3407 a) b)
def RlO (x : Int32) : Prop := x = 20 ∨ x = 21 ∨ x = 22 ∨ x = 23 ∨ x = 24 ∨ x = 25 ∨ x = 29
section NUMBER
variable {zb zb' : Nat} {fx : Int32} {C : PC} {D D' D1 D2 : FQ} {M M' M1 M2 M3 M0 : CM} {σ σ' σ1 σ2 σ0 s1 s2 s8 s : TS} {mss fss : List Nat} {B V I Bm K N K' N' E A Wn E' A' A0 Wn' v l k x0 dc md X N0 Lp Lp' w d i nf R a f h h1 h2 eq n p q : Nat} {os L L1 L2 : List Nat} {P T Y : Nat → Prop} {x x2 x3 x3' x4 y r kd : Int32} {z7 : Nat → Nat} {S : List Nat}
theorem NuM.as (h : NuM M M1) : NuM M (kAs D k M1) := ⟨fun o => h.1 o, fun o => by unfold kAs; rw [mI_msI, ifF (by omega)]; show mI (msI M1 3403 ((pl D 106).getD k 0) (mI M1 41 1)) 3400 o = _; rw [mI_msI, ifF (by omega)]; exact h.2.1 o, fun f o => h.2.2 f o⟩
theorem kNum_seq {β : Type} {g : Unit → CM → Option ((β ⊕ Nat) × CM)} {g' : Unit → CM → Option ((β ⊕ Nat) × CM)} (hg : ∀ M2, NuM M M2 → g () M2 = g' () M2) : ∀ (L : List Nat) (M1 : CM), NuM M M1 → obS (kNum D L M1) (fun w M => some (.inr w, M)) g = obS (kNum D L M1) (fun w M => some (.inr w, M)) g'
  | [], M1, h => by
    unfold kNum
    rw [obS_inl, obS_inl]; exact hg M1 h
  | k :: L, M1, h => by
    unfold kNum
    by_cases q : mI M1 41 1 = 24
    · rw [ifT q]
      cases K_X0_wrong 24 0 M1 with
      | none => rfl
      | some z =>
        obtain ⟨r, M2⟩ := z
        rw [ob_some]
        by_cases q2 : mk M2 r = 7
        · rw [ifT q2, obS_inr, obS_inr]
        · rw [ifF q2]; rfl
    · rw [ifF q]
      by_cases q3 : inb (mI M1 41 1) 24
      · rw [ifT q3]; exact kNum_seq hg L _ h.as
      · rw [ifF q3]; rfl
theorem kNum_app (L2 : List Nat) : ∀ (L1 : List Nat) (M1 : CM), kNum D (L1 ++ L2) M1 = obS (kNum D L1 M1) (fun w M => some (.inr w, M)) (fun _ M2 => kNum D L2 M2)
  | [], M1 => by
    show kNum D L2 M1 = obS (some (.inl (), M1)) _ _
    rw [obS_inl]
  | k :: L1, M1 => by
    show (if mI M1 41 1 = 24 then _ else _) = obS (if mI M1 41 1 = 24 then _ else _) _ _
    by_cases q : mI M1 41 1 = 24
    · rw [ifT q, ifT q]
      cases K_X0_wrong 24 0 M1 with
      | none => rfl
      | some z =>
        obtain ⟨r, M2⟩ := z
        rw [ob_some]
        by_cases q2 : mk M2 r = 7
        · rw [ifT q2, obS_inr]
        · rw [ifF q2]; rfl
    · rw [ifF q, ifF q]
      by_cases q3 : inb (mI M1 41 1) 24
      · rw [ifT q3, ifT q3]; exact kNum_app L2 L1 _
      · rw [ifF q3, ifF q3]; rfl
theorem kNum_nil : obS (kNum D L M1) (fun w M => some (.inr w, M)) (fun _ M2 => some (.inl (), M2)) = kNum D L M1 := by
  have := kNum_app (D := D) [] L M1
  rw [List.append_nil] at this
  exact this.symm
/-- the component numbers a tree -/
def HK (D : FQ) (M : CM) (h a : Nat) (L : List Nat) : Prop := ∀ kf, h < kf → ∀ M1, NuM M M1 → KG_X0_number kf a M1 = kNum D L M1
theorem HK.z : HK D M h 0 [] := fun kf hk M1 _ => by
  obtain ⟨kf, rfl⟩ : ∃ g, kf = g + 1 := ⟨kf - 1, by omega⟩
  show KB_X0_number (KG_X0_number kf) 0 M1 = _
  unfold KB_X0_number
  rw [ifT (rfl : (0 : Nat) = 0)]; rfl
theorem HK.j31 {kf : Nat} {L3 : List Nat} (ka : mk M a = 18) (hop : ¬ mI M 3400 a = 29) (g2 : HK D M h (mR M 3406 a) L2) (g3 : HK D M h (mR M 3407 a) L3) (hk : h < kf) (m : NuM M M1) : KJ_X0_number_31 (KG_X0_number kf) a M1 = kNum D (L2 ++ L3) M1 := by
  unfold KJ_X0_number_31
  rw [ifT ((m.1 a).trans ka), ifF (by rw [m.2.1]; exact hop), ifT ((m.1 a).trans ka), m.2.2, g2 kf hk M1 m, kNum_app]
  refine kNum_seq (fun M2 m2 => ?_) L2 M1 m
  rw [ifT ((m2.1 a).trans ka), m2.2.2, g3 kf hk M2 m2, kNum_nil]
theorem HK.j40 {kf : Nat} (ka : mk M a = 18) (g2 : HK D M h (mR M 3406 a) L2) (hk : h < kf) (m : NuM M M1) (hka : a = (pl D 106).getD k 0) : KJ_X0_number_40 (KG_X0_number kf) a M1 = kNum D (L2 ++ [k]) M1 := by
  unfold KJ_X0_number_40
  rw [ifT ((m.1 a).trans ka), m.2.2, g2 kf hk M1 m, kNum_app]
  refine kNum_seq (fun M2 m2 => ?_) L2 M1 m
  unfold kNum
  by_cases q : mI M2 41 1 = 24
  · rw [ifT q, ifT q]
  · have e1 : mI (msI M2 3403 a (mI M2 41 1)) 41 1 = mI M2 41 1 := by rw [mI_msI, ifF (fun z => absurd z.1 (by decide))]
    rw [ifF q, ifF q, ifT ((m2.1 a).trans ka), nm_eq, e1]
    by_cases q3 : inb (mI M2 41 1) 24
    · rw [ifT q3, ifT ⟨q3, Or.inr ((m2.1 a).trans ka)⟩, nm_eq, nm_eq]
      unfold kNum kAs
      rw [← hka]
      show some (_, msI (mwX _ _ _ _) 41 1 (mI (msI M2 3403 a (mI M2 41 1)) 41 1 + 1)) = _
      rw [e1]
    · rw [ifF q3, ifF (fun z => q3 z.1)]
theorem HK.nd (a0 : a ≠ 0) (ka : mk M a = 18) (g1 : HK D M h (mR M 3405 a) L1) {L3 : List Nat} (hL : ∀ kf, h < kf → ∀ M2, NuM M M2 → (if mI M2 3400 a < 20 then KJ_X0_number_31 (KG_X0_number kf) a M2 else if mI M2 3400 a ≤ 25 then KJ_X0_number_40 (KG_X0_number kf) a M2 else KJ_X0_number_31 (KG_X0_number kf) a M2) = kNum D L3 M2) : HK D M (h + 1) a (L1 ++ L3) := fun kf hk M1 m => by
  obtain ⟨kf, rfl⟩ : ∃ g, kf = g + 1 := ⟨kf - 1, by omega⟩
  show KB_X0_number (KG_X0_number kf) a M1 = _
  unfold KB_X0_number
  rw [ifF a0, ifT ((m.1 a).trans ka), m.2.2, g1 kf (by omega) M1 m, kNum_app]
  refine kNum_seq (fun M2 m2 => ?_) L1 M1 m
  rw [ifT ((m2.1 a).trans ka), ← hL kf (by omega) M2 m2, ifT ((m2.1 a).trans ka)]
end NUMBER
