/-! Layer B: the flat model: the twin's variables are at most 96, with a fault too -/
set_option maxRecDepth 100000
def bv (σ : TS) : Prop := ∃ v, v ≤ 96 ∧ tI σ 107 = nI v
def Bv (σ s : TS) : Prop := bv σ → bv s
def FV {α : Type} (σ0 : TS) (o : Option (α × TS)) : Prop := ∀ r σ', o = some (r, σ') → Bv σ0 σ'
theorem Bv.rf (σ : TS) : Bv σ σ := fun h => h
theorem Bv.p_tsI {σ s : TS} (h : Bv σ s) {k : Nat} {v : Int32} (hk : (107 == k) = false) : Bv σ (tsI s k v) := fun q => by
  obtain ⟨u, u1, u2⟩ := h q
  refine ⟨u, u1, ?_⟩
  rw [show tI (tsI s k v) 107 = if 107 = k then v else tI s 107 from rfl, if_neg (fun z => by rw [← z] at hk; cases hk)]
  exact u2
theorem Bv.p_tsL {σ s : TS} (h : Bv σ s) {k : Nat} {v : Int64} (_ : 0 = 0) : Bv σ (tsL s k v) := h
theorem Bv.p_tsA {σ s : TS} (h : Bv σ s) {k i : Nat} {v : Int32} (_ : 0 = 0) : Bv σ (tsA s k i v) := h
theorem Bv.p_tsB {σ s : TS} (h : Bv σ s) {k i : Nat} {v : Int64} (_ : 0 = 0) : Bv σ (tsB s k i v) := h
theorem FV.none {α : Type} {σ0 : TS} : FV σ0 (none : Option (α × TS)) := fun _ _ h => by cases h
theorem FV.some {α : Type} {σ0 σ : TS} {r : α} (h : Bv σ0 σ) : FV σ0 (some (r, σ)) := fun _ _ e => by cases e; exact h
theorem FV.ite {α : Type} {σ0 : TS} {c : Prop} [Decidable c] {a b : Option (α × TS)} (h1 : FV σ0 a) (h2 : FV σ0 b) : FV σ0 (if c then a else b) := by
  split
  · exact h1
  · exact h2
theorem FV.nmT {β : Type} {σ0 x : TS} {f : TS → Option (β × TS)} (hx : Bv σ0 x) (h : ∀ s, Bv σ0 s → FV σ0 (f s)) : FV σ0 (nm x f) := h x hx
theorem FV.nmV {α β : Type} {σ0 : TS} {x : α} {f : α → Option (β × TS)} (h : ∀ v, FV σ0 (f v)) : FV σ0 (nm x f) := h x
theorem FV.call {β : Type} {σ0 s : TS} {o : Option (β × TS)} (hs : Bv σ0 s) (h1 : FV s o) : FV σ0 o := fun r σ' e q => h1 r σ' e (hs q)
theorem FV.ob {α β : Type} {σ0 s : TS} {o : Option (α × TS)} {k : α → TS → Option (β × TS)} (hs : Bv σ0 s) (h1 : FV s o) (h2 : ∀ r s', Bv σ0 s' → FV σ0 (k r s')) : FV σ0 (ob o k) := by
  intro r σ' e
  obtain ⟨a, t, e1, e2⟩ := obE e
  exact h2 a t (fun q => h1 a t e1 (hs q)) r σ' e2
theorem FV.obS {α ρ β : Type} {σ0 s : TS} {o : Option ((α ⊕ ρ) × TS)} {kr : ρ → TS → Option (β × TS)} {k : α → TS → Option (β × TS)} (hs : Bv σ0 s) (h1 : FV s o) (h3 : ∀ r s', Bv σ0 s' → FV σ0 (kr r s')) (h2 : ∀ r s', Bv σ0 s' → FV σ0 (k r s')) : FV σ0 (obS o kr k) := by
  intro r σ' e
  rcases obSE e with ⟨a, t, e1, e2⟩ | ⟨a, t, e1, e2⟩
  · exact h2 a t (fun q => h1 _ t e1 (hs q)) r σ' e2
  · exact h3 a t (fun q => h1 _ t e1 (hs q)) r σ' e2
theorem FV.of {α : Type} {S : List Nat} {σ : TS} {o : Option (α × TS)} (h : FS S σ o) (hS : S.contains 107 = false) : FV σ o := fun r σ' e q => by
  obtain ⟨v, v1, v2⟩ := q
  exact ⟨v, v1, by rw [(h r σ' e 107 hS).1]; exact v2⟩
theorem fV_J_makeVariable_145 (x1 : Int32) (x2 : Int32) (x3 : Int32) (x4 : Int32) (σ : TS) : FV σ (J_makeVariable_145 x1 x2 x3 x4 σ) := by
  have key : ∀ (s : TS) (u : Nat), u ≤ 96 → tI s 107 = nI u → (tI s 0 ≠ 0 ∨ u ≤ 95) → ∀ r s', J_makeVariable_168 x1 x2 x3 x4 s = some (r, s') → bv s' := by
    intro s u hu h7 hc r s' e
    unfold J_makeVariable_168 at e
    by_cases h0 : tI s 0 = 0
    · rw [t_isBad0 h0, ob_some, if_pos (rfl : (0 : Int32) = 0)] at e
      have b : bv (tsI s 107 (tI s 107 + 1)) := ⟨u + 1, by
        rcases hc with hc | hc
        · exact absurd h0 hc
        · omega, by
        show tI s 107 + 1 = _
        rw [h7]; exact nI_addL u 1⟩
      have g : ∀ v69, FV (tsI s 107 (tI s 107 + 1)) (if inb x2 481 then nm (tA (tsI s 107 (tI s 107 + 1)) 52 (ix x2)) fun v72 => if v72 &&& 1 = 0 then if v72 &&& 4 = 0 then J_makeVariable_229 x1 x2 x3 x4 v69 v72 v69 0 (tsI s 107 (tI s 107 + 1)) else J_makeVariable_229 x1 x2 x3 x4 v69 v72 v69 2 (tsI s 107 (tI s 107 + 1)) else J_makeVariable_229 x1 x2 x3 x4 v69 v72 v69 1 (tsI s 107 (tI s 107 + 1)) else none) := fun v69 => FV.ite (FV.nmV fun v => FV.ite (FV.ite (FV.of (fS_J_makeVariable_229 _ _ _ _ _ _ _ _ _) rfl) (FV.of (fS_J_makeVariable_229 _ _ _ _ _ _ _ _ _) rfl)) (FV.of (fS_J_makeVariable_229 _ _ _ _ _ _ _ _ _) rfl)) FV.none
      exact g _ _ _ e b
    · rw [t_isBad1 h0, ob_some, if_neg (show ¬ (1 : Int32) = 0 by decide)] at e
      cases e
      exact ⟨u, hu, h7⟩
  intro r σ' e q
  obtain ⟨v, v1, v2⟩ := q
  unfold J_makeVariable_145 at e
  by_cases h0 : tI σ 0 = 0
  · rw [t_isBad0 h0, ob_some, if_pos (rfl : (0 : Int32) = 0)] at e
    by_cases z : tI σ 107 = 96
    · rw [if_pos z, t_badT h0, ob_some] at e
      exact key _ v v1 (by rw [((badT_f (σ := σ) (r := 24)) 107 rfl).1]; exact v2) (Or.inl (badT_ne (by decide))) _ _ e
    · rw [if_neg z] at e
      exact key _ v v1 v2 (Or.inr (by
        have : v ≠ 96 := fun y => z (by rw [v2, y]; rfl)
        omega)) _ _ e
  · rw [t_isBad1 h0, ob_some, if_neg (show ¬ (1 : Int32) = 0 by decide)] at e
    exact key _ v v1 v2 (Or.inl h0) _ _ e
theorem fV_J_makeVariable_77 (x1 : Int32) (x2 : Int32) (x3 : Int32) (x4 : Int32) (σ : TS)  : FV σ (J_makeVariable_77 x1 x2 x3 x4 σ) := by
  unfold J_makeVariable_77
  exact FV.ite (FV.nmV fun v31 =>
     FV.ob (Bv.rf _) (FV.of (fS_L_makeVariable_85  _ _ _ _ _ _ _) rfl) fun q58 s59 h_s59 =>
     FV.call h_s59 (fV_J_makeVariable_145 _ _ _ _ _ ))
    (FV.none)
theorem fV_F_makeVariable (x1 : Int32) (x2 : Int32) (x3 : Int32) (x4 : Int32) (σ : TS)  : FV σ (F_makeVariable x1 x2 x3 x4 σ) := by
  unfold F_makeVariable
  exact FV.ob (Bv.rf _) (FV.of (fS_L_makeVariable_4  _ _ _ _ _ _ _) rfl) fun q27 s28 h_s28 =>
    FV.call h_s28 (fV_J_makeVariable_77 _ _ _ _ _ )
theorem fV_L_fill_196 (cf_fill : Int32 → Int32 → Int32 → TS → Option (Unit × TS)) (cf_makeMember : Int32 → Int32 → Int32 → TS → Option (Unit × TS)) (hcf_fill : ∀ (a0 : Int32) (a1 : Int32) (a2 : Int32) (a3 : TS), FV a3 (cf_fill a0 a1 a2 a3)) (hcf_makeMember : ∀ (a0 : Int32) (a1 : Int32) (a2 : Int32) (a3 : TS), FV a3 (cf_makeMember a0 a1 a2 a3)) : ∀ (n : Nat) (x1 : Int32) (x2 : Int32) (x3 : Int32) (x4 : Int32) (x5 : Int32) (x6 : Int32) (σ : TS), FV σ (L_fill_196 cf_fill cf_makeMember n x1 x2 x3 x4 x5 x6 σ)
  | 0, _, _, _, _, _, _, _ => FV.none
  | n + 1, x1, x2, x3, x4, x5, x6, σ => by
    rw [L_fill_196]
    exact FV.ite (FV.some (Bv.rf _))
      (FV.ob (Bv.rf _) (FV.of (fS_F_isBad _ ) rfl) fun r40 s39 h_s39 =>
       FV.ite (FV.ite (FV.ite (FV.ite (FV.ite (FV.ob h_s39 (FV.of (fS_F_has  _ _ _ _) rfl) fun r48 s47 h_s47 =>
            FV.ite (FV.ob h_s47 (FV.of (fS_F_bad _ _ _ ) rfl) fun r54 s53 h_s53 =>
             FV.ite (FV.nmV fun v58 =>
              FV.call h_s53 (fV_L_fill_196 _ _ hcf_fill hcf_makeMember _ _ _ _ _ _ _ _))
             (FV.none))
            (FV.ite (FV.nmV fun v52 =>
              FV.call h_s47 (fV_L_fill_196 _ _ hcf_fill hcf_makeMember _ _ _ _ _ _ _ _))
             (FV.none)))
           (FV.none))
          (FV.none))
         (FV.ite (FV.ob h_s39 (FV.of (fS_F_has  _ _ _ _) rfl) fun r62 s61 h_s61 =>
           FV.ite (FV.ob h_s61 (FV.of (fS_F_bad _ _ _ ) rfl) fun r68 s67 h_s67 =>
            FV.ite (FV.nmV fun v72 =>
             FV.call h_s67 (fV_L_fill_196 _ _ hcf_fill hcf_makeMember _ _ _ _ _ _ _ _))
            (FV.none))
           (FV.ite (FV.nmV fun v66 =>
             FV.call h_s61 (fV_L_fill_196 _ _ hcf_fill hcf_makeMember _ _ _ _ _ _ _ _))
            (FV.none)))
          (FV.none)))
        (FV.none))
       (FV.some h_s39))
theorem fV_L_fill_56 (cf_fill : Int32 → Int32 → Int32 → TS → Option (Unit × TS)) (cf_makeMember : Int32 → Int32 → Int32 → TS → Option (Unit × TS)) (hcf_fill : ∀ (a0 : Int32) (a1 : Int32) (a2 : Int32) (a3 : TS), FV a3 (cf_fill a0 a1 a2 a3)) (hcf_makeMember : ∀ (a0 : Int32) (a1 : Int32) (a2 : Int32) (a3 : TS), FV a3 (cf_makeMember a0 a1 a2 a3)) : ∀ (n : Nat) (x1 : Int32) (x2 : Int32) (x3 : Int32) (x4 : Int32) (σ : TS), FV σ (L_fill_56 cf_fill cf_makeMember n x1 x2 x3 x4 σ)
  | 0, _, _, _, _, _ => FV.none
  | n + 1, x1, x2, x3, x4, σ => by
    rw [L_fill_56]
    exact FV.ite (FV.ite (FV.ite (FV.some (Bv.rf _))
        (FV.ob (Bv.rf _) (FV.of (fS_F_isBad _ ) rfl) fun r11 s10 h_s10 =>
         FV.ite (FV.ite (FV.ite (FV.ob h_s10 (hcf_makeMember _ _ _ _) fun r17 s16 h_s16 =>
            FV.nmV fun v20 =>
            FV.call h_s16 (fV_L_fill_56 _ _ hcf_fill hcf_makeMember _ _ _ _ _ _))
           (FV.ite (FV.ob h_s10 (FV.of (fS_F_classOf _ _ ) rfl) fun r23 s22 h_s22 =>
             FV.ite (FV.ite (FV.ite (FV.ite (FV.ite (FV.ite (FV.nmT (Bv.p_tsA h_s22 rfl) fun s30 h_s30 =>
                   FV.nmT (Bv.p_tsI h_s30 rfl) fun s31 h_s31 =>
                   FV.ob h_s31 (hcf_fill _ _ _ _) fun r33 s32 h_s32 =>
                   FV.nmT (Bv.p_tsI h_s32 rfl) fun s36 h_s36 =>
                   FV.ite (FV.nmV fun v38 =>
                    FV.ob h_s36 (fV_L_fill_196 _ _ hcf_fill hcf_makeMember _ _ _ _ _ _ _ _) fun q77 s78 h_s78 =>
                    FV.nmV fun v80 =>
                    FV.call h_s78 (fV_L_fill_56 _ _ hcf_fill hcf_makeMember _ _ _ _ _ _))
                   (FV.none))
                  (FV.none))
                 (FV.none))
                (FV.ob h_s22 (FV.of (fS_F_bad _ _ _ ) rfl) fun r83 s82 h_s82 =>
                 FV.some h_s82))
               (FV.none))
              (FV.none))
             (FV.ob h_s22 (FV.of (fS_F_bad _ _ _ ) rfl) fun r88 s87 h_s87 =>
              FV.some h_s87))
            (FV.none)))
          (FV.none))
         (FV.some h_s10)))
       (FV.none))
      (FV.none)
theorem fV_J_fill_40 (cf_fill : Int32 → Int32 → Int32 → TS → Option (Unit × TS)) (cf_makeMember : Int32 → Int32 → Int32 → TS → Option (Unit × TS)) (x1 : Int32) (x2 : Int32) (x3 : Int32) (σ : TS) (hcf_fill : ∀ (a0 : Int32) (a1 : Int32) (a2 : Int32) (a3 : TS), FV a3 (cf_fill a0 a1 a2 a3)) (hcf_makeMember : ∀ (a0 : Int32) (a1 : Int32) (a2 : Int32) (a3 : TS), FV a3 (cf_makeMember a0 a1 a2 a3)) : FV σ (J_fill_40 cf_fill cf_makeMember x1 x2 x3 σ) := by
  unfold J_fill_40
  exact FV.ob (Bv.rf _) (FV.of (fS_F_isBad _ ) rfl) fun r3 s2 h_s2 =>
    FV.ite (FV.ite (FV.nmV fun v7 =>
      FV.obS h_s2 (fV_L_fill_56 _ _ hcf_fill hcf_makeMember _ _ _ _ _ _) (fun r99 s96 h_s96 => FV.some h_s96) fun q95 s96 h_s96 =>
      FV.some h_s96)
     (FV.none))
    (FV.some h_s2)
theorem fV_J_fill_13 (cf_fill : Int32 → Int32 → Int32 → TS → Option (Unit × TS)) (cf_makeMember : Int32 → Int32 → Int32 → TS → Option (Unit × TS)) (x1 : Int32) (x2 : Int32) (x3 : Int32) (σ : TS) (hcf_fill : ∀ (a0 : Int32) (a1 : Int32) (a2 : Int32) (a3 : TS), FV a3 (cf_fill a0 a1 a2 a3)) (hcf_makeMember : ∀ (a0 : Int32) (a1 : Int32) (a2 : Int32) (a3 : TS), FV a3 (cf_makeMember a0 a1 a2 a3)) : FV σ (J_fill_13 cf_fill cf_makeMember x1 x2 x3 σ) := by
  unfold J_fill_13
  exact FV.nmT (Bv.p_tsI (Bv.rf _) rfl) fun s1 h_s1 =>
    FV.ite (FV.call h_s1 (fV_J_fill_40 _ _ _ _ _ _ hcf_fill hcf_makeMember ))
    (FV.ob h_s1 (FV.of (fS_F_bad _ _ _ ) rfl) fun r102 s101 h_s101 =>
     FV.call h_s101 (fV_J_fill_40 _ _ _ _ _ _ hcf_fill hcf_makeMember ))
theorem fV_B_fill (cf_fill : Int32 → Int32 → Int32 → TS → Option (Unit × TS)) (cf_makeMember : Int32 → Int32 → Int32 → TS → Option (Unit × TS)) (x1 : Int32) (x2 : Int32) (x3 : Int32) (σ : TS) (hcf_fill : ∀ (a0 : Int32) (a1 : Int32) (a2 : Int32) (a3 : TS), FV a3 (cf_fill a0 a1 a2 a3)) (hcf_makeMember : ∀ (a0 : Int32) (a1 : Int32) (a2 : Int32) (a3 : TS), FV a3 (cf_makeMember a0 a1 a2 a3)) : FV σ (B_fill cf_fill cf_makeMember x1 x2 x3 σ) := by
  unfold B_fill
  exact FV.ite (FV.call (Bv.rf _) (fV_J_fill_13 _ _ _ _ _ _ hcf_fill hcf_makeMember ))
    (FV.ob (Bv.rf _) (FV.of (fS_F_bad _ _ _ ) rfl) fun r107 s106 h_s106 =>
     FV.call h_s106 (fV_J_fill_13 _ _ _ _ _ _ hcf_fill hcf_makeMember ))
theorem fV_L_makeMember_306 (cf_fill : Int32 → Int32 → Int32 → TS → Option (Unit × TS)) (hcf_fill : ∀ (a0 : Int32) (a1 : Int32) (a2 : Int32) (a3 : TS), FV a3 (cf_fill a0 a1 a2 a3)) : ∀ (n : Nat) (x1 : Int32) (x2 : Int32) (x3 : Int32) (x4 : Int32) (x5 : Int32) (x6 : Int32) (x7 : Int32) (x8 : Int32) (x9 : Int32) (x10 : Int32) (x11 : Int32) (σ : TS), FV σ (L_makeMember_306 cf_fill n x1 x2 x3 x4 x5 x6 x7 x8 x9 x10 x11 σ)
  | 0, _, _, _, _, _, _, _, _, _, _, _, _ => FV.none
  | n + 1, x1, x2, x3, x4, x5, x6, x7, x8, x9, x10, x11, σ => by
    rw [L_makeMember_306]
    exact FV.ite (FV.some (Bv.rf _))
      (FV.ite (FV.ite (FV.ite (FV.ite (FV.ite (FV.ite (FV.ite (FV.ite (FV.ob (Bv.rf _) (FV.of (fS_F_put _ _ _ _ ) rfl) fun r63 s62 h_s62 =>
               FV.ite (FV.nmV fun v67 =>
                FV.call h_s62 (fV_L_makeMember_306 _ hcf_fill _ _ _ _ _ _ _ _ _ _ _ _ _))
               (FV.none))
              (FV.none))
             (FV.none))
            (FV.ite (FV.nmV fun v59 =>
              FV.call (Bv.rf _) (fV_L_makeMember_306 _ hcf_fill _ _ _ _ _ _ _ _ _ _ _ _ _))
             (FV.none)))
           (FV.none))
          (FV.none))
         (FV.none))
        (FV.ite (FV.nmV fun v54 =>
          FV.call (Bv.rf _) (fV_L_makeMember_306 _ hcf_fill _ _ _ _ _ _ _ _ _ _ _ _ _))
         (FV.none)))
       (FV.none))
theorem fV_L_makeMember_288 (cf_fill : Int32 → Int32 → Int32 → TS → Option (Unit × TS)) (hcf_fill : ∀ (a0 : Int32) (a1 : Int32) (a2 : Int32) (a3 : TS), FV a3 (cf_fill a0 a1 a2 a3)) : ∀ (n : Nat) (x1 : Int32) (x2 : Int32) (x3 : Int32) (x4 : Int32) (x5 : Int32) (x6 : Int32) (x7 : Int32) (x8 : Int32) (x9 : Int32) (x10 : Int32) (σ : TS), FV σ (L_makeMember_288 cf_fill n x1 x2 x3 x4 x5 x6 x7 x8 x9 x10 σ)
  | 0, _, _, _, _, _, _, _, _, _, _, _ => FV.none
  | n + 1, x1, x2, x3, x4, x5, x6, x7, x8, x9, x10, σ => by
    rw [L_makeMember_288]
    exact FV.ite (FV.some (Bv.rf _))
      (FV.ite (FV.nmV fun v50 =>
        FV.ob (Bv.rf _) (fV_L_makeMember_306 _ hcf_fill _ _ _ _ _ _ _ _ _ _ _ _ _) fun q71 s72 h_s72 =>
        FV.nmV fun v74 =>
        FV.call h_s72 (fV_L_makeMember_288 _ hcf_fill _ _ _ _ _ _ _ _ _ _ _ _))
       (FV.none))
theorem fV_L_makeMember_406 (cf_fill : Int32 → Int32 → Int32 → TS → Option (Unit × TS)) (hcf_fill : ∀ (a0 : Int32) (a1 : Int32) (a2 : Int32) (a3 : TS), FV a3 (cf_fill a0 a1 a2 a3)) : ∀ (n : Nat) (x1 : Int32) (x2 : Int32) (x3 : Int32) (x4 : Int32) (x5 : Int32) (x6 : Int32) (x7 : Int32) (x8 : Int32) (x9 : Int32) (x10 : Int32) (σ : TS), FV σ (L_makeMember_406 cf_fill n x1 x2 x3 x4 x5 x6 x7 x8 x9 x10 σ)
  | 0, _, _, _, _, _, _, _, _, _, _, _ => FV.none
  | n + 1, x1, x2, x3, x4, x5, x6, x7, x8, x9, x10, σ => by
    rw [L_makeMember_406]
    exact FV.ite (FV.some (Bv.rf _))
      (FV.ite (FV.ite (FV.ite (FV.ob (Bv.rf _) (FV.of (fS_F_put _ _ _ _ ) rfl) fun r86 s85 h_s85 =>
          FV.ite (FV.nmV fun v90 =>
           FV.call h_s85 (fV_L_makeMember_406 _ hcf_fill _ _ _ _ _ _ _ _ _ _ _ _))
          (FV.none))
         (FV.none))
        (FV.ob (Bv.rf _) (FV.of (fS_F_put _ _ _ _ ) rfl) fun r92 s91 h_s91 =>
         FV.ite (FV.nmV fun v96 =>
          FV.call h_s91 (fV_L_makeMember_406 _ hcf_fill _ _ _ _ _ _ _ _ _ _ _ _))
         (FV.none)))
       (FV.none))
theorem fV_J_makeMember_515_240 (cf_fill : Int32 → Int32 → Int32 → TS → Option (Unit × TS)) (rec : Int32 → Int32 → Int32 → Int32 → Int32 → Int32 → Int32 → Int32 → TS → Option ((Unit ⊕ Unit) × TS)) (x1 : Int32) (x2 : Int32) (x3 : Int32) (x4 : Int32) (x5 : Int32) (x6 : Int32) (x7 : Int32) (x8 : Int32) (x9 : Int32) (x10 : Int32) (σ : TS) (hcf_fill : ∀ (a0 : Int32) (a1 : Int32) (a2 : Int32) (a3 : TS), FV a3 (cf_fill a0 a1 a2 a3)) (hrec : ∀ (a0 : Int32) (a1 : Int32) (a2 : Int32) (a3 : Int32) (a4 : Int32) (a5 : Int32) (a6 : Int32) (a7 : Int32) (a8 : TS), FV a8 (rec a0 a1 a2 a3 a4 a5 a6 a7 a8)) : FV σ (J_makeMember_515_240 cf_fill rec x1 x2 x3 x4 x5 x6 x7 x8 x9 x10 σ) := by
  unfold J_makeMember_515_240
  exact FV.ob (Bv.rf _) (FV.of (fS_F_isBad _ ) rfl) fun r112 s111 h_s111 =>
    FV.ite (FV.nmV fun v115 =>
     FV.nmT (Bv.p_tsI h_s111 rfl) fun s116 h_s116 =>
     FV.ob h_s116 (hcf_fill _ _ _ _) fun r118 s117 h_s117 =>
     FV.nmT (Bv.p_tsI h_s117 rfl) fun s121 h_s121 =>
     FV.ob h_s121 (FV.of (fS_F_isBad _ ) rfl) fun r123 s122 h_s122 =>
     FV.ite (FV.ite (FV.ob h_s122 (FV.of (fS_F_leads _ _ _ _ ) rfl) fun r130 s129 h_s129 =>
       FV.nmT (Bv.p_tsI h_s129 rfl) fun s133 h_s133 =>
       FV.nmV fun v134 =>
       FV.call h_s133 (hrec _ _ _ _ _ _ _ _ _))
      (FV.none))
     (FV.nmT (Bv.p_tsI h_s122 rfl) fun s126 h_s126 =>
      FV.nmV fun v127 =>
      FV.call h_s126 (hrec _ _ _ _ _ _ _ _ _)))
    (FV.some h_s111)
theorem fV_J_makeMember_492_240 (cf_fill : Int32 → Int32 → Int32 → TS → Option (Unit × TS)) (rec : Int32 → Int32 → Int32 → Int32 → Int32 → Int32 → Int32 → Int32 → TS → Option ((Unit ⊕ Unit) × TS)) (x1 : Int32) (x2 : Int32) (x3 : Int32) (x4 : Int32) (x5 : Int32) (x6 : Int32) (x7 : Int32) (x8 : Int32) (x9 : Int32) (y1 : Int32) (y2 : Int32) (y3 : Int32) (σ : TS) (hcf_fill : ∀ (a0 : Int32) (a1 : Int32) (a2 : Int32) (a3 : TS), FV a3 (cf_fill a0 a1 a2 a3)) (hrec : ∀ (a0 : Int32) (a1 : Int32) (a2 : Int32) (a3 : Int32) (a4 : Int32) (a5 : Int32) (a6 : Int32) (a7 : Int32) (a8 : TS), FV a8 (rec a0 a1 a2 a3 a4 a5 a6 a7 a8)) : FV σ (J_makeMember_492_240 cf_fill rec x1 x2 x3 x4 x5 x6 x7 x8 x9 y1 y2 y3 σ) := by
  unfold J_makeMember_492_240
  exact FV.ob (Bv.rf _) (FV.of (fS_F_newInstance _ _ _ _ _ _ ) rfl) fun r108 s107 h_s107 =>
    FV.ite (FV.ite (FV.nmT (Bv.p_tsA h_s107 rfl) fun s138 h_s138 =>
      FV.call h_s138 (fV_J_makeMember_515_240 _ _ _ _ _ _ _ _ _ _ _ _ _ hcf_fill hrec ))
     (FV.none))
    (FV.call h_s107 (fV_J_makeMember_515_240 _ _ _ _ _ _ _ _ _ _ _ _ _ hcf_fill hrec ))
theorem fV_J_makeMember_464_240 (cf_fill : Int32 → Int32 → Int32 → TS → Option (Unit × TS)) (rec : Int32 → Int32 → Int32 → Int32 → Int32 → Int32 → Int32 → Int32 → TS → Option ((Unit ⊕ Unit) × TS)) (x1 : Int32) (x2 : Int32) (x3 : Int32) (x4 : Int32) (x5 : Int32) (x6 : Int32) (x7 : Int32) (x8 : Int32) (x9 : Int32) (σ : TS) (hcf_fill : ∀ (a0 : Int32) (a1 : Int32) (a2 : Int32) (a3 : TS), FV a3 (cf_fill a0 a1 a2 a3)) (hrec : ∀ (a0 : Int32) (a1 : Int32) (a2 : Int32) (a3 : Int32) (a4 : Int32) (a5 : Int32) (a6 : Int32) (a7 : Int32) (a8 : TS), FV a8 (rec a0 a1 a2 a3 a4 a5 a6 a7 a8)) : FV σ (J_makeMember_464_240 cf_fill rec x1 x2 x3 x4 x5 x6 x7 x8 x9 σ) := by
  unfold J_makeMember_464_240
  exact FV.ob (Bv.rf _) (FV.of (fS_F_isBad _ ) rfl) fun r103 s102 h_s102 =>
    FV.ite (FV.ite (FV.ite (FV.call h_s102 (fV_J_makeMember_492_240 _ _ _ _ _ _ _ _ _ _ _ _ _ _ _ hcf_fill hrec ))
      (FV.call h_s102 (fV_J_makeMember_492_240 _ _ _ _ _ _ _ _ _ _ _ _ _ _ _ hcf_fill hrec )))
     (FV.none))
    (FV.some h_s102)
theorem fV_L_makeMember_240 (cf_fill : Int32 → Int32 → Int32 → TS → Option (Unit × TS)) (hcf_fill : ∀ (a0 : Int32) (a1 : Int32) (a2 : Int32) (a3 : TS), FV a3 (cf_fill a0 a1 a2 a3)) : ∀ (n : Nat) (x1 : Int32) (x2 : Int32) (x3 : Int32) (x4 : Int32) (x5 : Int32) (x6 : Int32) (x7 : Int32) (x8 : Int32) (σ : TS), FV σ (L_makeMember_240 cf_fill n x1 x2 x3 x4 x5 x6 x7 x8 σ)
  | 0, _, _, _, _, _, _, _, _, _ => FV.none
  | n + 1, x1, x2, x3, x4, x5, x6, x7, x8, σ => by
    rw [L_makeMember_240]
    exact FV.ite (FV.some (Bv.rf _))
      (FV.ob (Bv.rf _) (FV.of (fS_F_isBad _ ) rfl) fun r37 s36 h_s36 =>
       FV.ite (FV.nmV fun v40 =>
        FV.ite (FV.ite (FV.ite (FV.ob h_s36 (FV.of (fS_F_inherit _ _ _ _ ) rfl) fun r45 s44 h_s44 =>
           FV.nmV fun v48 =>
           FV.ob h_s44 (fV_L_makeMember_288 _ hcf_fill _ _ _ _ _ _ _ _ _ _ _ _) fun q77 s78 h_s78 =>
           FV.ite (FV.ite (FV.nmV fun v81 =>
             FV.ob h_s78 (fV_L_makeMember_406 _ hcf_fill _ _ _ _ _ _ _ _ _ _ _ _) fun q99 s100 h_s100 =>
             FV.ite (FV.call h_s100 (fV_J_makeMember_464_240 _ _ _ _ _ _ _ _ _ _ _ _ hcf_fill (fun a0 a1 a2 a3 a4 a5 a6 a7 a8 => fV_L_makeMember_240 cf_fill hcf_fill _ a0 a1 a2 a3 a4 a5 a6 a7 a8) ))
             (FV.ob h_s100 (FV.of (fS_F_bad _ _ _ ) rfl) fun r143 s142 h_s142 =>
              FV.call h_s142 (fV_J_makeMember_464_240 _ _ _ _ _ _ _ _ _ _ _ _ hcf_fill (fun a0 a1 a2 a3 a4 a5 a6 a7 a8 => fV_L_makeMember_240 cf_fill hcf_fill _ a0 a1 a2 a3 a4 a5 a6 a7 a8) )))
            (FV.none))
           (FV.ob h_s78 (fV_F_makeVariable _ _ _ _ _ ) fun r149 s148 h_s148 =>
            FV.nmV fun v152 =>
            FV.call h_s148 (fV_L_makeMember_240 _ hcf_fill _ _ _ _ _ _ _ _ _ _)))
          (FV.none))
         (FV.none))
        (FV.none))
       (FV.some h_s36))
theorem fV_J_makeMember_236 (cf_fill : Int32 → Int32 → Int32 → TS → Option (Unit × TS)) (x1 : Int32) (x2 : Int32) (x3 : Int32) (x4 : Int32) (x5 : Int32) (x6 : Int32) (x7 : Int32) (y1 : Int32) (y2 : Int32) (σ : TS) (hcf_fill : ∀ (a0 : Int32) (a1 : Int32) (a2 : Int32) (a3 : TS), FV a3 (cf_fill a0 a1 a2 a3)) : FV σ (J_makeMember_236 cf_fill x1 x2 x3 x4 x5 x6 x7 y1 y2 σ) := by
  unfold J_makeMember_236
  exact FV.ite (FV.nmT (Bv.p_tsA (Bv.rf _) rfl) fun s35 h_s35 =>
     FV.obS h_s35 (fV_L_makeMember_240 _ hcf_fill _ _ _ _ _ _ _ _ _ _) (fun r161 s158 h_s158 => FV.some h_s158) fun q157 s158 h_s158 =>
     FV.some h_s158)
    (FV.none)
theorem fV_J_makeMember_197 (cf_fill : Int32 → Int32 → Int32 → TS → Option (Unit × TS)) (x1 : Int32) (x2 : Int32) (x3 : Int32) (x4 : Int32) (x5 : Int32) (x6 : Int32) (x7 : Int32) (σ : TS) (hcf_fill : ∀ (a0 : Int32) (a1 : Int32) (a2 : Int32) (a3 : TS), FV a3 (cf_fill a0 a1 a2 a3)) : FV σ (J_makeMember_197 cf_fill x1 x2 x3 x4 x5 x6 x7 σ) := by
  unfold J_makeMember_197
  exact FV.ob (Bv.rf _) (FV.of (fS_F_isBad _ ) rfl) fun r29 s28 h_s28 =>
    FV.ite (FV.ite (FV.nmT (Bv.p_tsA h_s28 rfl) fun s33 h_s33 =>
      FV.ite (FV.call h_s33 (fV_J_makeMember_236 _ _ _ _ _ _ _ _ _ _ _ hcf_fill ))
      (FV.call h_s33 (fV_J_makeMember_236 _ _ _ _ _ _ _ _ _ _ _ hcf_fill )))
     (FV.none))
    (FV.some h_s28)
theorem fV_J_makeMember_168 (cf_fill : Int32 → Int32 → Int32 → TS → Option (Unit × TS)) (x1 : Int32) (x2 : Int32) (x3 : Int32) (x4 : Int32) (x5 : Int32) (x6 : Int32) (y0 : Int32) (σ : TS) (hcf_fill : ∀ (a0 : Int32) (a1 : Int32) (a2 : Int32) (a3 : TS), FV a3 (cf_fill a0 a1 a2 a3)) : FV σ (J_makeMember_168 cf_fill x1 x2 x3 x4 x5 x6 y0 σ) := by
  unfold J_makeMember_168
  exact FV.ite (FV.call (Bv.rf _) (fV_J_makeMember_197 _ _ _ _ _ _ _ _ _ hcf_fill ))
    (FV.ite (FV.ob (Bv.rf _) (FV.of (fS_F_isMeant _ _ _ _ ) rfl) fun r166 s165 h_s165 =>
      FV.ite (FV.call h_s165 (fV_J_makeMember_197 _ _ _ _ _ _ _ _ _ hcf_fill ))
      (FV.ob h_s165 (FV.of (fS_F_bad _ _ _ ) rfl) fun r170 s169 h_s169 =>
       FV.call h_s169 (fV_J_makeMember_197 _ _ _ _ _ _ _ _ _ hcf_fill )))
     (FV.none))
theorem fV_J_makeMember_150 (cf_fill : Int32 → Int32 → Int32 → TS → Option (Unit × TS)) (x1 : Int32) (x2 : Int32) (x3 : Int32) (x4 : Int32) (x5 : Int32) (y0 : Int32) (σ : TS) (hcf_fill : ∀ (a0 : Int32) (a1 : Int32) (a2 : Int32) (a3 : TS), FV a3 (cf_fill a0 a1 a2 a3)) : FV σ (J_makeMember_150 cf_fill x1 x2 x3 x4 x5 y0 σ) := by
  unfold J_makeMember_150
  exact FV.ite (FV.ob (Bv.rf _) (FV.of (fS_F_classFor _ _ _ _ ) rfl) fun r25 s24 h_s24 =>
     FV.call h_s24 (fV_J_makeMember_168 _ _ _ _ _ _ _ _ _ hcf_fill ))
    (FV.call (Bv.rf _) (fV_J_makeMember_168 _ _ _ _ _ _ _ _ _ hcf_fill ))
theorem fV_J_makeMember_116 (cf_fill : Int32 → Int32 → Int32 → TS → Option (Unit × TS)) (x1 : Int32) (x2 : Int32) (x3 : Int32) (x4 : Int32) (y0 : Int32) (σ : TS) (hcf_fill : ∀ (a0 : Int32) (a1 : Int32) (a2 : Int32) (a3 : TS), FV a3 (cf_fill a0 a1 a2 a3)) : FV σ (J_makeMember_116 cf_fill x1 x2 x3 x4 y0 σ) := by
  unfold J_makeMember_116
  exact FV.ite (FV.ite (FV.ite (FV.ite (FV.call (Bv.rf _) (fV_J_makeMember_150 _ _ _ _ _ _ _ _ hcf_fill ))
       (FV.ite (FV.call (Bv.rf _) (fV_J_makeMember_150 _ _ _ _ _ _ _ _ hcf_fill ))
        (FV.none)))
      (FV.none))
     (FV.some (Bv.rf _)))
    (FV.none)
theorem fV_J_makeMember_47 (cf_fill : Int32 → Int32 → Int32 → TS → Option (Unit × TS)) (x1 : Int32) (x2 : Int32) (x3 : Int32) (x4 : Int32) (σ : TS) (hcf_fill : ∀ (a0 : Int32) (a1 : Int32) (a2 : Int32) (a3 : TS), FV a3 (cf_fill a0 a1 a2 a3)) : FV σ (J_makeMember_47 cf_fill x1 x2 x3 x4 σ) := by
  unfold J_makeMember_47
  exact FV.ite (FV.nmT (Bv.p_tsA (Bv.rf _) rfl) fun s8 h_s8 =>
     FV.ite (FV.ite (FV.nmT (Bv.p_tsA h_s8 rfl) fun s11 h_s11 =>
       FV.ite (FV.nmT (Bv.p_tsA h_s11 rfl) fun s13 h_s13 =>
        FV.ite (FV.nmT (Bv.p_tsA h_s13 rfl) fun s15 h_s15 =>
         FV.ite (FV.nmT (Bv.p_tsA h_s15 rfl) fun s17 h_s17 =>
          FV.ite (FV.nmT (Bv.p_tsA h_s17 rfl) fun s19 h_s19 =>
           FV.ite (FV.ite (FV.call h_s19 (fV_J_makeMember_116 _ _ _ _ _ _ _ hcf_fill ))
            (FV.call h_s19 (fV_J_makeMember_116 _ _ _ _ _ _ _ hcf_fill )))
           (FV.none))
          (FV.none))
         (FV.none))
        (FV.none))
       (FV.none))
      (FV.none))
     (FV.none))
    (FV.none)
theorem fV_B_makeMember (cf_fill : Int32 → Int32 → Int32 → TS → Option (Unit × TS)) (x1 : Int32) (x2 : Int32) (x3 : Int32) (σ : TS) (hcf_fill : ∀ (a0 : Int32) (a1 : Int32) (a2 : Int32) (a3 : TS), FV a3 (cf_fill a0 a1 a2 a3)) : FV σ (B_makeMember cf_fill x1 x2 x3 σ) := by
  unfold B_makeMember
  exact FV.ite (FV.ob (Bv.rf _) (FV.of (fS_F_memberOf _ _ _ ) rfl) fun r3 s2 h_s2 =>
     FV.ite (FV.nmV fun v6 =>
      FV.ite (FV.call h_s2 (fV_J_makeMember_47 _ _ _ _ _ _ hcf_fill ))
      (FV.nmT (Bv.p_tsI h_s2 rfl) fun s179 h_s179 =>
       FV.call h_s179 (fV_J_makeMember_47 _ _ _ _ _ _ hcf_fill )))
     (FV.ob h_s2 (FV.of (fS_F_bad _ _ _ ) rfl) fun r182 s181 h_s181 =>
      FV.some h_s181))
    (FV.none)
theorem fV_G_fill : ∀ d : Nat, (∀ (a0 : Int32) (a1 : Int32) (a2 : Int32) (a3 : TS), FV a3 ((G_fill d).1 a0 a1 a2 a3)) ∧ (∀ (a0 : Int32) (a1 : Int32) (a2 : Int32) (a3 : TS), FV a3 ((G_fill d).2 a0 a1 a2 a3)) := by
  intro d
  induction d with
  | zero => exact ⟨fun _ _ _ _ => FV.none, fun _ _ _ _ => FV.none⟩
  | succ d ih => exact ⟨fun a0 a1 a2 a3 => fV_B_fill _ _ a0 a1 a2 a3 (fun b0 b1 b2 b3 => ih.1 b0 b1 b2 b3) (fun b0 b1 b2 b3 => ih.2 b0 b1 b2 b3), fun a0 a1 a2 a3 => fV_B_makeMember _ a0 a1 a2 a3 (fun b0 b1 b2 b3 => ih.1 b0 b1 b2 b3)⟩
theorem fV_F_fill (a0 : Int32) (a1 : Int32) (a2 : Int32) (a3 : TS) : FV a3 (F_fill a0 a1 a2 a3) := (fV_G_fill 100).1 a0 a1 a2 a3
theorem fV_F_makeMember (a0 : Int32) (a1 : Int32) (a2 : Int32) (a3 : TS) : FV a3 (F_makeMember a0 a1 a2 a3) := (fV_G_fill 100).2 a0 a1 a2 a3
theorem t_fillV {σ s : TS} {x y z : Int32} {r : Unit} {V : Nat} (h : F_fill x y z σ = some (r, s)) (h7 : tI σ 107 = nI V) (hV : V ≤ 96) : ∃ v, v ≤ 96 ∧ tI s 107 = nI v := fV_F_fill _ _ _ _ _ _ h ⟨V, hV, h7⟩
