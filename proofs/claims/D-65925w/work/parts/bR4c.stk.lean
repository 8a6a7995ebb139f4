/-! Layer B: a fault stays (the twin alone) -/
set_option maxRecDepth 100000
def Sb (σ σ' : TS) : Prop := ¬ tI σ 0 = 0 → ¬ tI σ' 0 = 0
theorem Sb.rf (σ : TS) : Sb σ σ := fun h => h
theorem Sb.tr {σ1 σ2 σ3 : TS} (h : Sb σ1 σ2) (g : Sb σ2 σ3) : Sb σ1 σ3 := fun z => g (h z)
theorem Sb.p_tsI {σ s : TS} (h : Sb σ s) {k : Nat} {v : Int32} (hk : k ≠ 0) : Sb σ (tsI s k v) := fun z y => h z (by rw [tI_tsI, if_neg (fun q => hk q.symm)] at y; exact y)
theorem Sb.p_tsL {σ s : TS} (h : Sb σ s) {k : Nat} {v : Int64} : Sb σ (tsL s k v) := h
theorem Sb.p_tsB {σ s : TS} (h : Sb σ s) {k i : Nat} {v : Int64} : Sb σ (tsB s k i v) := h
theorem Sb.p_tsA {σ s : TS} (h : Sb σ s) {k i : Nat} {v : Int32} : Sb σ (tsA s k i v) := h
def SB {α : Type} (σ0 : TS) (o : Option (α × TS)) : Prop := ∀ r σ', o = some (r, σ') → Sb σ0 σ'
theorem SB.of {α : Type} {S : List Nat} {σ0 : TS} {o : Option (α × TS)} (h : FS S σ0 o) (hS : S.contains 0 = false) : SB σ0 o := fun r σ' e z y => z (((h r σ' e 0 hS).1).symm.trans y)
theorem SB.none {α : Type} {σ0 : TS} : SB σ0 (none : Option (α × TS)) := fun _ _ h => by cases h
theorem SB.some {α : Type} {σ0 σ : TS} {r : α} (h : Sb σ0 σ) : SB σ0 (some (r, σ)) := fun _ _ e => by cases e; exact h
theorem SB.ite {α : Type} {σ0 : TS} {c : Prop} [Decidable c] {a b : Option (α × TS)} (h1 : SB σ0 a) (h2 : SB σ0 b) : SB σ0 (if c then a else b) := by
  split
  · exact h1
  · exact h2
theorem SB.nmT {β : Type} {σ0 x : TS} {f : TS → Option (β × TS)} (hx : Sb σ0 x) (h : ∀ s, Sb σ0 s → SB σ0 (f s)) : SB σ0 (nm x f) := h x hx
theorem SB.nmV {α β : Type} {σ0 : TS} {x : α} {f : α → Option (β × TS)} (h : ∀ v, SB σ0 (f v)) : SB σ0 (nm x f) := h x
theorem SB.call {β : Type} {σ0 s : TS} {o : Option (β × TS)} (hs : Sb σ0 s) (h1 : SB s o) : SB σ0 o := fun r σ' e => hs.tr (h1 r σ' e)
theorem SB.ob {α β : Type} {σ0 s : TS} {o : Option (α × TS)} {k : α → TS → Option (β × TS)} (hs : Sb σ0 s) (h1 : SB s o) (h2 : ∀ r s', Sb σ0 s' → SB σ0 (k r s')) : SB σ0 (ob o k) := by
  intro r σ' e
  obtain ⟨a, t, e1, e2⟩ := obE e
  exact h2 a t (hs.tr (h1 a t e1)) r σ' e2
theorem SBobq {α β : Type} {σ0 : TS} {o : Option (α × TS)} {k : α → TS → Option (β × TS)} (h2 : ∀ r s', o = some (r, s') → SB σ0 (k r s')) : SB σ0 (ob o k) := by
  intro r σ' e
  obtain ⟨a, t, e1, e2⟩ := obE e
  exact h2 a t e1 r σ' e2
theorem SB.obS {α ρ β : Type} {σ0 s : TS} {o : Option ((α ⊕ ρ) × TS)} {kr : ρ → TS → Option (β × TS)} {k : α → TS → Option (β × TS)} (hs : Sb σ0 s) (h1 : SB s o) (h3 : ∀ r s', Sb σ0 s' → SB σ0 (kr r s')) (h2 : ∀ r s', Sb σ0 s' → SB σ0 (k r s')) : SB σ0 (obS o kr k) := by
  intro r σ' e
  rcases obSE e with ⟨a, t, e1, e2⟩ | ⟨a, t, e1, e2⟩
  · exact h2 a t (hs.tr (h1 _ t e1)) r σ' e2
  · exact h3 a t (hs.tr (h1 _ t e1)) r σ' e2
theorem sB_F_bad (x1 x2 : Int32) (σ : TS) : SB σ (F_bad x1 x2 σ) := by
  intro r σ' e z
  unfold F_bad at e
  rw [if_neg z] at e
  cases e; exact z
theorem sB_F_fit (x1 : Int64) (σ : TS)  : SB σ (F_fit x1 σ) := by
  unfold F_fit
  exact SB.ite (SB.ob (Sb.rf _) (sB_F_bad _ _ _ ) fun r2 s1 h_s1 =>
     SB.some h_s1)
    (SB.ite (SB.some (Sb.rf _))
     (SB.ob (Sb.rf _) (sB_F_bad _ _ _ ) fun r6 s5 h_s5 =>
      SB.some h_s5))
theorem sB_F_root (x1 : Int32) (σ : TS)  : SB σ (F_root x1 σ) := by
  unfold F_root
  exact SB.ite (SB.nmV fun v1 =>
     SB.ob (Sb.rf _) (SB.of (fS_L_root_27  _ _ _ _ _) (by decide)) fun q5 s6 h_s6 =>
     SB.ob h_s6 (sB_F_fit _ _ ) fun r9 s8 h_s8 =>
     SB.some h_s8)
    (SB.ob (Sb.rf _) (sB_F_bad _ _ _ ) fun r14 s13 h_s13 =>
     SB.some h_s13)
theorem sB_F_times (x1 : Int32) (x2 : Int32) (σ : TS)  : SB σ (F_times x1 x2 σ) := by
  unfold F_times
  exact SB.ob (Sb.rf _) (sB_F_fit _ _ ) fun r2 s1 h_s1 =>
    SB.some h_s1
theorem sB_F_over (x1 : Int32) (x2 : Int32) (σ : TS)  : SB σ (F_over x1 x2 σ) := by
  unfold F_over
  exact SB.ite (SB.ob (Sb.rf _) (sB_F_bad _ _ _ ) fun r7 s6 h_s6 =>
     SB.some h_s6)
    (SB.ite (SB.ob (Sb.rf _) (sB_F_fit _ _ ) fun r3 s2 h_s2 =>
      SB.some h_s2)
     (SB.none))
theorem sB_L_chainValue_8 (cf_worth : Int32 → Int32 → TS → Option (Int32 × TS)) (hcf_worth : ∀ (a0 : Int32) (a1 : Int32) (a2 : TS), SB a2 (cf_worth a0 a1 a2)) : ∀ (n : Nat) (x2 : Int32) (x3 : Int32) (x4 : Int32) (σ : TS), SB σ (L_chainValue_8 cf_worth n x2 x3 x4 σ)
  | 0, _, _, _, _ => SB.none
  | n + 1, x2, x3, x4, σ => by
    rw [L_chainValue_8]
    exact SB.ite (SB.ob (Sb.rf _) (SB.of (fS_F_isArithmetic _ _ ) (by decide)) fun r4 s3 h_s3 =>
       SB.ite (SB.some h_s3)
       (SB.ite (SB.nmT (Sb.p_tsA h_s3) fun s8 h_s8 =>
         SB.nmT (Sb.p_tsI h_s8 (by decide)) fun s9 h_s9 =>
         SB.ite (SB.nmV fun v11 =>
          SB.call h_s9 (sB_L_chainValue_8 _ hcf_worth _ _ _ _ _))
         (SB.none))
        (SB.none)))
      (SB.none)
theorem sB_L_chainValue_63 (cf_worth : Int32 → Int32 → TS → Option (Int32 × TS)) (hcf_worth : ∀ (a0 : Int32) (a1 : Int32) (a2 : TS), SB a2 (cf_worth a0 a1 a2)) : ∀ (n : Nat) (x2 : Int32) (x3 : Int32) (x5 : Int32) (σ : TS), SB σ (L_chainValue_63 cf_worth n x2 x3 x5 σ)
  | 0, _, _, _, _ => SB.none
  | n + 1, x2, x3, x5, σ => by
    rw [L_chainValue_63]
    exact SB.ite (SB.some (Sb.rf _))
      (SB.nmT (Sb.p_tsI (Sb.rf _) (by decide)) fun s20 h_s20 =>
       SB.ite (SB.nmV fun v22 =>
        SB.ob h_s20 (SB.of (fS_F_isBad _ ) (by decide)) fun r24 s23 h_s23 =>
        SB.ite (SB.ite (SB.ob h_s23 (hcf_worth _ _ _) fun r29 s28 h_s28 =>
          SB.ob h_s28 (SB.of (fS_F_isBad _ ) (by decide)) fun r33 s32 h_s32 =>
          SB.ite (SB.ite (SB.nmV fun v37 =>
            SB.ite (SB.ob h_s32 (sB_F_fit _ _ ) fun r53 s52 h_s52 =>
             SB.call h_s52 (sB_L_chainValue_63 _ hcf_worth _ _ _ _ _))
            (SB.ite (SB.ob h_s32 (sB_F_fit _ _ ) fun r48 s47 h_s47 =>
              SB.call h_s47 (sB_L_chainValue_63 _ hcf_worth _ _ _ _ _))
             (SB.ite (SB.ob h_s32 (sB_F_times _ _ _ ) fun r43 s42 h_s42 =>
               SB.call h_s42 (sB_L_chainValue_63 _ hcf_worth _ _ _ _ _))
              (SB.ob h_s32 (sB_F_over _ _ _ ) fun r39 s38 h_s38 =>
               SB.call h_s38 (sB_L_chainValue_63 _ hcf_worth _ _ _ _ _)))))
           (SB.none))
          (SB.call h_s32 (sB_L_chainValue_63 _ hcf_worth _ _ _ _ _)))
         (SB.none))
        (SB.call h_s23 (sB_L_chainValue_63 _ hcf_worth _ _ _ _ _)))
       (SB.none))
theorem sB_B_chainValue (cf_worth : Int32 → Int32 → TS → Option (Int32 × TS)) (x1 : Int32) (x2 : Int32) (σ : TS) (hcf_worth : ∀ (a0 : Int32) (a1 : Int32) (a2 : TS), SB a2 (cf_worth a0 a1 a2)) : SB σ (B_chainValue cf_worth x1 x2 σ) := by
  unfold B_chainValue
  exact SB.nmV fun v1 =>
    SB.ob (Sb.rf _) (sB_L_chainValue_8 _ hcf_worth _ _ _ _ _) fun q13 s14 h_s14 =>
    SB.ob h_s14 (hcf_worth _ _ _) fun r17 s16 h_s16 =>
    SB.ob h_s16 (sB_L_chainValue_63 _ hcf_worth _ _ _ _ _) fun q60 s61 h_s61 =>
    SB.some h_s61
theorem sB_B_finds (cf_worth : Int32 → Int32 → TS → Option (Int32 × TS)) (x1 : Int32) (x2 : Int32) (σ : TS) (hcf_worth : ∀ (a0 : Int32) (a1 : Int32) (a2 : TS), SB a2 (cf_worth a0 a1 a2)) : SB σ (B_finds cf_worth x1 x2 σ) := by
  unfold B_finds
  exact SB.ite (SB.ob (Sb.rf _) (hcf_worth _ _ _) fun r3 s2 h_s2 =>
     SB.ite (SB.ob h_s2 (hcf_worth _ _ _) fun r8 s7 h_s7 =>
      SB.ob h_s7 (SB.of (fS_F_isBad _ ) (by decide)) fun r12 s11 h_s11 =>
      SB.ite (SB.ite (SB.ob h_s11 (SB.of (fS_F_compare _ _ _ _ ) (by decide)) fun r17 s16 h_s16 =>
        SB.ite (SB.some h_s16)
        (SB.some h_s16))
       (SB.none))
      (SB.some h_s11))
     (SB.none))
    (SB.none)
theorem sB_B_holds (cf_holds : Int32 → Int32 → TS → Option (Int32 × TS)) (cf_finds : Int32 → Int32 → TS → Option (Int32 × TS)) (x1 : Int32) (x2 : Int32) (σ : TS) (hcf_holds : ∀ (a0 : Int32) (a1 : Int32) (a2 : TS), SB a2 (cf_holds a0 a1 a2)) (hcf_finds : ∀ (a0 : Int32) (a1 : Int32) (a2 : TS), SB a2 (cf_finds a0 a1 a2)) : SB σ (B_holds cf_holds cf_finds x1 x2 σ) := by
  unfold B_holds
  exact SB.ob (Sb.rf _) (SB.of (fS_F_isBad _ ) (by decide)) fun r2 s1 h_s1 =>
    SB.ite (SB.ite (SB.ite (SB.ite (SB.ite (SB.ite (SB.some h_s1)
         (SB.none))
        (SB.none))
       (SB.ob h_s1 (hcf_finds _ _ _) fun r8 s7 h_s7 =>
        SB.some h_s7))
      (SB.ite (SB.ite (SB.ob h_s1 (hcf_holds _ _ _) fun r18 s17 h_s17 =>
         SB.ite (SB.ob h_s17 (hcf_holds _ _ _) fun r23 s22 h_s22 =>
          SB.ite (SB.some h_s22)
          (SB.ite (SB.some h_s22)
           (SB.some h_s22)))
         (SB.none))
        (SB.none))
       (SB.ite (SB.ite (SB.ob h_s1 (hcf_holds _ _ _) fun r31 s30 h_s30 =>
          SB.ite (SB.ob h_s30 (hcf_holds _ _ _) fun r36 s35 h_s35 =>
           SB.ite (SB.ite (SB.some h_s35)
            (SB.some h_s35))
           (SB.some h_s35))
          (SB.none))
         (SB.none))
        (SB.ite (SB.ite (SB.ob h_s1 (hcf_holds _ _ _) fun r44 s43 h_s43 =>
           SB.ite (SB.ob h_s43 (SB.of (fS_F_isBad _ ) (by decide)) fun r48 s47 h_s47 =>
            SB.ite (SB.some h_s47)
            (SB.some h_s47))
           (SB.some h_s43))
          (SB.none))
         (SB.ite (SB.ite (SB.ite (SB.some h_s1)
            (SB.none))
           (SB.none))
          (SB.ob h_s1 (hcf_finds _ _ _) fun r58 s57 h_s57 =>
           SB.some h_s57))))))
     (SB.none))
    (SB.some h_s1)
theorem sB_B_parameter (cf_worth : Int32 → Int32 → TS → Option (Int32 × TS)) (x1 : Int32) (σ : TS) (hcf_worth : ∀ (a0 : Int32) (a1 : Int32) (a2 : TS), SB a2 (cf_worth a0 a1 a2)) : SB σ (B_parameter cf_worth x1 σ) := by
  unfold B_parameter
  exact SB.ite (SB.ite (SB.some (Sb.rf _))
     (SB.ob (Sb.rf _) (SB.of (fS_F_isBad _ ) (by decide)) fun r3 s2 h_s2 =>
      SB.ite (SB.ite (SB.ite (SB.ob h_s2 (sB_F_bad _ _ _ ) fun r34 s33 h_s33 =>
         SB.some h_s33)
        (SB.ite (SB.ob h_s2 (sB_F_bad _ _ _ ) fun r29 s28 h_s28 =>
          SB.some h_s28)
         (SB.nmT (Sb.p_tsI h_s2 (by decide)) fun s7 h_s7 =>
          SB.ite (SB.nmT (Sb.p_tsA h_s7) fun s9 h_s9 =>
           SB.ite (SB.ite (SB.ite (SB.ite (SB.nmT (Sb.p_tsA h_s9) fun s23 h_s23 =>
               SB.ite (SB.nmT (Sb.p_tsA h_s23) fun s25 h_s25 =>
                SB.nmT (Sb.p_tsI h_s25 (by decide)) fun s26 h_s26 =>
                SB.some h_s26)
               (SB.none))
              (SB.none))
             (SB.none))
            (SB.ite (SB.ob h_s9 (hcf_worth _ _ _) fun r13 s12 h_s12 =>
              SB.ite (SB.nmT (Sb.p_tsA h_s12) fun s17 h_s17 =>
               SB.ite (SB.nmT (Sb.p_tsA h_s17) fun s19 h_s19 =>
                SB.nmT (Sb.p_tsI h_s19 (by decide)) fun s20 h_s20 =>
                SB.some h_s20)
               (SB.none))
              (SB.none))
             (SB.none)))
           (SB.none))
          (SB.none))))
       (SB.none))
      (SB.some h_s2)))
    (SB.none)
theorem sB_B_valueOf (cf_parameter : Int32 → TS → Option (Unit × TS)) (x1 : Int32) (σ : TS) (hcf_parameter : ∀ (a0 : Int32) (a1 : TS), SB a1 (cf_parameter a0 a1)) : SB σ (B_valueOf cf_parameter x1 σ) := by
  unfold B_valueOf
  exact SB.ite (SB.ite (SB.ite (SB.ite (SB.ite (SB.some (Sb.rf _))
        (SB.none))
       (SB.ob (Sb.rf _) (hcf_parameter _ _) fun r19 s18 h_s18 =>
        SB.ite (SB.some h_s18)
        (SB.none)))
      (SB.none))
     (SB.ite (SB.ite (SB.ite (SB.some (Sb.rf _))
        (SB.none))
       (SB.ite (SB.nmV fun v4 =>
         SB.ite (SB.ite (SB.ite (SB.ite (SB.nmV fun v8 =>
             SB.ite (SB.ite (SB.some (Sb.rf _))
              (SB.some (Sb.rf _)))
             (SB.none))
            (SB.none))
           (SB.none))
          (SB.ite (SB.ite (SB.some (Sb.rf _))
            (SB.some (Sb.rf _)))
           (SB.none)))
         (SB.none))
        (SB.none)))
      (SB.none)))
    (SB.none)
theorem sB_B_worth (cf_valueOf : Int32 → TS → Option (Int32 × TS)) (cf_worth : Int32 → Int32 → TS → Option (Int32 × TS)) (cf_holds : Int32 → Int32 → TS → Option (Int32 × TS)) (cf_chainValue : Int32 → Int32 → TS → Option (Int32 × TS)) (x1 : Int32) (x2 : Int32) (σ : TS) (hcf_valueOf : ∀ (a0 : Int32) (a1 : TS), SB a1 (cf_valueOf a0 a1)) (hcf_worth : ∀ (a0 : Int32) (a1 : Int32) (a2 : TS), SB a2 (cf_worth a0 a1 a2)) (hcf_holds : ∀ (a0 : Int32) (a1 : Int32) (a2 : TS), SB a2 (cf_holds a0 a1 a2)) (hcf_chainValue : ∀ (a0 : Int32) (a1 : Int32) (a2 : TS), SB a2 (cf_chainValue a0 a1 a2)) : SB σ (B_worth cf_valueOf cf_worth cf_holds cf_chainValue x1 x2 σ) := by
  unfold B_worth
  exact SB.ob (Sb.rf _) (SB.of (fS_F_isBad _ ) (by decide)) fun r2 s1 h_s1 =>
    SB.ite (SB.ite (SB.ite (SB.ite (SB.some h_s1)
       (SB.none))
      (SB.ite (SB.some h_s1)
       (SB.ite (SB.ite (SB.ob h_s1 (hcf_valueOf _ _) fun r12 s11 h_s11 =>
          SB.some h_s11)
         (SB.none))
        (SB.ite (SB.ite (SB.ob h_s1 (SB.of (fS_F_derOf _ _ ) (by decide)) fun r18 s17 h_s17 =>
           SB.some h_s17)
          (SB.none))
         (SB.ite (SB.ite (SB.ob h_s1 (SB.of (fS_F_preOf _ _ ) (by decide)) fun r24 s23 h_s23 =>
            SB.some h_s23)
           (SB.none))
          (SB.ite (SB.ob h_s1 (hcf_chainValue _ _ _) fun r29 s28 h_s28 =>
            SB.some h_s28)
           (SB.ite (SB.ob h_s1 (hcf_chainValue _ _ _) fun r34 s33 h_s33 =>
             SB.some h_s33)
            (SB.ite (SB.ite (SB.ob h_s1 (hcf_worth _ _ _) fun r40 s39 h_s39 =>
               SB.some h_s39)
              (SB.none))
             (SB.ite (SB.ob h_s1 (hcf_chainValue _ _ _) fun r45 s44 h_s44 =>
               SB.some h_s44)
              (SB.ite (SB.ob h_s1 (hcf_chainValue _ _ _) fun r50 s49 h_s49 =>
                SB.some h_s49)
               (SB.ite (SB.ite (SB.ob h_s1 (hcf_worth _ _ _) fun r56 s55 h_s55 =>
                  SB.ite (SB.some h_s55)
                  (SB.some h_s55))
                 (SB.none))
                (SB.ite (SB.ite (SB.ob h_s1 (hcf_worth _ _ _) fun r63 s62 h_s62 =>
                   SB.ob h_s62 (sB_F_root _ _ ) fun r67 s66 h_s66 =>
                   SB.some h_s66)
                  (SB.none))
                 (SB.ite (SB.ite (SB.ob h_s1 (hcf_worth _ _ _) fun r73 s72 h_s72 =>
                    SB.ite (SB.ite (SB.some h_s72)
                     (SB.some h_s72))
                    (SB.some h_s72))
                   (SB.none))
                  (SB.ite (SB.ite (SB.ob h_s1 (hcf_worth _ _ _) fun r81 s80 h_s80 =>
                     SB.ob h_s80 (sB_F_fit _ _ ) fun r85 s84 h_s84 =>
                     SB.some h_s84)
                    (SB.none))
                   (SB.ite (SB.ite (SB.ob h_s1 (hcf_worth _ _ _) fun r91 s90 h_s90 =>
                      SB.ite (SB.ob h_s90 (hcf_worth _ _ _) fun r96 s95 h_s95 =>
                       SB.some h_s95)
                      (SB.none))
                     (SB.none))
                    (SB.ite (SB.ite (SB.ob h_s1 (hcf_worth _ _ _) fun r102 s101 h_s101 =>
                       SB.ite (SB.ob h_s101 (hcf_worth _ _ _) fun r107 s106 h_s106 =>
                        SB.some h_s106)
                       (SB.none))
                      (SB.none))
                     (SB.ite (SB.ite (SB.ob h_s1 (hcf_holds _ _ _) fun r113 s112 h_s112 =>
                        SB.ite (SB.ite (SB.ob h_s112 (hcf_worth _ _ _) fun r118 s117 h_s117 =>
                          SB.some h_s117)
                         (SB.none))
                        (SB.ite (SB.ob h_s112 (hcf_worth _ _ _) fun r123 s122 h_s122 =>
                          SB.some h_s122)
                         (SB.none)))
                       (SB.none))
                      (SB.ite (SB.ob h_s1 (hcf_chainValue _ _ _) fun r129 s128 h_s128 =>
                        SB.some h_s128)
                       (SB.ite (SB.ob h_s1 (hcf_chainValue _ _ _) fun r134 s133 h_s133 =>
                         SB.some h_s133)
                        (SB.ite (SB.ob h_s1 (hcf_chainValue _ _ _) fun r139 s138 h_s138 =>
                          SB.some h_s138)
                         (SB.ite (SB.ob h_s1 (hcf_chainValue _ _ _) fun r144 s143 h_s143 =>
                           SB.some h_s143)
                          (SB.ite (SB.ob h_s1 (hcf_chainValue _ _ _) fun r149 s148 h_s148 =>
                            SB.some h_s148)
                           (SB.ite (SB.ob h_s1 (hcf_chainValue _ _ _) fun r154 s153 h_s153 =>
                             SB.some h_s153)
                            (SB.ite (SB.ob h_s1 (hcf_chainValue _ _ _) fun r159 s158 h_s158 =>
                              SB.some h_s158)
                             (SB.ite (SB.ob h_s1 (hcf_chainValue _ _ _) fun r164 s163 h_s163 =>
                               SB.some h_s163)
                              (SB.ite (SB.ob h_s1 (hcf_chainValue _ _ _) fun r169 s168 h_s168 =>
                                SB.some h_s168)
                               (SB.ite (SB.ob h_s1 (hcf_chainValue _ _ _) fun r174 s173 h_s173 =>
                                 SB.some h_s173)
                                (SB.ite (SB.ob h_s1 (hcf_chainValue _ _ _) fun r179 s178 h_s178 =>
                                  SB.some h_s178)
                                 (SB.ite (SB.ob h_s1 (hcf_chainValue _ _ _) fun r184 s183 h_s183 =>
                                   SB.some h_s183)
                                  (SB.ite (SB.ob h_s1 (hcf_chainValue _ _ _) fun r189 s188 h_s188 =>
                                    SB.some h_s188)
                                   (SB.ite (SB.ite (SB.ite (SB.some h_s1)
                                      (SB.none))
                                     (SB.none))
                                    (SB.ob h_s1 (hcf_chainValue _ _ _) fun r196 s195 h_s195 =>
                                     SB.some h_s195))))))))))))))))))))))))))))))))
     (SB.none))
    (SB.some h_s1)
theorem sB_G_chainValue : ∀ d : Nat, (∀ (a0 : Int32) (a1 : Int32) (a2 : TS), SB a2 ((G_chainValue d).1 a0 a1 a2)) ∧ (∀ (a0 : Int32) (a1 : Int32) (a2 : TS), SB a2 ((G_chainValue d).2.1 a0 a1 a2)) ∧ (∀ (a0 : Int32) (a1 : Int32) (a2 : TS), SB a2 ((G_chainValue d).2.2.1 a0 a1 a2)) ∧ (∀ (a0 : Int32) (a1 : TS), SB a1 ((G_chainValue d).2.2.2.1 a0 a1)) ∧ (∀ (a0 : Int32) (a1 : TS), SB a1 ((G_chainValue d).2.2.2.2.1 a0 a1)) ∧ (∀ (a0 : Int32) (a1 : Int32) (a2 : TS), SB a2 ((G_chainValue d).2.2.2.2.2 a0 a1 a2)) := by
  intro d
  induction d with
  | zero => exact ⟨fun _ _ _ => SB.none, fun _ _ _ => SB.none, fun _ _ _ => SB.none, fun _ _ => SB.none, fun _ _ => SB.none, fun _ _ _ => SB.none⟩
  | succ d ih => exact ⟨fun a0 a1 a2 => sB_B_chainValue _ a0 a1 a2 (fun b0 b1 b2 => ih.2.2.2.2.2 b0 b1 b2), fun a0 a1 a2 => sB_B_finds _ a0 a1 a2 (fun b0 b1 b2 => ih.2.2.2.2.2 b0 b1 b2), fun a0 a1 a2 => sB_B_holds _ _ a0 a1 a2 (fun b0 b1 b2 => ih.2.2.1 b0 b1 b2) (fun b0 b1 b2 => ih.2.1 b0 b1 b2), fun a0 a1 => sB_B_parameter _ a0 a1 (fun b0 b1 b2 => ih.2.2.2.2.2 b0 b1 b2), fun a0 a1 => sB_B_valueOf _ a0 a1 (fun b0 b1 => ih.2.2.2.1 b0 b1), fun a0 a1 a2 => sB_B_worth _ _ _ _ a0 a1 a2 (fun b0 b1 => ih.2.2.2.2.1 b0 b1) (fun b0 b1 b2 => ih.2.2.2.2.2 b0 b1 b2) (fun b0 b1 b2 => ih.2.2.1 b0 b1 b2) (fun b0 b1 b2 => ih.1 b0 b1 b2)⟩
theorem sB_F_holds (a0 : Int32) (a1 : Int32) (a2 : TS) : SB a2 (F_holds a0 a1 a2) := (sB_G_chainValue 1900).2.2.1 a0 a1 a2
theorem sB_F_parameter (a0 : Int32) (a1 : TS) : SB a1 (F_parameter a0 a1) := (sB_G_chainValue 1900).2.2.2.1 a0 a1
theorem sB_F_worth (a0 : Int32) (a1 : Int32) (a2 : TS) : SB a2 (F_worth a0 a1 a2) := (sB_G_chainValue 1900).2.2.2.2.2 a0 a1 a2
theorem sB_F_addEquation (x1 : Int32) (x2 : Int32) (σ : TS)  : SB σ (F_addEquation x1 x2 σ) := by
  unfold F_addEquation
  exact SB.ob (Sb.rf _) (SB.of (fS_F_isBad _ ) (by decide)) fun r2 s1 h_s1 =>
    SB.ite (SB.ite (SB.ob h_s1 (sB_F_bad _ _ _ ) fun r11 s10 h_s10 =>
      SB.some h_s10)
     (SB.ite (SB.nmT (Sb.p_tsA h_s1) fun s6 h_s6 =>
       SB.ite (SB.nmT (Sb.p_tsA h_s6) fun s8 h_s8 =>
        SB.nmT (Sb.p_tsI h_s8 (by decide)) fun s9 h_s9 =>
        SB.some h_s9)
       (SB.none))
      (SB.none)))
    (SB.some h_s1)
theorem sB_J_make_485 (x5 : Int32) (σ : TS)  : SB σ (J_make_485 x5 σ) := by
  unfold J_make_485
  exact SB.ite (SB.some (Sb.rf _))
    (SB.nmT (Sb.p_tsI (Sb.rf _) (by decide)) fun s23 h_s23 =>
     SB.ite (SB.some h_s23)
     (SB.ob h_s23 (sB_F_bad _ _ _ ) fun r25 s24 h_s24 =>
      SB.some h_s24))
theorem sB_J_make_433 (x5 : Int32) (x7 : Int32) (σ : TS)  : SB σ (J_make_433 x5 x7 σ) := by
  unfold J_make_433
  exact SB.ite (SB.nmT (Sb.p_tsA (Sb.rf _)) fun s20 h_s20 =>
     SB.ite (SB.ite (SB.call h_s20 (sB_J_make_485 _ _ ))
      (SB.nmT (Sb.p_tsI h_s20 (by decide)) fun s31 h_s31 =>
       SB.ite (SB.call h_s31 (sB_J_make_485 _ _ ))
       (SB.ob h_s31 (sB_F_bad _ _ _ ) fun r33 s32 h_s32 =>
        SB.call h_s32 (sB_J_make_485 _ _ ))))
     (SB.call h_s20 (sB_J_make_485 _ _ )))
    (SB.none)
theorem sB_J_make_312 (x3 : Int32) (x4 : Int32) (x5 : Int32) (σ : TS)  : SB σ (J_make_312 x3 x4 x5 σ) := by
  unfold J_make_312
  exact SB.ite (SB.ite (SB.nmV fun v18 =>
      SB.call (Sb.rf _) (sB_J_make_433 _ _ _ ))
     (SB.none))
    (SB.none)
theorem sB_J_make_428 (x5 : Int32) (y0 : Int32) (y1 : Int32) (σ : TS)  : SB σ (J_make_428 x5 y0 y1 σ) := by
  unfold J_make_428
  exact SB.nmV fun v44 =>
    SB.call (Sb.rf _) (sB_J_make_433 _ _ _ )
theorem sB_J_make_282 (x1 : Int32) (x2 : Int32) (x3 : Int32) (x4 : Int32) (x5 : Int32) (x6 : Int32) (σ : TS)  : SB σ (J_make_282 x1 x2 x3 x4 x5 x6 σ) := by
  unfold J_make_282
  exact SB.ite (SB.nmT (Sb.p_tsA (Sb.rf _)) fun s15 h_s15 =>
     SB.ite (SB.call h_s15 (sB_J_make_312 _ _ _ _ ))
     (SB.ite (SB.call h_s15 (sB_J_make_312 _ _ _ _ ))
      (SB.ite (SB.ite (SB.ite (SB.ite (SB.nmV fun v57 =>
           SB.call h_s15 (sB_J_make_433 _ _ _ ))
          (SB.none))
         (SB.none))
        (SB.none))
       (SB.ite (SB.call h_s15 (sB_J_make_433 _ _ _ ))
        (SB.ite (SB.call h_s15 (sB_J_make_433 _ _ _ ))
         (SB.ite (SB.call h_s15 (sB_J_make_433 _ _ _ ))
          (SB.ite (SB.call h_s15 (sB_J_make_433 _ _ _ ))
           (SB.ite (SB.call h_s15 (sB_J_make_433 _ _ _ ))
            (SB.ite (SB.call h_s15 (sB_J_make_433 _ _ _ ))
             (SB.ite (SB.call h_s15 (sB_J_make_433 _ _ _ ))
              (SB.ite (SB.ob h_s15 (SB.of (fS_F_isTwo _ _ ) (by decide)) fun r41 s40 h_s40 =>
                SB.ite (SB.call h_s40 (sB_J_make_428 _ _ _ _ ))
                (SB.ite (SB.call h_s40 (sB_J_make_428 _ _ _ _ ))
                 (SB.none)))
               (SB.none))))))))))))
    (SB.none)
theorem sB_J_make_145 (x1 : Int32) (x2 : Int32) (x3 : Int32) (x4 : Int32) (x5 : Int32) (x6 : Int32) (σ : TS)  : SB σ (J_make_145 x1 x2 x3 x4 x5 x6 σ) := by
  unfold J_make_145
  exact SB.ite (SB.ite (SB.nmV fun v13 =>
      SB.call (Sb.rf _) (sB_J_make_282 _ _ _ _ _ _ _ ))
     (SB.none))
    (SB.none)
theorem sB_J_make_202 (x1 : Int32) (x2 : Int32) (x3 : Int32) (x4 : Int32) (x5 : Int32) (x6 : Int32) (σ : TS)  : SB σ (J_make_202 x1 x2 x3 x4 x5 x6 σ) := by
  unfold J_make_202
  exact SB.ite (SB.nmV fun v62 =>
     SB.call (Sb.rf _) (sB_J_make_282 _ _ _ _ _ _ _ ))
    (SB.none)
theorem sB_J_make_263 (x1 : Int32) (x2 : Int32) (x3 : Int32) (x4 : Int32) (x5 : Int32) (x6 : Int32) (σ : TS)  : SB σ (J_make_263 x1 x2 x3 x4 x5 x6 σ) := by
  unfold J_make_263
  exact SB.ite (SB.ite (SB.nmV fun v65 =>
      SB.call (Sb.rf _) (sB_J_make_282 _ _ _ _ _ _ _ ))
     (SB.none))
    (SB.none)
theorem sB_F_make (x1 : Int32) (x2 : Int32) (x3 : Int32) (x4 : Int32) (σ : TS)  : SB σ (F_make x1 x2 x3 x4 σ) := by
  unfold F_make
  exact SB.ite (SB.ite (SB.ite (SB.ob (Sb.rf _) (sB_F_bad _ _ _ ) fun r90 s89 h_s89 =>
       SB.some h_s89)
      (SB.ob (Sb.rf _) (sB_F_bad _ _ _ ) fun r94 s93 h_s93 =>
       SB.some h_s93))
     (SB.ite (SB.ob (Sb.rf _) (sB_F_bad _ _ _ ) fun r100 s99 h_s99 =>
       SB.some h_s99)
      (SB.ob (Sb.rf _) (sB_F_bad _ _ _ ) fun r104 s103 h_s103 =>
       SB.some h_s103)))
    (SB.nmV fun v1 =>
     SB.nmT (Sb.p_tsI (Sb.rf _) (by decide)) fun s2 h_s2 =>
     SB.ite (SB.nmT (Sb.p_tsA h_s2) fun s4 h_s4 =>
      SB.ite (SB.nmT (Sb.p_tsA h_s4) fun s6 h_s6 =>
       SB.ite (SB.nmT (Sb.p_tsA h_s6) fun s8 h_s8 =>
        SB.ite (SB.nmT (Sb.p_tsA h_s8) fun s10 h_s10 =>
         SB.ite (SB.call h_s10 (sB_J_make_145 _ _ _ _ _ _ _ ))
         (SB.ite (SB.call h_s10 (sB_J_make_145 _ _ _ _ _ _ _ ))
          (SB.ite (SB.call h_s10 (sB_J_make_145 _ _ _ _ _ _ _ ))
           (SB.ite (SB.call h_s10 (sB_J_make_145 _ _ _ _ _ _ _ ))
            (SB.ite (SB.call h_s10 (sB_J_make_145 _ _ _ _ _ _ _ ))
             (SB.ite (SB.call h_s10 (sB_J_make_145 _ _ _ _ _ _ _ ))
              (SB.ite (SB.call h_s10 (sB_J_make_145 _ _ _ _ _ _ _ ))
               (SB.ite (SB.call h_s10 (sB_J_make_145 _ _ _ _ _ _ _ ))
                (SB.ite (SB.call h_s10 (sB_J_make_202 _ _ _ _ _ _ _ ))
                 (SB.ite (SB.call h_s10 (sB_J_make_202 _ _ _ _ _ _ _ ))
                  (SB.ite (SB.call h_s10 (sB_J_make_202 _ _ _ _ _ _ _ ))
                   (SB.ite (SB.call h_s10 (sB_J_make_202 _ _ _ _ _ _ _ ))
                    (SB.ite (SB.call h_s10 (sB_J_make_202 _ _ _ _ _ _ _ ))
                     (SB.ite (SB.call h_s10 (sB_J_make_202 _ _ _ _ _ _ _ ))
                      (SB.ite (SB.ite (SB.ite (SB.ite (SB.nmV fun v71 =>
                           SB.call h_s10 (sB_J_make_282 _ _ _ _ _ _ _ ))
                          (SB.none))
                         (SB.none))
                        (SB.none))
                       (SB.ite (SB.call h_s10 (sB_J_make_263 _ _ _ _ _ _ _ ))
                        (SB.ite (SB.call h_s10 (sB_J_make_263 _ _ _ _ _ _ _ ))
                         (SB.call h_s10 (sB_J_make_282 _ _ _ _ _ _ _ )))))))))))))))))))
        (SB.none))
       (SB.none))
      (SB.none))
     (SB.none))
theorem sB_L_innerOf_19   : ∀ (n : Nat) (x2 : Int32) (x3 : Int32) (σ : TS), SB σ (L_innerOf_19  n x2 x3 σ)
  | 0, _, _, _ => SB.none
  | n + 1, x2, x3, σ => by
    rw [L_innerOf_19]
    exact SB.ite (SB.some (Sb.rf _))
      (SB.ite (SB.ob (Sb.rf _) (SB.of (fS_F_memberOf _ _ _ ) (by decide)) fun r8 s7 h_s7 =>
        SB.ite (SB.ite (SB.nmV fun v12 =>
          SB.call h_s7 (sB_L_innerOf_19  _ _ _ _))
         (SB.none))
        (SB.ite (SB.ite (SB.ite (SB.ite (SB.nmV fun v46 =>
             SB.call h_s7 (sB_L_innerOf_19  _ _ _ _))
            (SB.none))
           (SB.ite (SB.nmV fun v16 =>
             SB.ite (SB.ite (SB.ite (SB.ite (SB.ite (SB.ite (SB.ite (SB.ite (SB.ite (SB.ob h_s7 (sB_F_bad _ _ _ ) fun r38 s37 h_s37 =>
                      SB.some h_s37)
                     (SB.some h_s7))
                    (SB.ite (SB.ob h_s7 (sB_F_bad _ _ _ ) fun r33 s32 h_s32 =>
                      SB.some h_s32)
                     (SB.some h_s7)))
                   (SB.none))
                  (SB.none))
                 (SB.ite (SB.ob h_s7 (sB_F_bad _ _ _ ) fun r26 s25 h_s25 =>
                   SB.some h_s25)
                  (SB.some h_s7)))
                (SB.none))
               (SB.ite (SB.ob h_s7 (sB_F_bad _ _ _ ) fun r20 s19 h_s19 =>
                 SB.some h_s19)
                (SB.some h_s7)))
              (SB.none))
             (SB.none))
            (SB.none)))
          (SB.none))
         (SB.none)))
       (SB.none))
theorem sB_F_innerOf (x1 : Int32) (σ : TS)  : SB σ (F_innerOf x1 σ) := by
  unfold F_innerOf
  exact SB.ite (SB.nmV fun v2 =>
     SB.ite (SB.ite (SB.nmV fun v5 =>
       SB.obS (Sb.rf _) (sB_L_innerOf_19  _ _ _ _) (fun r58 s51 h_s51 => SB.some h_s51) fun q50 s51 h_s51 =>
       SB.ob h_s51 (sB_F_bad _ _ _ ) fun r54 s53 h_s53 =>
       SB.some h_s53)
      (SB.none))
     (SB.none))
    (SB.none)
theorem sB_J_resolve_198_20 (rec : Int32 → Int32 → TS → Option ((Unit ⊕ Unit) × TS)) (x4 : Int32) (x5 : Int32) (x6 : Int32) (x7 : Int32) (x8 : Int32) (σ : TS) (hrec : ∀ (a0 : Int32) (a1 : Int32) (a2 : TS), SB a2 (rec a0 a1 a2)) : SB σ (J_resolve_198_20 rec x4 x5 x6 x7 x8 σ) := by
  unfold J_resolve_198_20
  exact SB.nmT (Sb.p_tsI (Sb.rf _) (by decide)) fun s24 h_s24 =>
    SB.ite (SB.ite (SB.ite (SB.ite (SB.ite (SB.ite (SB.nmT (Sb.p_tsI h_s24 (by decide)) fun s35 h_s35 =>
          SB.some h_s35)
         (SB.nmT (Sb.p_tsI h_s24 (by decide)) fun s36 h_s36 =>
          SB.some h_s36))
        (SB.none))
       (SB.ob h_s24 (sB_F_bad _ _ _ ) fun r39 s38 h_s38 =>
        SB.some h_s38))
      (SB.none))
     (SB.ob h_s24 (SB.of (fS_F_instanceOf _ _ _ ) (by decide)) fun r27 s26 h_s26 =>
      SB.nmT (Sb.p_tsI h_s26 (by decide)) fun s30 h_s30 =>
      SB.ite (SB.nmV fun v32 =>
       SB.call h_s30 (hrec _ _ _))
      (SB.none)))
    (SB.none)
theorem sB_J_resolve_170_20 (rec : Int32 → Int32 → TS → Option ((Unit ⊕ Unit) × TS)) (x4 : Int32) (x5 : Int32) (x6 : Int32) (x7 : Int32) (y0 : Int32) (σ : TS) (hrec : ∀ (a0 : Int32) (a1 : Int32) (a2 : TS), SB a2 (rec a0 a1 a2)) : SB σ (J_resolve_170_20 rec x4 x5 x6 x7 y0 σ) := by
  unfold J_resolve_170_20
  exact SB.ite (SB.call (Sb.rf _) (sB_J_resolve_198_20 _ _ _ _ _ _ _ hrec ))
    (SB.ite (SB.ob (Sb.rf _) (sB_F_bad _ _ _ ) fun r45 s44 h_s44 =>
      SB.some h_s44)
     (SB.ite (SB.call (Sb.rf _) (sB_J_resolve_198_20 _ _ _ _ _ _ _ hrec ))
      (SB.ob (Sb.rf _) (sB_F_bad _ _ _ ) fun r49 s48 h_s48 =>
       SB.some h_s48)))
theorem sB_J_resolve_144_20 (rec : Int32 → Int32 → TS → Option ((Unit ⊕ Unit) × TS)) (x4 : Int32) (x5 : Int32) (x6 : Int32) (x7 : Int32) (y0 : Int32) (y1 : Int32) (σ : TS) (hrec : ∀ (a0 : Int32) (a1 : Int32) (a2 : TS), SB a2 (rec a0 a1 a2)) : SB σ (J_resolve_144_20 rec x4 x5 x6 x7 y0 y1 σ) := by
  unfold J_resolve_144_20
  exact SB.ite (SB.ite (SB.call (Sb.rf _) (sB_J_resolve_170_20 _ _ _ _ _ _ _ hrec ))
     (SB.ob (Sb.rf _) (SB.of (fS_F_indexOf _ _ ) (by decide)) fun r56 s55 h_s55 =>
      SB.call h_s55 (sB_J_resolve_170_20 _ _ _ _ _ _ _ hrec )))
    (SB.ob (Sb.rf _) (sB_F_bad _ _ _ ) fun r61 s60 h_s60 =>
     SB.some h_s60)
theorem sB_J_resolve_134_20 (rec : Int32 → Int32 → TS → Option ((Unit ⊕ Unit) × TS)) (x4 : Int32) (x5 : Int32) (x6 : Int32) (x7 : Int32) (y0 : Int32) (σ : TS) (hrec : ∀ (a0 : Int32) (a1 : Int32) (a2 : TS), SB a2 (rec a0 a1 a2)) : SB σ (J_resolve_134_20 rec x4 x5 x6 x7 y0 σ) := by
  unfold J_resolve_134_20
  exact SB.ite (SB.call (Sb.rf _) (sB_J_resolve_144_20 _ _ _ _ _ _ _ _ hrec ))
    (SB.call (Sb.rf _) (sB_J_resolve_144_20 _ _ _ _ _ _ _ _ hrec ))
theorem sB_J_resolve_93_20 (rec : Int32 → Int32 → TS → Option ((Unit ⊕ Unit) × TS)) (x4 : Int32) (x5 : Int32) (σ : TS) (hrec : ∀ (a0 : Int32) (a1 : Int32) (a2 : TS), SB a2 (rec a0 a1 a2)) : SB σ (J_resolve_93_20 rec x4 x5 σ) := by
  unfold J_resolve_93_20
  exact SB.ob (Sb.rf _) (SB.of (fS_F_isBad _ ) (by decide)) fun r16 s15 h_s15 =>
    SB.ite (SB.ite (SB.nmV fun v20 =>
      SB.ite (SB.nmV fun v22 =>
       SB.ite (SB.ite (SB.call h_s15 (sB_J_resolve_134_20 _ _ _ _ _ _ _ hrec ))
        (SB.call h_s15 (sB_J_resolve_134_20 _ _ _ _ _ _ _ hrec )))
       (SB.none))
      (SB.none))
     (SB.none))
    (SB.some h_s15)
theorem sB_J_resolve_52_20 (rec : Int32 → Int32 → TS → Option ((Unit ⊕ Unit) × TS)) (x4 : Int32) (y0 : Int32) (σ : TS) (hrec : ∀ (a0 : Int32) (a1 : Int32) (a2 : TS), SB a2 (rec a0 a1 a2)) : SB σ (J_resolve_52_20 rec x4 y0 σ) := by
  unfold J_resolve_52_20
  exact SB.ite (SB.ite (SB.ite (SB.ite (SB.call (Sb.rf _) (sB_J_resolve_93_20 _ _ _ _ hrec ))
       (SB.ob (Sb.rf _) (sB_F_innerOf _ _ ) fun r69 s68 h_s68 =>
        SB.call h_s68 (sB_J_resolve_93_20 _ _ _ _ hrec )))
      (SB.none))
     (SB.none))
    (SB.ob (Sb.rf _) (sB_F_bad _ _ _ ) fun r74 s73 h_s73 =>
     SB.some h_s73)
theorem sB_L_resolve_20   : ∀ (n : Nat) (x3 : Int32) (x4 : Int32) (σ : TS), SB σ (L_resolve_20  n x3 x4 σ)
  | 0, _, _, _ => SB.none
  | n + 1, x3, x4, σ => by
    rw [L_resolve_20]
    exact SB.ite (SB.some (Sb.rf _))
      (SB.ob (Sb.rf _) (SB.of (fS_F_isBad _ ) (by decide)) fun r5 s4 h_s4 =>
       SB.ite (SB.ite (SB.ite (SB.ob h_s4 (SB.of (fS_F_memberOf _ _ _ ) (by decide)) fun r10 s9 h_s9 =>
          SB.call h_s9 (sB_J_resolve_52_20 _ _ _ _ (fun a0 a1 a2 => sB_L_resolve_20   _ a0 a1 a2) ))
         (SB.none))
        (SB.call h_s4 (sB_J_resolve_52_20 _ _ _ _ (fun a0 a1 a2 => sB_L_resolve_20   _ a0 a1 a2) )))
       (SB.some h_s4))
theorem sB_F_resolve (x1 : Int32) (x2 : Int32) (σ : TS)  : SB σ (F_resolve x1 x2 σ) := by
  unfold F_resolve
  exact SB.nmT (Sb.p_tsI (Sb.rf _) (by decide)) fun s1 h_s1 =>
    SB.nmT (Sb.p_tsI h_s1 (by decide)) fun s2 h_s2 =>
    SB.nmT (Sb.p_tsI h_s2 (by decide)) fun s3 h_s3 =>
    SB.obS h_s3 (sB_L_resolve_20  _ _ _ _) (fun r85 s82 h_s82 => SB.some h_s82) fun q81 s82 h_s82 =>
    SB.some h_s82
theorem sB_F_variableOf (x1 : Int32) (x2 : Int32) (σ : TS)  : SB σ (F_variableOf x1 x2 σ) := by
  unfold F_variableOf
  exact SB.ob (Sb.rf _) (sB_F_resolve _ _ _ ) fun r2 s1 h_s1 =>
    SB.ob h_s1 (SB.of (fS_F_isBad _ ) (by decide)) fun r6 s5 h_s5 =>
    SB.ite (SB.ite (SB.ob h_s5 (SB.of (fS_F_isBad _ ) (by decide)) fun r15 s14 h_s14 =>
      SB.ite (SB.some h_s14)
      (SB.some h_s14))
     (SB.ob h_s5 (sB_F_bad _ _ _ ) fun r20 s19 h_s19 =>
      SB.ob h_s19 (SB.of (fS_F_isBad _ ) (by decide)) fun r24 s23 h_s23 =>
      SB.ite (SB.some h_s23)
      (SB.some h_s23)))
    (SB.ob h_s5 (SB.of (fS_F_isBad _ ) (by decide)) fun r10 s9 h_s9 =>
     SB.ite (SB.some h_s9)
     (SB.some h_s9))
theorem sB_L_build_248 (cf_build : Int32 → Int32 → Int32 → Int32 → TS → Option (Int32 × TS)) (hcf_build : ∀ (a0 : Int32) (a1 : Int32) (a2 : Int32) (a3 : Int32) (a4 : TS), SB a4 (cf_build a0 a1 a2 a3 a4)) : ∀ (n : Nat) (x1 : Int32) (x6 : Int32) (x7 : Int32) (σ : TS), SB σ (L_build_248 cf_build n x1 x6 x7 σ)
  | 0, _, _, _, _ => SB.none
  | n + 1, x1, x6, x7, σ => by
    rw [L_build_248]
    exact SB.ite (SB.some (Sb.rf _))
      (SB.ite (SB.ite (SB.ite (SB.ite (SB.ite (SB.nmV fun v441 =>
            SB.nmV fun v442 =>
            SB.call (Sb.rf _) (sB_L_build_248 _ hcf_build _ _ _ _ _))
           (SB.none))
          (SB.nmV fun v439 =>
           SB.call (Sb.rf _) (sB_L_build_248 _ hcf_build _ _ _ _ _)))
         (SB.none))
        (SB.none))
       (SB.none))
theorem sB_L_build_695 (cf_build : Int32 → Int32 → Int32 → Int32 → TS → Option (Int32 × TS)) (hcf_build : ∀ (a0 : Int32) (a1 : Int32) (a2 : Int32) (a3 : Int32) (a4 : TS), SB a4 (cf_build a0 a1 a2 a3 a4)) : ∀ (n : Nat) (x1 : Int32) (x2 : Int32) (x3 : Int32) (x4 : Int32) (x6 : Int32) (x7 : Int32) (σ : TS), SB σ (L_build_695 cf_build n x1 x2 x3 x4 x6 x7 σ)
  | 0, _, _, _, _, _, _, _ => SB.none
  | n + 1, x1, x2, x3, x4, x6, x7, σ => by
    rw [L_build_695]
    exact SB.ite (SB.ite (SB.some (Sb.rf _))
       (SB.ite (SB.nmV fun v458 =>
         SB.nmV fun v459 =>
         SB.call (Sb.rf _) (sB_L_build_695 _ hcf_build _ _ _ _ _ _ _ _))
        (SB.none)))
      (SB.none)
theorem sB_J_build_21 (cf_build : Int32 → Int32 → Int32 → Int32 → TS → Option (Int32 × TS)) (x1 : Int32) (x2 : Int32) (x3 : Int32) (x4 : Int32) (σ : TS) (hcf_build : ∀ (a0 : Int32) (a1 : Int32) (a2 : Int32) (a3 : Int32) (a4 : TS), SB a4 (cf_build a0 a1 a2 a3 a4)) : SB σ (J_build_21 cf_build x1 x2 x3 x4 σ) := by
  unfold J_build_21
  exact SB.ob (Sb.rf _) (SB.of (fS_F_isBad _ ) (by decide)) fun r6 s5 h_s5 =>
    SB.ite (SB.ite (SB.nmV fun v10 =>
      SB.ite (SB.ite (SB.ob h_s5 (sB_F_make _ _ _ _ _ ) fun r14 s13 h_s13 =>
        SB.some h_s13)
       (SB.none))
      (SB.ite (SB.ite (SB.ob h_s5 (sB_F_make _ _ _ _ _ ) fun r20 s19 h_s19 =>
         SB.some h_s19)
        (SB.ob h_s5 (sB_F_bad _ _ _ ) fun r24 s23 h_s23 =>
         SB.ob h_s23 (sB_F_make _ _ _ _ _ ) fun r28 s27 h_s27 =>
         SB.some h_s27))
       (SB.ite (SB.ite (SB.ob h_s5 (sB_F_variableOf _ _ _ ) fun r35 s34 h_s34 =>
          SB.ob h_s34 (SB.of (fS_F_isBad _ ) (by decide)) fun r39 s38 h_s38 =>
          SB.ite (SB.ite (SB.ob h_s38 (sB_F_make _ _ _ _ _ ) fun r48 s47 h_s47 =>
            SB.some h_s47)
           (SB.ite (SB.ite (SB.ob h_s38 (sB_F_make _ _ _ _ _ ) fun r53 s52 h_s52 =>
              SB.some h_s52)
             (SB.ob h_s38 (sB_F_bad _ _ _ ) fun r57 s56 h_s56 =>
              SB.ob h_s56 (sB_F_make _ _ _ _ _ ) fun r61 s60 h_s60 =>
              SB.some h_s60))
            (SB.none)))
          (SB.ob h_s38 (sB_F_make _ _ _ _ _ ) fun r43 s42 h_s42 =>
           SB.some h_s42))
         (SB.none))
        (SB.ite (SB.ite (SB.ite (SB.ob h_s5 (sB_F_variableOf _ _ _ ) fun r71 s70 h_s70 =>
            SB.ob h_s70 (SB.of (fS_F_isBad _ ) (by decide)) fun r75 s74 h_s74 =>
            SB.ite (SB.ite (SB.ite (SB.ite (SB.ob h_s74 (sB_F_make _ _ _ _ _ ) fun r98 s97 h_s97 =>
                SB.some h_s97)
               (SB.ob h_s74 (sB_F_bad _ _ _ ) fun r102 s101 h_s101 =>
                SB.ob h_s101 (sB_F_make _ _ _ _ _ ) fun r106 s105 h_s105 =>
                SB.some h_s105))
              (SB.none))
             (SB.ite (SB.ite (SB.ob h_s74 (sB_F_bad _ _ _ ) fun r88 s87 h_s87 =>
                SB.ob h_s87 (sB_F_make _ _ _ _ _ ) fun r92 s91 h_s91 =>
                SB.some h_s91)
               (SB.ob h_s74 (sB_F_make _ _ _ _ _ ) fun r84 s83 h_s83 =>
                SB.some h_s83))
              (SB.none)))
            (SB.ob h_s74 (sB_F_make _ _ _ _ _ ) fun r79 s78 h_s78 =>
             SB.some h_s78))
           (SB.none))
          (SB.ob h_s5 (sB_F_bad _ _ _ ) fun r113 s112 h_s112 =>
           SB.some h_s112))
         (SB.ite (SB.ite (SB.ite (SB.ob h_s5 (sB_F_variableOf _ _ _ ) fun r121 s120 h_s120 =>
             SB.ob h_s120 (SB.of (fS_F_isBad _ ) (by decide)) fun r125 s124 h_s124 =>
             SB.ite (SB.ite (SB.ite (SB.ite (SB.ob h_s124 (sB_F_make _ _ _ _ _ ) fun r148 s147 h_s147 =>
                 SB.some h_s147)
                (SB.ob h_s124 (sB_F_bad _ _ _ ) fun r152 s151 h_s151 =>
                 SB.ob h_s151 (sB_F_make _ _ _ _ _ ) fun r156 s155 h_s155 =>
                 SB.some h_s155))
               (SB.none))
              (SB.ite (SB.ite (SB.ob h_s124 (sB_F_bad _ _ _ ) fun r138 s137 h_s137 =>
                 SB.ob h_s137 (sB_F_make _ _ _ _ _ ) fun r142 s141 h_s141 =>
                 SB.some h_s141)
                (SB.ob h_s124 (sB_F_make _ _ _ _ _ ) fun r134 s133 h_s133 =>
                 SB.some h_s133))
               (SB.none)))
             (SB.ob h_s124 (sB_F_make _ _ _ _ _ ) fun r129 s128 h_s128 =>
              SB.some h_s128))
            (SB.none))
           (SB.ob h_s5 (sB_F_bad _ _ _ ) fun r163 s162 h_s162 =>
            SB.some h_s162))
          (SB.ite (SB.ite (SB.ob h_s5 (hcf_build _ _ _ _ _) fun r170 s169 h_s169 =>
             SB.ite (SB.ob h_s169 (hcf_build _ _ _ _ _) fun r175 s174 h_s174 =>
              SB.ob h_s174 (sB_F_make _ _ _ _ _ ) fun r179 s178 h_s178 =>
              SB.some h_s178)
             (SB.none))
            (SB.none))
           (SB.ite (SB.ite (SB.ob h_s5 (hcf_build _ _ _ _ _) fun r185 s184 h_s184 =>
              SB.ite (SB.ob h_s184 (hcf_build _ _ _ _ _) fun r190 s189 h_s189 =>
               SB.ob h_s189 (sB_F_make _ _ _ _ _ ) fun r194 s193 h_s193 =>
               SB.some h_s193)
              (SB.none))
             (SB.none))
            (SB.ite (SB.ite (SB.ob h_s5 (hcf_build _ _ _ _ _) fun r200 s199 h_s199 =>
               SB.ob h_s199 (sB_F_make _ _ _ _ _ ) fun r204 s203 h_s203 =>
               SB.some h_s203)
              (SB.none))
             (SB.ite (SB.ite (SB.ob h_s5 (hcf_build _ _ _ _ _) fun r210 s209 h_s209 =>
                SB.ite (SB.ob h_s209 (hcf_build _ _ _ _ _) fun r215 s214 h_s214 =>
                 SB.ob h_s214 (sB_F_make _ _ _ _ _ ) fun r219 s218 h_s218 =>
                 SB.some h_s218)
                (SB.none))
               (SB.none))
              (SB.ite (SB.ite (SB.ob h_s5 (hcf_build _ _ _ _ _) fun r225 s224 h_s224 =>
                 SB.ite (SB.ob h_s224 (hcf_build _ _ _ _ _) fun r230 s229 h_s229 =>
                  SB.ob h_s229 (sB_F_make _ _ _ _ _ ) fun r234 s233 h_s233 =>
                  SB.some h_s233)
                 (SB.none))
                (SB.none))
               (SB.ite (SB.ite (SB.ob h_s5 (hcf_build _ _ _ _ _) fun r240 s239 h_s239 =>
                  SB.ob h_s239 (sB_F_make _ _ _ _ _ ) fun r244 s243 h_s243 =>
                  SB.some h_s243)
                 (SB.none))
                (SB.ite (SB.ite (SB.ob h_s5 (hcf_build _ _ _ _ _) fun r250 s249 h_s249 =>
                   SB.ob h_s249 (sB_F_make _ _ _ _ _ ) fun r254 s253 h_s253 =>
                   SB.some h_s253)
                  (SB.none))
                 (SB.ite (SB.ite (SB.ob h_s5 (hcf_build _ _ _ _ _) fun r260 s259 h_s259 =>
                    SB.ob h_s259 (sB_F_make _ _ _ _ _ ) fun r264 s263 h_s263 =>
                    SB.some h_s263)
                   (SB.none))
                  (SB.ite (SB.ite (SB.ob h_s5 (hcf_build _ _ _ _ _) fun r270 s269 h_s269 =>
                     SB.ob h_s269 (sB_F_make _ _ _ _ _ ) fun r274 s273 h_s273 =>
                     SB.some h_s273)
                    (SB.none))
                   (SB.ite (SB.ite (SB.ob h_s5 (hcf_build _ _ _ _ _) fun r280 s279 h_s279 =>
                      SB.ite (SB.ob h_s279 (hcf_build _ _ _ _ _) fun r285 s284 h_s284 =>
                       SB.ob h_s284 (sB_F_make _ _ _ _ _ ) fun r289 s288 h_s288 =>
                       SB.some h_s288)
                      (SB.none))
                     (SB.none))
                    (SB.ite (SB.ite (SB.ob h_s5 (hcf_build _ _ _ _ _) fun r295 s294 h_s294 =>
                       SB.ite (SB.ob h_s294 (hcf_build _ _ _ _ _) fun r300 s299 h_s299 =>
                        SB.ob h_s299 (sB_F_make _ _ _ _ _ ) fun r304 s303 h_s303 =>
                        SB.some h_s303)
                       (SB.none))
                      (SB.none))
                     (SB.ite (SB.ite (SB.ob h_s5 (hcf_build _ _ _ _ _) fun r310 s309 h_s309 =>
                        SB.ite (SB.ob h_s309 (hcf_build _ _ _ _ _) fun r315 s314 h_s314 =>
                         SB.ite (SB.ob h_s314 (hcf_build _ _ _ _ _) fun r320 s319 h_s319 =>
                          SB.ob h_s319 (sB_F_make _ _ _ _ _ ) fun r324 s323 h_s323 =>
                          SB.some h_s323)
                         (SB.none))
                        (SB.none))
                       (SB.none))
                      (SB.ite (SB.some h_s5)
                       (SB.ite (SB.some h_s5)
                        (SB.ite (SB.some h_s5)
                         (SB.ite (SB.ite (SB.ob h_s5 (hcf_build _ _ _ _ _) fun r333 s332 h_s332 =>
                            SB.ite (SB.ite (SB.ob h_s332 (hcf_build _ _ _ _ _) fun r339 s338 h_s338 =>
                              SB.ob h_s338 (sB_F_make _ _ _ _ _ ) fun r343 s342 h_s342 =>
                              SB.some h_s342)
                             (SB.none))
                            (SB.none))
                           (SB.none))
                          (SB.ite (SB.ite (SB.ob h_s5 (hcf_build _ _ _ _ _) fun r349 s348 h_s348 =>
                             SB.ite (SB.ob h_s348 (hcf_build _ _ _ _ _) fun r354 s353 h_s353 =>
                              SB.ob h_s353 (sB_F_make _ _ _ _ _ ) fun r358 s357 h_s357 =>
                              SB.some h_s357)
                             (SB.none))
                            (SB.none))
                           (SB.ite (SB.ite (SB.ob h_s5 (hcf_build _ _ _ _ _) fun r364 s363 h_s363 =>
                              SB.ite (SB.ob h_s363 (hcf_build _ _ _ _ _) fun r369 s368 h_s368 =>
                               SB.ob h_s368 (sB_F_make _ _ _ _ _ ) fun r373 s372 h_s372 =>
                               SB.some h_s372)
                              (SB.none))
                             (SB.none))
                            (SB.ite (SB.ite (SB.ob h_s5 (hcf_build _ _ _ _ _) fun r379 s378 h_s378 =>
                               SB.ob h_s378 (sB_F_make _ _ _ _ _ ) fun r383 s382 h_s382 =>
                               SB.some h_s382)
                              (SB.none))
                             (SB.ite (SB.ite (SB.ite (SB.ite (SB.ob h_s5 (sB_F_make _ _ _ _ _ ) fun r391 s390 h_s390 =>
                                  SB.some h_s390)
                                 (SB.none))
                                (SB.none))
                               (SB.ob h_s5 (sB_F_bad _ _ _ ) fun r395 s394 h_s394 =>
                                SB.ite (SB.ite (SB.ob h_s394 (sB_F_make _ _ _ _ _ ) fun r401 s400 h_s400 =>
                                  SB.some h_s400)
                                 (SB.none))
                                (SB.none)))
                              (SB.ite (SB.some h_s5)
                               (SB.ite (SB.some h_s5)
                                (SB.ite (SB.some h_s5)
                                 (SB.ite (SB.some h_s5)
                                  (SB.ite (SB.some h_s5)
                                   (SB.ite (SB.some h_s5)
                                    (SB.ite (SB.some h_s5)
                                     (SB.ite (SB.some h_s5)
                                      (SB.ite (SB.some h_s5)
                                       (SB.ite (SB.some h_s5)
                                        (SB.ite (SB.some h_s5)
                                         (SB.ite (SB.some h_s5)
                                          (SB.ite (SB.some h_s5)
                                           (SB.ite (SB.some h_s5)
                                            (SB.ite (SB.some h_s5)
                                             (SB.ite (SB.nmT (Sb.p_tsI h_s5 (by decide)) fun s421 h_s421 =>
                                               SB.nmV fun v422 =>
                                               SB.ite (SB.ite (SB.nmT (Sb.p_tsA h_s421) fun s425 h_s425 =>
                                                 SB.ite (SB.nmT (Sb.p_tsA h_s425) fun s427 h_s427 =>
                                                  SB.ite (SB.ite (SB.ob h_s427 (hcf_build _ _ _ _ _) fun r431 s430 h_s430 =>
                                                    SB.nmT (Sb.p_tsI h_s430 (by decide)) fun s434 h_s434 =>
                                                    SB.some h_s434)
                                                   (SB.none))
                                                  (SB.none))
                                                 (SB.none))
                                                (SB.none))
                                               (SB.none))
                                              (SB.ite (SB.ob h_s5 (sB_L_build_248 _ hcf_build _ _ _ _ _) fun q445 s446 h_s446 =>
                                                SB.ob h_s446 (sB_F_make _ _ _ _ _ ) fun r449 s448 h_s448 =>
                                                SB.some h_s448)
                                               (SB.ite (SB.ite (SB.nmV fun v455 =>
                                                  SB.ob h_s5 (sB_L_build_695 _ hcf_build _ _ _ _ _ _ _ _) fun q461 s462 h_s462 =>
                                                  SB.ite (SB.ite (SB.ob h_s462 (hcf_build _ _ _ _ _) fun r467 s466 h_s466 =>
                                                    SB.some h_s466)
                                                   (SB.none))
                                                  (SB.none))
                                                 (SB.none))
                                                (SB.some h_s5))))))))))))))))))))))))))))))))))))))))))))
     (SB.none))
    (SB.some h_s5)
theorem sB_B_build (cf_build : Int32 → Int32 → Int32 → Int32 → TS → Option (Int32 × TS)) (x1 : Int32) (x2 : Int32) (x3 : Int32) (x4 : Int32) (σ : TS) (hcf_build : ∀ (a0 : Int32) (a1 : Int32) (a2 : Int32) (a3 : Int32) (a4 : TS), SB a4 (cf_build a0 a1 a2 a3 a4)) : SB σ (B_build cf_build x1 x2 x3 x4 σ) := by
  unfold B_build
  exact SB.ob (Sb.rf _) (SB.of (fS_F_isBad _ ) (by decide)) fun r2 s1 h_s1 =>
    SB.ite (SB.ite (SB.call h_s1 (sB_J_build_21 _ _ _ _ _ _ hcf_build ))
     (SB.ob h_s1 (sB_F_bad _ _ _ ) fun r473 s472 h_s472 =>
      SB.call h_s472 (sB_J_build_21 _ _ _ _ _ _ hcf_build )))
    (SB.call h_s1 (sB_J_build_21 _ _ _ _ _ _ hcf_build ))
theorem sB_G_build : ∀ d : Nat, (∀ (a0 : Int32) (a1 : Int32) (a2 : Int32) (a3 : Int32) (a4 : TS), SB a4 ((G_build d) a0 a1 a2 a3 a4)) := by
  intro d
  induction d with
  | zero => exact fun _ _ _ _ _ => SB.none
  | succ d ih => exact fun a0 a1 a2 a3 a4 => sB_B_build _ a0 a1 a2 a3 a4 (fun b0 b1 b2 b3 b4 => ih b0 b1 b2 b3 b4)
theorem sB_F_build (a0 : Int32) (a1 : Int32) (a2 : Int32) (a3 : Int32) (a4 : TS) : SB a4 (F_build a0 a1 a2 a3 a4) := (sB_G_build 300) a0 a1 a2 a3 a4
theorem sB_L_checkActions_2   : ∀ (n : Nat) (x1 : Int32) (σ : TS), SB σ (L_checkActions_2  n x1 σ)
  | 0, _, _ => SB.none
  | n + 1, x1, σ => by
    rw [L_checkActions_2]
    exact SB.ite (SB.some (Sb.rf _))
      (SB.ite (SB.ite (SB.ite (SB.ob (Sb.rf _) (SB.of (fS_F_isDerived _ _ ) (by decide)) fun r5 s4 h_s4 =>
          SB.ite (SB.ob h_s4 (sB_F_bad _ _ _ ) fun r10 s9 h_s9 =>
           SB.nmV fun v13 =>
           SB.call h_s9 (sB_L_checkActions_2  _ _ _))
          (SB.nmV fun v8 =>
           SB.call h_s4 (sB_L_checkActions_2  _ _ _)))
         (SB.none))
        (SB.nmV fun v2 =>
         SB.call (Sb.rf _) (sB_L_checkActions_2  _ _ _)))
       (SB.none))
theorem sB_J_checkActions_84_49 (rec : Int32 → TS → Option (Unit × TS)) (x1 : Int32) (y0 : Int32) (σ : TS) (hrec : ∀ (a0 : Int32) (a1 : TS), SB a1 (rec a0 a1)) : SB σ (J_checkActions_84_49 rec x1 y0 σ) := by
  unfold J_checkActions_84_49
  exact SB.ob (Sb.rf _) (SB.of (fS_L_checkActions_90  _ _ _ _ _ _) (by decide)) fun q32 s33 h_s33 =>
    SB.ite (SB.ob h_s33 (sB_F_bad _ _ _ ) fun r37 s36 h_s36 =>
     SB.nmV fun v40 =>
     SB.call h_s36 (hrec _ _))
    (SB.ite (SB.ob h_s33 (sB_F_bad _ _ _ ) fun r43 s42 h_s42 =>
      SB.nmV fun v46 =>
      SB.call h_s42 (hrec _ _))
     (SB.nmV fun v41 =>
      SB.call h_s33 (hrec _ _)))
theorem sB_L_checkActions_49   : ∀ (n : Nat) (x1 : Int32) (σ : TS), SB σ (L_checkActions_49  n x1 σ)
  | 0, _, _ => SB.none
  | n + 1, x1, σ => by
    rw [L_checkActions_49]
    exact SB.ite (SB.some (Sb.rf _))
      (SB.ite (SB.ite (SB.ite (SB.ite (SB.call (Sb.rf _) (sB_J_checkActions_84_49 _ _ _ _ (fun a0 a1 => sB_L_checkActions_49   _ a0 a1) ))
          (SB.call (Sb.rf _) (sB_J_checkActions_84_49 _ _ _ _ (fun a0 a1 => sB_L_checkActions_49   _ a0 a1) )))
         (SB.none))
        (SB.nmV fun v51 =>
         SB.call (Sb.rf _) (sB_L_checkActions_49  _ _ _)))
       (SB.none))
theorem sB_F_checkActions (σ : TS)  : SB σ (F_checkActions σ) := by
  unfold F_checkActions
  exact SB.ob (Sb.rf _) (sB_L_checkActions_2  _ _ _) fun q17 s18 h_s18 =>
    SB.ob h_s18 (sB_L_checkActions_49  _ _ _) fun q54 s55 h_s55 =>
    SB.some h_s55
theorem sB_F_faceOf (x1 : Int32) (x2 : Int32) (σ : TS)  : SB σ (F_faceOf x1 x2 σ) := by
  unfold F_faceOf
  exact SB.ob (Sb.rf _) (sB_F_resolve _ _ _ ) fun r2 s1 h_s1 =>
    SB.ob h_s1 (SB.of (fS_F_isBad _ ) (by decide)) fun r6 s5 h_s5 =>
    SB.ite (SB.ite (SB.ob h_s5 (sB_F_bad _ _ _ ) fun r10 s9 h_s9 =>
      SB.some h_s9)
     (SB.ite (SB.ob h_s5 (sB_F_bad _ _ _ ) fun r14 s13 h_s13 =>
       SB.some h_s13)
      (SB.ite (SB.ite (SB.ite (SB.ite (SB.ite (SB.some h_s5)
           (SB.ite (SB.ite (SB.ob h_s5 (sB_F_bad _ _ _ ) fun r22 s21 h_s21 =>
              SB.some h_s21)
             (SB.ite (SB.ite (SB.ite (SB.some h_s5)
                (SB.ob h_s5 (sB_F_bad _ _ _ ) fun r28 s27 h_s27 =>
                 SB.some h_s27))
               (SB.none))
              (SB.none)))
            (SB.none)))
          (SB.none))
         (SB.ob h_s5 (sB_F_bad _ _ _ ) fun r35 s34 h_s34 =>
          SB.some h_s34))
        (SB.none))
       (SB.none))))
    (SB.some h_s5)
theorem sB_J_connect_25 (x4 : Int32) (y0 : Int32) (σ : TS)  : SB σ (J_connect_25 x4 y0 σ) := by
  unfold J_connect_25
  exact SB.ob (Sb.rf _) (SB.of (fS_F_isBad _ ) (by decide)) fun r14 s13 h_s13 =>
    SB.ite (SB.ite (SB.ob h_s13 (sB_F_bad _ _ _ ) fun r18 s17 h_s17 =>
      SB.some h_s17)
     (SB.ite (SB.ite (SB.ite (SB.ob h_s13 (SB.of (fS_F_headOf _ _ ) (by decide)) fun r24 s23 h_s23 =>
         SB.ob h_s23 (SB.of (fS_F_headOf _ _ ) (by decide)) fun r28 s27 h_s27 =>
         SB.ite (SB.nmT (Sb.p_tsA h_s27) fun s32 h_s32 =>
          SB.some h_s32)
         (SB.none))
        (SB.ob h_s13 (sB_F_bad _ _ _ ) fun r34 s33 h_s33 =>
         SB.some h_s33))
       (SB.none))
      (SB.none)))
    (SB.some h_s13)
theorem sB_F_connect (x1 : Int32) (x2 : Int32) (x3 : Int32) (σ : TS)  : SB σ (F_connect x1 x2 x3 σ) := by
  unfold F_connect
  exact SB.ob (Sb.rf _) (sB_F_faceOf _ _ _ ) fun r2 s1 h_s1 =>
    SB.ob h_s1 (SB.of (fS_F_isBad _ ) (by decide)) fun r6 s5 h_s5 =>
    SB.ite (SB.ob h_s5 (sB_F_faceOf _ _ _ ) fun r10 s9 h_s9 =>
     SB.call h_s9 (sB_J_connect_25 _ _ _ ))
    (SB.call h_s5 (sB_J_connect_25 _ _ _ ))
theorem sB_F_truth (x1 : Int32) (x2 : Int32) (σ : TS)  : SB σ (F_truth x1 x2 σ) := by
  unfold F_truth
  exact SB.nmV fun v2 =>
    SB.nmV fun v4 =>
    SB.nmT (Sb.p_tsI (Sb.rf _) (by decide)) fun s5 h_s5 =>
    SB.nmT (Sb.p_tsI h_s5 (by decide)) fun s6 h_s6 =>
    SB.nmT (Sb.p_tsI h_s6 (by decide)) fun s7 h_s7 =>
    SB.nmV fun v8 =>
    SB.ob h_s7 (sB_F_build  _ _ _ _ _) fun r10 s9 h_s9 =>
    SB.nmT (Sb.p_tsI h_s9 (by decide)) fun s13 h_s13 =>
    SB.nmT (Sb.p_tsI h_s13 (by decide)) fun s14 h_s14 =>
    SB.nmV fun v15 =>
    SB.ob h_s14 (SB.of (fS_F_isBad _ ) (by decide)) fun r17 s16 h_s16 =>
    SB.ite (SB.ob h_s16 (sB_F_holds  _ _ _) fun r23 s22 h_s22 =>
     SB.ite (SB.ite (SB.nmT (Sb.p_tsI h_s22 (by decide)) fun s26 h_s26 =>
       SB.some h_s26)
      (SB.some h_s22))
     (SB.ite (SB.nmT (Sb.p_tsI h_s22 (by decide)) fun s28 h_s28 =>
       SB.some h_s28)
      (SB.some h_s22)))
    (SB.ite (SB.nmT (Sb.p_tsI h_s16 (by decide)) fun s20 h_s20 =>
      SB.some h_s20)
     (SB.some h_s16))
theorem sB_J_when_229_69 (rec : Int32 → Int32 → Int32 → TS → Option ((Unit ⊕ Unit) × TS)) (x2 : Int32) (x3 : Int32) (x4 : Int32) (x5 : Int32) (σ : TS) (hrec : ∀ (a0 : Int32) (a1 : Int32) (a2 : Int32) (a3 : TS), SB a3 (rec a0 a1 a2 a3)) : SB σ (J_when_229_69 rec x2 x3 x4 x5 σ) := by
  unfold J_when_229_69
  exact SB.ite (SB.ob (Sb.rf _) (sB_F_build  _ _ _ _ _) fun r31 s30 h_s30 =>
     SB.ob h_s30 (SB.of (fS_F_isBad _ ) (by decide)) fun r35 s34 h_s34 =>
     SB.ite (SB.ite (SB.ite (SB.nmT (Sb.p_tsA h_s34) fun s40 h_s40 =>
        SB.ite (SB.nmT (Sb.p_tsA h_s40) fun s42 h_s42 =>
         SB.ite (SB.nmT (Sb.p_tsA h_s42) fun s44 h_s44 =>
          SB.nmT (Sb.p_tsI h_s44 (by decide)) fun s45 h_s45 =>
          SB.ite (SB.nmV fun v47 =>
           SB.call h_s45 (hrec _ _ _ _))
          (SB.none))
         (SB.none))
        (SB.none))
       (SB.none))
      (SB.none))
     (SB.some h_s34))
    (SB.none)
theorem sB_J_when_200_69 (rec : Int32 → Int32 → Int32 → TS → Option ((Unit ⊕ Unit) × TS)) (x2 : Int32) (x3 : Int32) (x4 : Int32) (x5 : Int32) (σ : TS) (hrec : ∀ (a0 : Int32) (a1 : Int32) (a2 : Int32) (a3 : TS), SB a3 (rec a0 a1 a2 a3)) : SB σ (J_when_200_69 rec x2 x3 x4 x5 σ) := by
  unfold J_when_200_69
  exact SB.ite (SB.ite (SB.ite (SB.ite (SB.call (Sb.rf _) (sB_J_when_229_69 _ _ _ _ _ _ hrec ))
       (SB.ob (Sb.rf _) (sB_F_bad _ _ _ ) fun r51 s50 h_s50 =>
        SB.call h_s50 (sB_J_when_229_69 _ _ _ _ _ _ hrec )))
      (SB.none))
     (SB.call (Sb.rf _) (sB_J_when_229_69 _ _ _ _ _ _ hrec )))
    (SB.none)
theorem sB_L_when_154   : ∀ (n : Nat) (x2 : Int32) (x3 : Int32) (x4 : Int32) (x5 : Int32) (x6 : Int32) (σ : TS), SB σ (L_when_154  n x2 x3 x4 x5 x6 σ)
  | 0, _, _, _, _, _, _ => SB.none
  | n + 1, x2, x3, x4, x5, x6, σ => by
    rw [L_when_154]
    exact SB.ite (SB.some (Sb.rf _))
      (SB.ite (SB.ite (SB.ite (SB.ite (SB.ob (Sb.rf _) (sB_F_bad _ _ _ ) fun r62 s61 h_s61 =>
           SB.nmV fun v65 =>
           SB.call h_s61 (sB_L_when_154  _ _ _ _ _ _ _))
          (SB.nmV fun v60 =>
           SB.call (Sb.rf _) (sB_L_when_154  _ _ _ _ _ _ _)))
         (SB.none))
        (SB.nmV fun v58 =>
         SB.call (Sb.rf _) (sB_L_when_154  _ _ _ _ _ _ _)))
       (SB.none))
theorem sB_J_when_151_69 (rec : Int32 → Int32 → Int32 → TS → Option ((Unit ⊕ Unit) × TS)) (x2 : Int32) (x3 : Int32) (x4 : Int32) (x5 : Int32) (σ : TS) (hrec : ∀ (a0 : Int32) (a1 : Int32) (a2 : Int32) (a3 : TS), SB a3 (rec a0 a1 a2 a3)) : SB σ (J_when_151_69 rec x2 x3 x4 x5 σ) := by
  unfold J_when_151_69
  exact SB.ob (Sb.rf _) (sB_L_when_154  _ _ _ _ _ _ _) fun q69 s70 h_s70 =>
    SB.call h_s70 (sB_J_when_200_69 _ _ _ _ _ _ hrec )
theorem sB_L_when_69   : ∀ (n : Nat) (x2 : Int32) (x3 : Int32) (x4 : Int32) (σ : TS), SB σ (L_when_69  n x2 x3 x4 σ)
  | 0, _, _, _, _ => SB.none
  | n + 1, x2, x3, x4, σ => by
    rw [L_when_69]
    exact SB.ite (SB.some (Sb.rf _))
      (SB.ob (Sb.rf _) (SB.of (fS_F_isBad _ ) (by decide)) fun r15 s14 h_s14 =>
       SB.ite (SB.ite (SB.ob h_s14 (sB_F_bad _ _ _ ) fun r81 s80 h_s80 =>
         SB.some h_s80)
        (SB.ite (SB.ob h_s14 (sB_F_variableOf _ _ _ ) fun r20 s19 h_s19 =>
          SB.ob h_s19 (SB.of (fS_F_isBad _ ) (by decide)) fun r24 s23 h_s23 =>
          SB.ite (SB.ite (SB.ite (SB.ite (SB.ite (SB.call h_s23 (sB_J_when_151_69 _ _ _ _ _ _ (fun a0 a1 a2 a3 => sB_L_when_69   _ a0 a1 a2 a3) ))
              (SB.ob h_s23 (sB_F_bad _ _ _ ) fun r74 s73 h_s73 =>
               SB.call h_s73 (sB_J_when_151_69 _ _ _ _ _ _ (fun a0 a1 a2 a3 => sB_L_when_69   _ a0 a1 a2 a3) )))
             (SB.none))
            (SB.call h_s23 (sB_J_when_200_69 _ _ _ _ _ _ (fun a0 a1 a2 a3 => sB_L_when_69   _ a0 a1 a2 a3) )))
           (SB.none))
          (SB.some h_s23))
         (SB.none)))
       (SB.some h_s14))
theorem sB_F_when (x1 : Int32) (x2 : Int32) (σ : TS)  : SB σ (F_when x1 x2 σ) := by
  unfold F_when
  exact SB.ite (SB.ob (Sb.rf _) (sB_F_bad _ _ _ ) fun r96 s95 h_s95 =>
     SB.some h_s95)
    (SB.nmV fun v1 =>
     SB.nmT (Sb.p_tsI (Sb.rf _) (by decide)) fun s2 h_s2 =>
     SB.ite (SB.ob h_s2 (sB_F_build  _ _ _ _ _) fun r5 s4 h_s4 =>
      SB.ite (SB.nmT (Sb.p_tsA h_s4) fun s9 h_s9 =>
       SB.ite (SB.nmT (Sb.p_tsA h_s9) fun s11 h_s11 =>
        SB.ite (SB.nmV fun v13 =>
         SB.obS h_s11 (sB_L_when_69  _ _ _ _ _) (fun r94 s88 h_s88 => SB.some h_s88) fun q87 s88 h_s88 =>
         SB.ite (SB.ite (SB.nmT (Sb.p_tsA h_s88) fun s92 h_s92 =>
           SB.some h_s92)
          (SB.none))
         (SB.none))
        (SB.none))
       (SB.none))
      (SB.none))
     (SB.none))
theorem sB_L_equationsOf_113 (cf_equationsOf : Int32 → Int32 → TS → Option (Unit × TS)) (hcf_equationsOf : ∀ (a0 : Int32) (a1 : Int32) (a2 : TS), SB a2 (cf_equationsOf a0 a1 a2)) : ∀ (n : Nat) (x2 : Int32) (x3 : Int32) (x4 : Int32) (σ : TS), SB σ (L_equationsOf_113 cf_equationsOf n x2 x3 x4 σ)
  | 0, _, _, _, _ => SB.none
  | n + 1, x2, x3, x4, σ => by
    rw [L_equationsOf_113]
    exact SB.ite (SB.ite (SB.some (Sb.rf _))
       (SB.ob (Sb.rf _) (SB.of (fS_F_isBad _ ) (by decide)) fun r37 s36 h_s36 =>
        SB.ite (SB.nmT (Sb.p_tsI h_s36 (by decide)) fun s40 h_s40 =>
         SB.ite (SB.ite (SB.ite (SB.nmT (Sb.p_tsB h_s40) fun s43 h_s43 =>
            SB.ite (SB.nmT (Sb.p_tsA h_s43) fun s45 h_s45 =>
             SB.nmT (Sb.p_tsI h_s45 (by decide)) fun s46 h_s46 =>
             SB.ite (SB.ob h_s46 (hcf_equationsOf _ _ _) fun r49 s48 h_s48 =>
              SB.nmT (Sb.p_tsI h_s48 (by decide)) fun s52 h_s52 =>
              SB.nmV fun v53 =>
              SB.call h_s52 (sB_L_equationsOf_113 _ hcf_equationsOf _ _ _ _ _))
             (SB.none))
            (SB.none))
           (SB.none))
          (SB.none))
         (SB.ob h_s40 (sB_F_bad _ _ _ ) fun r55 s54 h_s54 =>
          SB.some h_s54))
        (SB.some h_s36)))
      (SB.none)
theorem sB_L_equationsOf_2 (cf_equationsOf : Int32 → Int32 → TS → Option (Unit × TS)) (hcf_equationsOf : ∀ (a0 : Int32) (a1 : Int32) (a2 : TS), SB a2 (cf_equationsOf a0 a1 a2)) : ∀ (n : Nat) (x2 : Int32) (x3 : Int32) (σ : TS), SB σ (L_equationsOf_2 cf_equationsOf n x2 x3 σ)
  | 0, _, _, _ => SB.none
  | n + 1, x2, x3, σ => by
    rw [L_equationsOf_2]
    exact SB.ite (SB.some (Sb.rf _))
      (SB.ob (Sb.rf _) (SB.of (fS_F_isBad _ ) (by decide)) fun r2 s1 h_s1 =>
       SB.ite (SB.ite (SB.ite (SB.ite (SB.ob h_s1 (sB_F_build  _ _ _ _ _) fun r9 s8 h_s8 =>
           SB.ite (SB.ob h_s8 (sB_F_build  _ _ _ _ _) fun r14 s13 h_s13 =>
            SB.ob h_s13 (sB_F_addEquation _ _ _ ) fun r18 s17 h_s17 =>
            SB.ite (SB.nmV fun v22 =>
             SB.call h_s17 (sB_L_equationsOf_2 _ hcf_equationsOf _ _ _ _))
            (SB.none))
           (SB.none))
          (SB.none))
         (SB.ite (SB.ite (SB.ite (SB.ob h_s1 (sB_F_connect _ _ _ _ ) fun r27 s26 h_s26 =>
             SB.ite (SB.nmV fun v31 =>
              SB.call h_s26 (sB_L_equationsOf_2 _ hcf_equationsOf _ _ _ _))
             (SB.none))
            (SB.none))
           (SB.none))
          (SB.ite (SB.ite (SB.nmV fun v34 =>
             SB.ob h_s1 (sB_L_equationsOf_113 _ hcf_equationsOf _ _ _ _ _) fun q61 s62 h_s62 =>
             SB.ite (SB.nmV fun v65 =>
              SB.call h_s62 (sB_L_equationsOf_2 _ hcf_equationsOf _ _ _ _))
             (SB.none))
            (SB.none))
           (SB.ite (SB.ite (SB.ob h_s1 (sB_F_truth _ _ _ ) fun r70 s69 h_s69 =>
              SB.ob h_s69 (SB.of (fS_F_isBad _ ) (by decide)) fun r74 s73 h_s73 =>
              SB.ite (SB.ite (SB.ite (SB.ob h_s73 (hcf_equationsOf _ _ _) fun r81 s80 h_s80 =>
                 SB.ite (SB.nmV fun v85 =>
                  SB.call h_s80 (sB_L_equationsOf_2 _ hcf_equationsOf _ _ _ _))
                 (SB.none))
                (SB.none))
               (SB.ite (SB.ob h_s73 (hcf_equationsOf _ _ _) fun r88 s87 h_s87 =>
                 SB.ite (SB.nmV fun v92 =>
                  SB.call h_s87 (sB_L_equationsOf_2 _ hcf_equationsOf _ _ _ _))
                 (SB.none))
                (SB.none)))
              (SB.ite (SB.nmV fun v78 =>
                SB.call h_s73 (sB_L_equationsOf_2 _ hcf_equationsOf _ _ _ _))
               (SB.none)))
             (SB.none))
            (SB.ob h_s1 (sB_F_when _ _ _ ) fun r96 s95 h_s95 =>
             SB.ite (SB.nmV fun v100 =>
              SB.call h_s95 (sB_L_equationsOf_2 _ hcf_equationsOf _ _ _ _))
             (SB.none))))))
        (SB.none))
       (SB.some h_s1))
theorem sB_B_equationsOf (cf_equationsOf : Int32 → Int32 → TS → Option (Unit × TS)) (x1 : Int32) (x2 : Int32) (σ : TS) (hcf_equationsOf : ∀ (a0 : Int32) (a1 : Int32) (a2 : TS), SB a2 (cf_equationsOf a0 a1 a2)) : SB σ (B_equationsOf cf_equationsOf x1 x2 σ) := by
  unfold B_equationsOf
  exact SB.ob (Sb.rf _) (sB_L_equationsOf_2 _ hcf_equationsOf _ _ _ _) fun q103 s104 h_s104 =>
    SB.some h_s104
theorem sB_G_equationsOf : ∀ d : Nat, (∀ (a0 : Int32) (a1 : Int32) (a2 : TS), SB a2 ((G_equationsOf d) a0 a1 a2)) := by
  intro d
  induction d with
  | zero => exact fun _ _ _ => SB.none
  | succ d ih => exact fun a0 a1 a2 => sB_B_equationsOf _ a0 a1 a2 (fun b0 b1 b2 => ih b0 b1 b2)
theorem sB_F_equationsOf (a0 : Int32) (a1 : Int32) (a2 : TS) : SB a2 (F_equationsOf a0 a1 a2) := (sB_G_equationsOf 40) a0 a1 a2
theorem sB_L_ownEquations_7 (cf_ownEquations : Int32 → Int32 → TS → Option (Unit × TS)) (hcf_ownEquations : ∀ (a0 : Int32) (a1 : Int32) (a2 : TS), SB a2 (cf_ownEquations a0 a1 a2)) : ∀ (n : Nat) (x1 : Int32) (x2 : Int32) (x3 : Int32) (σ : TS), SB σ (L_ownEquations_7 cf_ownEquations n x1 x2 x3 σ)
  | 0, _, _, _, _ => SB.none
  | n + 1, x1, x2, x3, σ => by
    rw [L_ownEquations_7]
    exact SB.ite (SB.ite (SB.ite (SB.some (Sb.rf _))
        (SB.ob (Sb.rf _) (SB.of (fS_F_isBad _ ) (by decide)) fun r6 s5 h_s5 =>
         SB.ite (SB.ite (SB.ite (SB.nmV fun v11 =>
            SB.call h_s5 (sB_L_ownEquations_7 _ hcf_ownEquations _ _ _ _ _))
           (SB.ite (SB.ob h_s5 (SB.of (fS_F_classOf _ _ ) (by decide)) fun r14 s13 h_s13 =>
             SB.ob h_s13 (hcf_ownEquations _ _ _) fun r18 s17 h_s17 =>
             SB.nmV fun v21 =>
             SB.call h_s17 (sB_L_ownEquations_7 _ hcf_ownEquations _ _ _ _ _))
            (SB.none)))
          (SB.none))
         (SB.some h_s5)))
       (SB.none))
      (SB.none)
theorem sB_B_ownEquations (cf_ownEquations : Int32 → Int32 → TS → Option (Unit × TS)) (x1 : Int32) (x2 : Int32) (σ : TS) (hcf_ownEquations : ∀ (a0 : Int32) (a1 : Int32) (a2 : TS), SB a2 (cf_ownEquations a0 a1 a2)) : SB σ (B_ownEquations cf_ownEquations x1 x2 σ) := by
  unfold B_ownEquations
  exact SB.ite (SB.nmV fun v2 =>
     SB.ob (Sb.rf _) (sB_L_ownEquations_7 _ hcf_ownEquations _ _ _ _ _) fun q25 s26 h_s26 =>
     SB.ob h_s26 (SB.of (fS_F_isBad _ ) (by decide)) fun r29 s28 h_s28 =>
     SB.ite (SB.ite (SB.ob h_s28 (sB_F_equationsOf  _ _ _) fun r34 s33 h_s33 =>
       SB.some h_s33)
      (SB.none))
     (SB.some h_s28))
    (SB.none)
theorem sB_G_ownEquations : ∀ d : Nat, (∀ (a0 : Int32) (a1 : Int32) (a2 : TS), SB a2 ((G_ownEquations d) a0 a1 a2)) := by
  intro d
  induction d with
  | zero => exact fun _ _ _ => SB.none
  | succ d ih => exact fun a0 a1 a2 => sB_B_ownEquations _ a0 a1 a2 (fun b0 b1 b2 => ih b0 b1 b2)
theorem sB_F_ownEquations (a0 : Int32) (a1 : Int32) (a2 : TS) : SB a2 (F_ownEquations a0 a1 a2) := (sB_G_ownEquations 40) a0 a1 a2
theorem sB_L_collect_2 (cf_collect : Int32 → TS → Option (Unit × TS)) (hcf_collect : ∀ (a0 : Int32) (a1 : TS), SB a1 (cf_collect a0 a1)) : ∀ (n : Nat) (x1 : Int32) (x2 : Int32) (σ : TS), SB σ (L_collect_2 cf_collect n x1 x2 σ)
  | 0, _, _, _ => SB.none
  | n + 1, x1, x2, σ => by
    rw [L_collect_2]
    exact SB.ite (SB.some (Sb.rf _))
      (SB.ob (Sb.rf _) (SB.of (fS_F_isBad _ ) (by decide)) fun r2 s1 h_s1 =>
       SB.ite (SB.ite (SB.ite (SB.ob h_s1 (hcf_collect _ _) fun r8 s7 h_s7 =>
          SB.nmV fun v11 =>
          SB.call h_s7 (sB_L_collect_2 _ hcf_collect _ _ _ _))
         (SB.nmV fun v6 =>
          SB.call h_s1 (sB_L_collect_2 _ hcf_collect _ _ _ _)))
        (SB.none))
       (SB.some h_s1))
theorem sB_B_collect (cf_collect : Int32 → TS → Option (Unit × TS)) (x1 : Int32) (σ : TS) (hcf_collect : ∀ (a0 : Int32) (a1 : TS), SB a1 (cf_collect a0 a1)) : SB σ (B_collect cf_collect x1 σ) := by
  unfold B_collect
  exact SB.ob (Sb.rf _) (sB_L_collect_2 _ hcf_collect _ _ _ _) fun q15 s16 h_s16 =>
    SB.ob h_s16 (SB.of (fS_F_isBad _ ) (by decide)) fun r19 s18 h_s18 =>
    SB.ite (SB.ite (SB.ob h_s18 (sB_F_ownEquations  _ _ _) fun r24 s23 h_s23 =>
      SB.some h_s23)
     (SB.none))
    (SB.some h_s18)
theorem sB_G_collect : ∀ d : Nat, (∀ (a0 : Int32) (a1 : TS), SB a1 ((G_collect d) a0 a1)) := by
  intro d
  induction d with
  | zero => exact fun _ _ => SB.none
  | succ d ih => exact fun a0 a1 => sB_B_collect _ a0 a1 (fun b0 b1 => ih b0 b1)
theorem sB_F_collect (a0 : Int32) (a1 : TS) : SB a1 (F_collect a0 a1) := (sB_G_collect 40) a0 a1
theorem sB_J_setEquations_176_138 (rec : Int32 → Int32 → Int32 → Int32 → Int32 → TS → Option (Int32 × TS)) (x1 : Int32) (x2 : Int32) (x4 : Int32) (x5 : Int32) (x6 : Int32) (y1 : Int32) (σ : TS) (hrec : ∀ (a0 : Int32) (a1 : Int32) (a2 : Int32) (a3 : Int32) (a4 : Int32) (a5 : TS), SB a5 (rec a0 a1 a2 a3 a4 a5)) : SB σ (J_setEquations_176_138 rec x1 x2 x4 x5 x6 y1 σ) := by
  unfold J_setEquations_176_138
  exact SB.ob (Sb.rf _) (SB.of (fS_F_memberVariable _ _ _ ) (by decide)) fun r27 s26 h_s26 =>
    SB.ob h_s26 (sB_F_make _ _ _ _ _ ) fun r31 s30 h_s30 =>
    SB.ob h_s30 (sB_F_make _ _ _ _ _ ) fun r35 s34 h_s34 =>
    SB.nmV fun v38 =>
    SB.call h_s34 (hrec _ _ _ _ _ _)
theorem sB_L_setEquations_138   : ∀ (n : Nat) (x1 : Int32) (x2 : Int32) (x4 : Int32) (x5 : Int32) (x6 : Int32) (σ : TS), SB σ (L_setEquations_138  n x1 x2 x4 x5 x6 σ)
  | 0, _, _, _, _, _, _ => SB.none
  | n + 1, x1, x2, x4, x5, x6, σ => by
    rw [L_setEquations_138]
    exact SB.ite (SB.some (Sb.rf _))
      (SB.ob (Sb.rf _) (SB.of (fS_F_headOf _ _ ) (by decide)) fun r23 s22 h_s22 =>
       SB.ite (SB.ite (SB.call h_s22 (sB_J_setEquations_176_138 _ _ _ _ _ _ _ _ (fun a0 a1 a2 a3 a4 a5 => sB_L_setEquations_138   _ a0 a1 a2 a3 a4 a5) ))
        (SB.call h_s22 (sB_J_setEquations_176_138 _ _ _ _ _ _ _ _ (fun a0 a1 a2 a3 a4 a5 => sB_L_setEquations_138   _ a0 a1 a2 a3 a4 a5) )))
       (SB.nmV fun v40 =>
        SB.call h_s22 (sB_L_setEquations_138  _ _ _ _ _ _ _)))
theorem sB_L_setEquations_43   : ∀ (n : Nat) (x1 : Int32) (x2 : Int32) (x3 : Int32) (x4 : Int32) (σ : TS), SB σ (L_setEquations_43  n x1 x2 x3 x4 σ)
  | 0, _, _, _, _, _ => SB.none
  | n + 1, x1, x2, x3, x4, σ => by
    rw [L_setEquations_43]
    exact SB.ite (SB.some (Sb.rf _))
      (SB.ob (Sb.rf _) (SB.of (fS_F_isBad _ ) (by decide)) fun r54 s53 h_s53 =>
       SB.ite (SB.ob h_s53 (SB.of (fS_F_headOf _ _ ) (by decide)) fun r58 s57 h_s57 =>
        SB.ite (SB.ob h_s57 (sB_F_make _ _ _ _ _ ) fun r62 s61 h_s61 =>
         SB.ob h_s61 (SB.of (fS_F_memberVariable _ _ _ ) (by decide)) fun r66 s65 h_s65 =>
         SB.ob h_s65 (sB_F_make _ _ _ _ _ ) fun r70 s69 h_s69 =>
         SB.ob h_s69 (sB_F_addEquation _ _ _ ) fun r74 s73 h_s73 =>
         SB.nmV fun v77 =>
         SB.call h_s73 (sB_L_setEquations_43  _ _ _ _ _ _))
        (SB.nmV fun v78 =>
         SB.call h_s57 (sB_L_setEquations_43  _ _ _ _ _ _)))
       (SB.some h_s53))
theorem sB_L_setEquations_2   : ∀ (n : Nat) (x1 : Int32) (x2 : Int32) (σ : TS), SB σ (L_setEquations_2  n x1 x2 σ)
  | 0, _, _, _ => SB.none
  | n + 1, x1, x2, σ => by
    rw [L_setEquations_2]
    exact SB.ob (Sb.rf _) (SB.of (fS_F_memberVariable _ _ _ ) (by decide)) fun r2 s1 h_s1 =>
      SB.ite (SB.some h_s1)
      (SB.ob h_s1 (SB.of (fS_F_isBad _ ) (by decide)) fun r6 s5 h_s5 =>
       SB.ite (SB.ob h_s5 (SB.of (fS_F_memberVariable _ _ _ ) (by decide)) fun r10 s9 h_s9 =>
        SB.ite (SB.ite (SB.nmV fun v52 =>
          SB.ob h_s9 (sB_L_setEquations_43  _ _ _ _ _ _) fun q82 s83 h_s83 =>
          SB.nmV fun v85 =>
          SB.call h_s83 (sB_L_setEquations_2  _ _ _ _))
         (SB.ob h_s9 (sB_F_make _ _ _ _ _ ) fun r15 s14 h_s14 =>
          SB.ob h_s14 (sB_F_make _ _ _ _ _ ) fun r19 s18 h_s18 =>
          SB.ob h_s18 (sB_L_setEquations_138  _ _ _ _ _ _ _) fun q43 s44 h_s44 =>
          SB.ob h_s44 (sB_F_addEquation _ _ _ ) fun r47 s46 h_s46 =>
          SB.nmV fun v50 =>
          SB.call h_s46 (sB_L_setEquations_2  _ _ _ _)))
        (SB.none))
       (SB.some h_s5))
theorem sB_F_setEquations (x1 : Int32) (σ : TS)  : SB σ (F_setEquations x1 σ) := by
  unfold F_setEquations
  exact SB.ob (Sb.rf _) (sB_L_setEquations_2  _ _ _ _) fun q90 s91 h_s91 =>
    SB.some h_s91
theorem sB_L_connections_134   : ∀ (n : Nat) (x1 : Int32) (x2 : Int32) (x4 : Int32) (σ : TS), SB σ (L_connections_134  n x1 x2 x4 σ)
  | 0, _, _, _, _ => SB.none
  | n + 1, x1, x2, x4, σ => by
    rw [L_connections_134]
    exact SB.ob (Sb.rf _) (SB.of (fS_F_memberVariable _ _ _ ) (by decide)) fun r25 s24 h_s24 =>
      SB.ite (SB.some h_s24)
      (SB.ob h_s24 (SB.of (fS_F_isBad _ ) (by decide)) fun r29 s28 h_s28 =>
       SB.ite (SB.ob h_s28 (SB.of (fS_F_memberVariable _ _ _ ) (by decide)) fun r33 s32 h_s32 =>
        SB.ite (SB.ite (SB.nmV fun v50 =>
          SB.call h_s32 (sB_L_connections_134  _ _ _ _ _))
         (SB.ob h_s32 (sB_F_make _ _ _ _ _ ) fun r38 s37 h_s37 =>
          SB.ob h_s37 (sB_F_make _ _ _ _ _ ) fun r42 s41 h_s41 =>
          SB.ob h_s41 (sB_F_addEquation _ _ _ ) fun r46 s45 h_s45 =>
          SB.nmV fun v49 =>
          SB.call h_s45 (sB_L_connections_134  _ _ _ _ _)))
        (SB.none))
       (SB.some h_s28))
theorem sB_L_connections_7   : ∀ (n : Nat) (x1 : Int32) (σ : TS), SB σ (L_connections_7  n x1 σ)
  | 0, _, _ => SB.none
  | n + 1, x1, σ => by
    rw [L_connections_7]
    exact SB.ite (SB.some (Sb.rf _))
      (SB.ob (Sb.rf _) (SB.of (fS_F_isBad _ ) (by decide)) fun r3 s2 h_s2 =>
       SB.ite (SB.nmV fun v6 =>
        SB.ite (SB.ite (SB.ite (SB.ite (SB.ite (SB.ob h_s2 (SB.of (fS_L_connections_61  _ _ _ _ _ _) (by decide)) fun q20 s21 h_s21 =>
             SB.ite (SB.ite (SB.ob h_s21 (sB_L_connections_134  _ _ _ _ _) fun q54 s55 h_s55 =>
               SB.nmV fun v57 =>
               SB.call h_s55 (sB_L_connections_7  _ _ _))
              (SB.nmV fun v23 =>
               SB.call h_s21 (sB_L_connections_7  _ _ _)))
             (SB.ite (SB.nmT (Sb.p_tsA h_s21) fun s61 h_s61 =>
               SB.nmT (Sb.p_tsI h_s61 (by decide)) fun s62 h_s62 =>
               SB.ob h_s62 (sB_F_setEquations _ _ ) fun r64 s63 h_s63 =>
               SB.nmV fun v67 =>
               SB.call h_s63 (sB_L_connections_7  _ _ _))
              (SB.none)))
            (SB.nmV fun v70 =>
             SB.call h_s2 (sB_L_connections_7  _ _ _)))
           (SB.none))
          (SB.nmV fun v9 =>
           SB.call h_s2 (sB_L_connections_7  _ _ _)))
         (SB.none))
        (SB.none))
       (SB.some h_s2))
theorem sB_F_connections (σ : TS)  : SB σ (F_connections σ) := by
  unfold F_connections
  exact SB.nmT (Sb.p_tsI (Sb.rf _) (by decide)) fun s1 h_s1 =>
    SB.ob h_s1 (sB_L_connections_7  _ _ _) fun q75 s76 h_s76 =>
    SB.some h_s76
theorem sB_J_numberIn_85_38 (cf_numberIn : Int32 → TS → Option (Unit × TS)) (rec : Int32 → Int32 → TS → Option (Int32 × TS)) (x3 : Int32) (x4 : Int32) (σ : TS) (hcf_numberIn : ∀ (a0 : Int32) (a1 : TS), SB a1 (cf_numberIn a0 a1)) (hrec : ∀ (a0 : Int32) (a1 : Int32) (a2 : TS), SB a2 (rec a0 a1 a2)) : SB σ (J_numberIn_85_38 cf_numberIn rec x3 x4 σ) := by
  unfold J_numberIn_85_38
  exact SB.ite (SB.nmT (Sb.p_tsA (Sb.rf _)) fun s6 h_s6 =>
     SB.nmT (Sb.p_tsI h_s6 (by decide)) fun s7 h_s7 =>
     SB.ite (SB.nmV fun v9 =>
      SB.call h_s7 (hrec _ _ _))
     (SB.none))
    (SB.none)
theorem sB_L_numberIn_38 (cf_numberIn : Int32 → TS → Option (Unit × TS)) (hcf_numberIn : ∀ (a0 : Int32) (a1 : TS), SB a1 (cf_numberIn a0 a1)) : ∀ (n : Nat) (x3 : Int32) (x4 : Int32) (σ : TS), SB σ (L_numberIn_38 cf_numberIn n x3 x4 σ)
  | 0, _, _, _ => SB.none
  | n + 1, x3, x4, σ => by
    rw [L_numberIn_38]
    exact SB.ite (SB.ite (SB.call (Sb.rf _) (sB_J_numberIn_85_38 _ _ _ _ _ hcf_numberIn (fun a0 a1 a2 => sB_L_numberIn_38 cf_numberIn hcf_numberIn _ a0 a1 a2) ))
       (SB.ite (SB.ite (SB.call (Sb.rf _) (sB_J_numberIn_85_38 _ _ _ _ _ hcf_numberIn (fun a0 a1 a2 => sB_L_numberIn_38 cf_numberIn hcf_numberIn _ a0 a1 a2) ))
         (SB.ite (SB.ite (SB.call (Sb.rf _) (sB_J_numberIn_85_38 _ _ _ _ _ hcf_numberIn (fun a0 a1 a2 => sB_L_numberIn_38 cf_numberIn hcf_numberIn _ a0 a1 a2) ))
           (SB.ite (SB.ite (SB.call (Sb.rf _) (sB_J_numberIn_85_38 _ _ _ _ _ hcf_numberIn (fun a0 a1 a2 => sB_L_numberIn_38 cf_numberIn hcf_numberIn _ a0 a1 a2) ))
             (SB.some (Sb.rf _)))
            (SB.none)))
          (SB.none)))
        (SB.none)))
      (SB.none)
theorem sB_L_numberIn_124 (cf_numberIn : Int32 → TS → Option (Unit × TS)) (hcf_numberIn : ∀ (a0 : Int32) (a1 : TS), SB a1 (cf_numberIn a0 a1)) : ∀ (n : Nat) (x3 : Int32) (σ : TS), SB σ (L_numberIn_124 cf_numberIn n x3 σ)
  | 0, _, _ => SB.none
  | n + 1, x3, σ => by
    rw [L_numberIn_124]
    exact SB.ite (SB.some (Sb.rf _))
      (SB.nmT (Sb.p_tsI (Sb.rf _) (by decide)) fun s24 h_s24 =>
       SB.ite (SB.ite (SB.ob h_s24 (hcf_numberIn _ _) fun r28 s27 h_s27 =>
         SB.call h_s27 (sB_L_numberIn_124 _ hcf_numberIn _ _ _))
        (SB.none))
       (SB.none))
theorem sB_J_numberIn_30 (cf_numberIn : Int32 → TS → Option (Unit × TS)) (x1 : Int32) (σ : TS) (hcf_numberIn : ∀ (a0 : Int32) (a1 : TS), SB a1 (cf_numberIn a0 a1)) : SB σ (J_numberIn_30 cf_numberIn x1 σ) := by
  unfold J_numberIn_30
  exact SB.nmV fun v3 =>
    SB.ob (Sb.rf _) (sB_L_numberIn_38 _ hcf_numberIn _ _ _ _) fun q17 s18 h_s18 =>
    SB.ob h_s18 (hcf_numberIn _ _) fun r21 s20 h_s20 =>
    SB.ob h_s20 (sB_L_numberIn_124 _ hcf_numberIn _ _ _) fun q32 s33 h_s33 =>
    SB.some h_s33
theorem sB_J_numberIn_339 (cf_numberIn : Int32 → TS → Option (Unit × TS)) (x1 : Int32) (σ : TS) (hcf_numberIn : ∀ (a0 : Int32) (a1 : TS), SB a1 (cf_numberIn a0 a1)) : SB σ (J_numberIn_339 cf_numberIn x1 σ) := by
  unfold J_numberIn_339
  exact SB.ite (SB.ob (Sb.rf _) (sB_F_bad _ _ _ ) fun r98 s97 h_s97 =>
     SB.some h_s97)
    (SB.ite (SB.nmT (Sb.p_tsA (Sb.rf _)) fun s93 h_s93 =>
      SB.ite (SB.nmT (Sb.p_tsA h_s93) fun s95 h_s95 =>
       SB.nmT (Sb.p_tsI h_s95 (by decide)) fun s96 h_s96 =>
       SB.some h_s96)
      (SB.none))
     (SB.none))
theorem sB_J_numberIn_313 (cf_numberIn : Int32 → TS → Option (Unit × TS)) (x1 : Int32) (x2 : Int32) (σ : TS) (hcf_numberIn : ∀ (a0 : Int32) (a1 : TS), SB a1 (cf_numberIn a0 a1)) : SB σ (J_numberIn_313 cf_numberIn x1 x2 σ) := by
  unfold J_numberIn_313
  exact SB.ite (SB.ite (SB.ob (Sb.rf _) (hcf_numberIn _ _) fun r104 s103 h_s103 =>
      SB.ite (SB.ob h_s103 (hcf_numberIn _ _) fun r109 s108 h_s108 =>
       SB.call h_s108 (sB_J_numberIn_339 _ _ _ hcf_numberIn ))
      (SB.none))
     (SB.none))
    (SB.call (Sb.rf _) (sB_J_numberIn_339 _ _ _ hcf_numberIn ))
theorem sB_B_numberIn (cf_numberIn : Int32 → TS → Option (Unit × TS)) (x1 : Int32) (σ : TS) (hcf_numberIn : ∀ (a0 : Int32) (a1 : TS), SB a1 (cf_numberIn a0 a1)) : SB σ (B_numberIn cf_numberIn x1 σ) := by
  unfold B_numberIn
  exact SB.ite (SB.nmV fun v2 =>
     SB.ite (SB.call (Sb.rf _) (sB_J_numberIn_30 _ _ _ hcf_numberIn ))
     (SB.ite (SB.call (Sb.rf _) (sB_J_numberIn_30 _ _ _ hcf_numberIn ))
      (SB.ite (SB.call (Sb.rf _) (sB_J_numberIn_30 _ _ _ hcf_numberIn ))
       (SB.ite (SB.call (Sb.rf _) (sB_J_numberIn_30 _ _ _ hcf_numberIn ))
        (SB.ite (SB.ite (SB.ob (Sb.rf _) (hcf_numberIn _ _) fun r39 s38 h_s38 =>
           SB.ite (SB.ob h_s38 (hcf_numberIn _ _) fun r44 s43 h_s43 =>
            SB.some h_s43)
           (SB.none))
          (SB.none))
         (SB.ite (SB.ite (SB.ob (Sb.rf _) (hcf_numberIn _ _) fun r49 s48 h_s48 =>
            SB.ite (SB.ob h_s48 (hcf_numberIn _ _) fun r54 s53 h_s53 =>
             SB.some h_s53)
            (SB.none))
           (SB.none))
          (SB.ite (SB.ite (SB.ob (Sb.rf _) (hcf_numberIn _ _) fun r59 s58 h_s58 =>
             SB.ite (SB.ob h_s58 (hcf_numberIn _ _) fun r64 s63 h_s63 =>
              SB.some h_s63)
             (SB.none))
            (SB.none))
           (SB.ite (SB.ite (SB.ob (Sb.rf _) (hcf_numberIn _ _) fun r144 s143 h_s143 =>
              SB.ite (SB.ob h_s143 (hcf_numberIn _ _) fun r149 s148 h_s148 =>
               SB.some h_s148)
              (SB.none))
             (SB.none))
            (SB.ite (SB.ite (SB.ob (Sb.rf _) (hcf_numberIn _ _) fun r69 s68 h_s68 =>
               SB.some h_s68)
              (SB.none))
             (SB.ite (SB.ite (SB.ob (Sb.rf _) (hcf_numberIn _ _) fun r74 s73 h_s73 =>
                SB.some h_s73)
               (SB.none))
              (SB.ite (SB.ite (SB.ob (Sb.rf _) (hcf_numberIn _ _) fun r79 s78 h_s78 =>
                 SB.some h_s78)
                (SB.none))
               (SB.ite (SB.ite (SB.ob (Sb.rf _) (hcf_numberIn _ _) fun r84 s83 h_s83 =>
                  SB.some h_s83)
                 (SB.none))
                (SB.ite (SB.ite (SB.ob (Sb.rf _) (hcf_numberIn _ _) fun r89 s88 h_s88 =>
                   SB.some h_s88)
                  (SB.none))
                 (SB.ite (SB.ite (SB.ob (Sb.rf _) (hcf_numberIn _ _) fun r133 s132 h_s132 =>
                    SB.some h_s132)
                   (SB.none))
                  (SB.ite (SB.ite (SB.ob (Sb.rf _) (hcf_numberIn _ _) fun r117 s116 h_s116 =>
                     SB.ite (SB.ob h_s116 (hcf_numberIn _ _) fun r122 s121 h_s121 =>
                      SB.ite (SB.ob h_s121 (hcf_numberIn _ _) fun r127 s126 h_s126 =>
                       SB.some h_s126)
                      (SB.none))
                     (SB.none))
                    (SB.none))
                   (SB.ite (SB.call (Sb.rf _) (sB_J_numberIn_313 _ _ _ _ hcf_numberIn ))
                    (SB.ite (SB.call (Sb.rf _) (sB_J_numberIn_313 _ _ _ _ hcf_numberIn ))
                     (SB.some (Sb.rf _)))))))))))))))))))
    (SB.none)
theorem sB_G_numberIn : ∀ d : Nat, (∀ (a0 : Int32) (a1 : TS), SB a1 ((G_numberIn d) a0 a1)) := by
  intro d
  induction d with
  | zero => exact fun _ _ => SB.none
  | succ d ih => exact fun a0 a1 => sB_B_numberIn _ a0 a1 (fun b0 b1 => ih b0 b1)
theorem sB_F_numberIn (a0 : Int32) (a1 : TS) : SB a1 (F_numberIn a0 a1) := (sB_G_numberIn 300) a0 a1
theorem sB_L_numberAll_2   : ∀ (n : Nat) (x1 : Int32) (σ : TS), SB σ (L_numberAll_2  n x1 σ)
  | 0, _, _ => SB.none
  | n + 1, x1, σ => by
    rw [L_numberAll_2]
    exact SB.ite (SB.some (Sb.rf _))
      (SB.ob (Sb.rf _) (SB.of (fS_F_isBad _ ) (by decide)) fun r2 s1 h_s1 =>
       SB.ite (SB.ite (SB.ob h_s1 (sB_F_numberIn  _ _) fun r7 s6 h_s6 =>
         SB.ite (SB.ob h_s6 (sB_F_numberIn  _ _) fun r12 s11 h_s11 =>
          SB.nmV fun v15 =>
          SB.call h_s11 (sB_L_numberAll_2  _ _ _))
         (SB.none))
        (SB.none))
       (SB.some h_s1))
theorem sB_L_numberAll_77   : ∀ (n : Nat) (x1 : Int32) (x2 : Int32) (σ : TS), SB σ (L_numberAll_77  n x1 x2 σ)
  | 0, _, _, _ => SB.none
  | n + 1, x1, x2, σ => by
    rw [L_numberAll_77]
    exact SB.ite (SB.ite (SB.ite (SB.some (Sb.rf _))
        (SB.ite (SB.ob (Sb.rf _) (sB_F_numberIn  _ _) fun r36 s35 h_s35 =>
          SB.nmV fun v39 =>
          SB.call h_s35 (sB_L_numberAll_77  _ _ _ _))
         (SB.none)))
       (SB.none))
      (SB.none)
theorem sB_L_numberAll_45   : ∀ (n : Nat) (x1 : Int32) (σ : TS), SB σ (L_numberAll_45  n x1 σ)
  | 0, _, _ => SB.none
  | n + 1, x1, σ => by
    rw [L_numberAll_45]
    exact SB.ite (SB.some (Sb.rf _))
      (SB.ob (Sb.rf _) (SB.of (fS_F_isBad _ ) (by decide)) fun r22 s21 h_s21 =>
       SB.ite (SB.ite (SB.ob h_s21 (sB_F_numberIn  _ _) fun r27 s26 h_s26 =>
         SB.ite (SB.nmV fun v31 =>
          SB.ob h_s26 (sB_L_numberAll_77  _ _ _ _) fun q41 s42 h_s42 =>
          SB.nmV fun v44 =>
          SB.call h_s42 (sB_L_numberAll_45  _ _ _))
         (SB.none))
        (SB.none))
       (SB.some h_s21))
theorem sB_J_numberAll_43 (σ : TS)  : SB σ (J_numberAll_43 σ) := by
  unfold J_numberAll_43
  exact SB.ob (Sb.rf _) (sB_L_numberAll_45  _ _ _) fun q48 s49 h_s49 =>
    SB.some h_s49
theorem sB_F_numberAll (σ : TS)  : SB σ (F_numberAll σ) := by
  unfold F_numberAll
  exact SB.ob (Sb.rf _) (sB_L_numberAll_2  _ _ _) fun q18 s19 h_s19 =>
    SB.call h_s19 (sB_J_numberAll_43 _ )
theorem sB_F_startOf (x1 : Int32) (σ : TS)  : SB σ (F_startOf x1 σ) := by
  unfold F_startOf
  exact SB.ite (SB.ite (SB.ite (SB.nmT (Sb.p_tsA (Sb.rf _)) fun s10 h_s10 =>
       SB.some h_s10)
      (SB.none))
     (SB.ite (SB.ob (Sb.rf _) (sB_F_worth  _ _ _) fun r4 s3 h_s3 =>
       SB.ite (SB.nmT (Sb.p_tsA h_s3) fun s8 h_s8 =>
        SB.some h_s8)
       (SB.none))
      (SB.none)))
    (SB.none)
theorem sB_L_makeFlat_351   : ∀ (n : Nat) (x2 : Int32) (σ : TS), SB σ (L_makeFlat_351  n x2 σ)
  | 0, _, _ => SB.none
  | n + 1, x2, σ => by
    rw [L_makeFlat_351]
    exact SB.ite (SB.some (Sb.rf _))
      (SB.ob (Sb.rf _) (SB.of (fS_F_isBad _ ) (by decide)) fun r105 s104 h_s104 =>
       SB.ite (SB.ite (SB.ite (SB.ob h_s104 (sB_F_parameter  _ _) fun r111 s110 h_s110 =>
          SB.nmV fun v114 =>
          SB.call h_s110 (sB_L_makeFlat_351  _ _ _))
         (SB.nmV fun v109 =>
          SB.call h_s104 (sB_L_makeFlat_351  _ _ _)))
        (SB.none))
       (SB.some h_s104))
theorem sB_L_makeFlat_389   : ∀ (n : Nat) (x2 : Int32) (σ : TS), SB σ (L_makeFlat_389  n x2 σ)
  | 0, _, _ => SB.none
  | n + 1, x2, σ => by
    rw [L_makeFlat_389]
    exact SB.ite (SB.some (Sb.rf _))
      (SB.ob (Sb.rf _) (SB.of (fS_F_isBad _ ) (by decide)) fun r122 s121 h_s121 =>
       SB.ite (SB.ite (SB.ite (SB.nmV fun v126 =>
          SB.call h_s121 (sB_L_makeFlat_389  _ _ _))
         (SB.ite (SB.ite (SB.nmV fun v143 =>
            SB.call h_s121 (sB_L_makeFlat_389  _ _ _))
           (SB.ob h_s121 (sB_F_make _ _ _ _ _ ) fun r129 s128 h_s128 =>
            SB.ite (SB.ite (SB.ob h_s128 (sB_F_build  _ _ _ _ _) fun r135 s134 h_s134 =>
              SB.ob h_s134 (sB_F_addEquation _ _ _ ) fun r139 s138 h_s138 =>
              SB.nmV fun v142 =>
              SB.call h_s138 (sB_L_makeFlat_389  _ _ _))
             (SB.none))
            (SB.none)))
          (SB.none)))
        (SB.none))
       (SB.some h_s121))
theorem sB_L_makeFlat_524   : ∀ (n : Nat) (x2 : Int32) (σ : TS), SB σ (L_makeFlat_524  n x2 σ)
  | 0, _, _ => SB.none
  | n + 1, x2, σ => by
    rw [L_makeFlat_524]
    exact SB.ite (SB.some (Sb.rf _))
      (SB.ob (Sb.rf _) (SB.of (fS_F_isBad _ ) (by decide)) fun r170 s169 h_s169 =>
       SB.ite (SB.ite (SB.ite (SB.nmV fun v174 =>
          SB.call h_s169 (sB_L_makeFlat_524  _ _ _))
         (SB.ite (SB.ite (SB.ob h_s169 (sB_F_build  _ _ _ _ _) fun r178 s177 h_s177 =>
            SB.ite (SB.nmT (Sb.p_tsA h_s177) fun s182 h_s182 =>
             SB.nmV fun v183 =>
             SB.call h_s182 (sB_L_makeFlat_524  _ _ _))
            (SB.none))
           (SB.none))
          (SB.none)))
        (SB.none))
       (SB.some h_s169))
theorem sB_L_makeFlat_585   : ∀ (n : Nat) (x2 : Int32) (σ : TS), SB σ (L_makeFlat_585  n x2 σ)
  | 0, _, _ => SB.none
  | n + 1, x2, σ => by
    rw [L_makeFlat_585]
    exact SB.ite (SB.some (Sb.rf _))
      (SB.ob (Sb.rf _) (SB.of (fS_F_isBad _ ) (by decide)) fun r192 s191 h_s191 =>
       SB.ite (SB.ob h_s191 (sB_F_startOf _ _ ) fun r196 s195 h_s195 =>
        SB.nmV fun v199 =>
        SB.call h_s195 (sB_L_makeFlat_585  _ _ _))
       (SB.some h_s191))
theorem sB_J_makeFlat_578 (σ : TS)  : SB σ (J_makeFlat_578 σ) := by
  unfold J_makeFlat_578
  exact SB.nmT (Sb.p_tsI (Sb.rf _) (by decide)) fun s190 h_s190 =>
    SB.ob h_s190 (sB_L_makeFlat_585  _ _ _) fun q202 s203 h_s203 =>
    SB.call h_s203 (SB.of (fS_J_makeFlat_611 _ ) (by decide))
theorem sB_J_makeFlat_517 (σ : TS)  : SB σ (J_makeFlat_517 σ) := by
  unfold J_makeFlat_517
  exact SB.nmT (Sb.p_tsI (Sb.rf _) (by decide)) fun s168 h_s168 =>
    SB.ob h_s168 (sB_L_makeFlat_524  _ _ _) fun q187 s188 h_s188 =>
    SB.call h_s188 (sB_J_makeFlat_578 _ )
theorem sB_J_makeFlat_506 (σ : TS)  : SB σ (J_makeFlat_506 σ) := by
  unfold J_makeFlat_506
  exact SB.ob (Sb.rf _) (SB.of (fS_F_isBad _ ) (by decide)) fun r165 s164 h_s164 =>
    SB.ite (SB.ob h_s164 (sB_F_checkActions _ ) fun r223 s222 h_s222 =>
     SB.call h_s222 (sB_J_makeFlat_517 _ ))
    (SB.call h_s164 (sB_J_makeFlat_517 _ ))
theorem sB_J_makeFlat_487 (σ : TS)  : SB σ (J_makeFlat_487 σ) := by
  unfold J_makeFlat_487
  exact SB.nmT (Sb.p_tsI (Sb.rf _) (by decide)) fun s159 h_s159 =>
    SB.ob h_s159 (SB.of (fS_F_isBad _ ) (by decide)) fun r161 s160 h_s160 =>
    SB.ite (SB.ob h_s160 (sB_F_numberAll _ ) fun r228 s227 h_s227 =>
     SB.call h_s227 (sB_J_makeFlat_506 _ ))
    (SB.call h_s160 (sB_J_makeFlat_506 _ ))
theorem sB_J_makeFlat_476 (σ : TS)  : SB σ (J_makeFlat_476 σ) := by
  unfold J_makeFlat_476
  exact SB.ob (Sb.rf _) (SB.of (fS_F_isBad _ ) (by decide)) fun r156 s155 h_s155 =>
    SB.ite (SB.ob h_s155 (sB_F_connections _ ) fun r233 s232 h_s232 =>
     SB.call h_s232 (sB_J_makeFlat_487 _ ))
    (SB.call h_s155 (sB_J_makeFlat_487 _ ))
theorem sB_J_makeFlat_464 (σ : TS)  : SB σ (J_makeFlat_464 σ) := by
  unfold J_makeFlat_464
  exact SB.ob (Sb.rf _) (SB.of (fS_F_isBad _ ) (by decide)) fun r152 s151 h_s151 =>
    SB.ite (SB.ob h_s151 (sB_F_collect  _ _) fun r238 s237 h_s237 =>
     SB.call h_s237 (sB_J_makeFlat_476 _ ))
    (SB.call h_s151 (sB_J_makeFlat_476 _ ))
theorem sB_J_makeFlat_387 (σ : TS)  : SB σ (J_makeFlat_387 σ) := by
  unfold J_makeFlat_387
  exact SB.ob (Sb.rf _) (sB_L_makeFlat_389  _ _ _) fun q148 s149 h_s149 =>
    SB.call h_s149 (sB_J_makeFlat_464 _ )
theorem sB_J_makeFlat_344 (σ : TS)  : SB σ (J_makeFlat_344 σ) := by
  unfold J_makeFlat_344
  exact SB.nmT (Sb.p_tsI (Sb.rf _) (by decide)) fun s103 h_s103 =>
    SB.ob h_s103 (sB_L_makeFlat_351  _ _ _) fun q118 s119 h_s119 =>
    SB.call h_s119 (sB_J_makeFlat_387 _ )
