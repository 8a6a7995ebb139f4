/-! Layer B: a parameter that is known stays known (the twin alone) -/
set_option maxRecDepth 100000
def MoK (σ σ' : TS) : Prop := ∀ v, tA σ 160 v = 2 → tA σ' 160 v = 2
theorem MoK.rf (σ : TS) : MoK σ σ := fun _ h => h
theorem MoK.tr {σ1 σ2 σ3 : TS} (h : MoK σ1 σ2) (g : MoK σ2 σ3) : MoK σ1 σ3 := fun v z => g v (h v z)
theorem MoK.p_tsI {σ s : TS} (h : MoK σ s) {k : Nat} {v : Int32} : MoK σ (tsI s k v) := h
theorem MoK.p_tsL {σ s : TS} (h : MoK σ s) {k : Nat} {v : Int64} : MoK σ (tsL s k v) := h
theorem MoK.p_tsB {σ s : TS} (h : MoK σ s) {k i : Nat} {v : Int64} : MoK σ (tsB s k i v) := h
theorem MoK.p_tsA {σ s : TS} (h : MoK σ s) {k i : Nat} {v : Int32} (hk : k ≠ 160) : MoK σ (tsA s k i v) := fun j z => by
  rw [show tA (tsA s k i v) 160 j = if 160 = k ∧ j = i then v else tA s 160 j from rfl, if_neg (fun q => hk q.1.symm)]; exact h j z
def MS {α : Type} (σ0 : TS) (o : Option (α × TS)) : Prop := ∀ r σ', o = some (r, σ') → MoK σ0 σ'
theorem MS.of {α : Type} {S : List Nat} {σ0 : TS} {o : Option (α × TS)} (h : FS S σ0 o) (hS : S.contains 160 = false) : MS σ0 o := fun r σ' e v z => ((h r σ' e 160 hS).2.2.1 v).trans z
theorem MS.none {α : Type} {σ0 : TS} : MS σ0 (none : Option (α × TS)) := fun _ _ h => by cases h
theorem MS.some {α : Type} {σ0 σ : TS} {r : α} (h : MoK σ0 σ) : MS σ0 (some (r, σ)) := fun _ _ e => by cases e; exact h
theorem MS.ite {α : Type} {σ0 : TS} {c : Prop} [Decidable c] {a b : Option (α × TS)} (h1 : MS σ0 a) (h2 : MS σ0 b) : MS σ0 (if c then a else b) := by
  split
  · exact h1
  · exact h2
theorem MS.nmT {β : Type} {σ0 x : TS} {f : TS → Option (β × TS)} (hx : MoK σ0 x) (h : ∀ s, MoK σ0 s → MS σ0 (f s)) : MS σ0 (nm x f) := h x hx
theorem MS.nmV {α β : Type} {σ0 : TS} {x : α} {f : α → Option (β × TS)} (h : ∀ v, MS σ0 (f v)) : MS σ0 (nm x f) := h x
theorem MS.call {β : Type} {σ0 s : TS} {o : Option (β × TS)} (hs : MoK σ0 s) (h1 : MS s o) : MS σ0 o := fun r σ' e => hs.tr (h1 r σ' e)
theorem MS.ob {α β : Type} {σ0 s : TS} {o : Option (α × TS)} {k : α → TS → Option (β × TS)} (hs : MoK σ0 s) (h1 : MS s o) (h2 : ∀ r s', MoK σ0 s' → MS σ0 (k r s')) : MS σ0 (ob o k) := by
  intro r σ' e
  obtain ⟨a, t, e1, e2⟩ := obE e
  exact h2 a t (hs.tr (h1 a t e1)) r σ' e2
theorem MSobq {α β : Type} {σ0 : TS} {o : Option (α × TS)} {k : α → TS → Option (β × TS)} (h2 : ∀ r s', o = some (r, s') → MS σ0 (k r s')) : MS σ0 (ob o k) := by
  intro r σ' e
  obtain ⟨a, t, e1, e2⟩ := obE e
  exact h2 a t e1 r σ' e2
theorem MS.obS {α ρ β : Type} {σ0 s : TS} {o : Option ((α ⊕ ρ) × TS)} {kr : ρ → TS → Option (β × TS)} {k : α → TS → Option (β × TS)} (hs : MoK σ0 s) (h1 : MS s o) (h3 : ∀ r s', MoK σ0 s' → MS σ0 (kr r s')) (h2 : ∀ r s', MoK σ0 s' → MS σ0 (k r s')) : MS σ0 (obS o kr k) := by
  intro r σ' e
  rcases obSE e with ⟨a, t, e1, e2⟩ | ⟨a, t, e1, e2⟩
  · exact h2 a t (hs.tr (h1 _ t e1)) r σ' e2
  · exact h3 a t (hs.tr (h1 _ t e1)) r σ' e2
theorem mS_B_parameter (cf_worth : Int32 → Int32 → TS → Option (Int32 × TS)) (x1 : Int32) (σ : TS) (hcf_worth : ∀ (a0 : Int32) (a1 : Int32) (a2 : TS), MS a2 (cf_worth a0 a1 a2)) : MS σ (B_parameter cf_worth x1 σ) := by
  have up : ∀ {s : TS} {i : Nat}, MoK σ s → MoK σ (tsA s 160 i 2) := fun {s i} h v z => by
    rw [show tA (tsA s 160 i 2) 160 v = if 160 = 160 ∧ v = i then 2 else tA s 160 v from rfl]
    split
    · rfl
    · exact h v z
  unfold B_parameter
  refine MS.ite ?_ MS.none
  by_cases q : tA σ 160 (ix x1) = 2
  · rw [if_pos q]; exact MS.some (MoK.rf _)
  · rw [if_neg q]
    have one : ∀ {s : TS}, (∀ v, tA s 160 v = tA σ 160 v) → MoK σ (tsA s 160 (ix x1) 1) := fun {s} h v z => by
      rw [show tA (tsA s 160 (ix x1) 1) 160 v = if 160 = 160 ∧ v = ix x1 then 1 else tA s 160 v from rfl]
      by_cases y : v = ix x1
      · subst y; exact absurd z q
      · rw [if_neg (fun t => y t.2), h]; exact z
    refine MSobq fun r3 s2 e1 => ?_
    have f2 := fS_F_isBad _ _ _ e1
    have s160 : ∀ v, tA s2 160 v = tA σ 160 v := fun v => (f2 160 (by decide)).2.2.1 v
    have m2 : MoK σ s2 := fun v z => (s160 v).trans z
    refine MS.ite (MS.ite (MS.ite (MS.ob m2 (MS.of (fS_F_bad _ _ _) (by decide)) fun _ _ h => MS.some h) (MS.ite (MS.ob m2 (MS.of (fS_F_bad _ _ _) (by decide)) fun _ _ h => MS.some h) ?_)) MS.none) (MS.some m2)
    rw [nm_eq]
    refine MS.ite ?_ MS.none
    rw [nm_eq]
    have m9 : MoK σ (tsA (tsI s2 161 (tI s2 161 + 1)) 160 (ix x1) 1) := one s160
    exact MS.ite (MS.ite (MS.ite (MS.ite (MS.nmT (MoK.p_tsA m9 (by decide)) fun s h => MS.ite (MS.nmT (up h) fun s h => MS.nmT h.p_tsI fun s h => MS.some h) MS.none) MS.none) MS.none) (MS.ite (MS.ob m9 (hcf_worth _ _ _) fun _ s h => MS.ite (MS.nmT (MoK.p_tsA h (by decide)) fun s h => MS.ite (MS.nmT (up h) fun s h => MS.nmT h.p_tsI fun s h => MS.some h) MS.none) MS.none) MS.none)) MS.none
theorem mS_L_chainValue_8 (cf_worth : Int32 → Int32 → TS → Option (Int32 × TS)) (hcf_worth : ∀ (a0 : Int32) (a1 : Int32) (a2 : TS), MS a2 (cf_worth a0 a1 a2)) : ∀ (n : Nat) (x2 : Int32) (x3 : Int32) (x4 : Int32) (σ : TS), MS σ (L_chainValue_8 cf_worth n x2 x3 x4 σ)
  | 0, _, _, _, _ => MS.none
  | n + 1, x2, x3, x4, σ => by
    rw [L_chainValue_8]
    exact MS.ite (MS.ob (MoK.rf _) (MS.of (fS_F_isArithmetic _ _ ) (by decide)) fun r4 s3 h_s3 =>
       MS.ite (MS.some h_s3)
       (MS.ite (MS.nmT (MoK.p_tsA h_s3 (by decide)) fun s8 h_s8 =>
         MS.nmT (MoK.p_tsI h_s8) fun s9 h_s9 =>
         MS.ite (MS.nmV fun v11 =>
          MS.call h_s9 (mS_L_chainValue_8 _ hcf_worth _ _ _ _ _))
         (MS.none))
        (MS.none)))
      (MS.none)
theorem mS_L_chainValue_63 (cf_worth : Int32 → Int32 → TS → Option (Int32 × TS)) (hcf_worth : ∀ (a0 : Int32) (a1 : Int32) (a2 : TS), MS a2 (cf_worth a0 a1 a2)) : ∀ (n : Nat) (x2 : Int32) (x3 : Int32) (x5 : Int32) (σ : TS), MS σ (L_chainValue_63 cf_worth n x2 x3 x5 σ)
  | 0, _, _, _, _ => MS.none
  | n + 1, x2, x3, x5, σ => by
    rw [L_chainValue_63]
    exact MS.ite (MS.some (MoK.rf _))
      (MS.nmT (MoK.p_tsI (MoK.rf _)) fun s20 h_s20 =>
       MS.ite (MS.nmV fun v22 =>
        MS.ob h_s20 (MS.of (fS_F_isBad _ ) (by decide)) fun r24 s23 h_s23 =>
        MS.ite (MS.ite (MS.ob h_s23 (hcf_worth _ _ _) fun r29 s28 h_s28 =>
          MS.ob h_s28 (MS.of (fS_F_isBad _ ) (by decide)) fun r33 s32 h_s32 =>
          MS.ite (MS.ite (MS.nmV fun v37 =>
            MS.ite (MS.ob h_s32 (MS.of (fS_F_fit _ _ ) (by decide)) fun r53 s52 h_s52 =>
             MS.call h_s52 (mS_L_chainValue_63 _ hcf_worth _ _ _ _ _))
            (MS.ite (MS.ob h_s32 (MS.of (fS_F_fit _ _ ) (by decide)) fun r48 s47 h_s47 =>
              MS.call h_s47 (mS_L_chainValue_63 _ hcf_worth _ _ _ _ _))
             (MS.ite (MS.ob h_s32 (MS.of (fS_F_times _ _ _ ) (by decide)) fun r43 s42 h_s42 =>
               MS.call h_s42 (mS_L_chainValue_63 _ hcf_worth _ _ _ _ _))
              (MS.ob h_s32 (MS.of (fS_F_over _ _ _ ) (by decide)) fun r39 s38 h_s38 =>
               MS.call h_s38 (mS_L_chainValue_63 _ hcf_worth _ _ _ _ _)))))
           (MS.none))
          (MS.call h_s32 (mS_L_chainValue_63 _ hcf_worth _ _ _ _ _)))
         (MS.none))
        (MS.call h_s23 (mS_L_chainValue_63 _ hcf_worth _ _ _ _ _)))
       (MS.none))
theorem mS_B_chainValue (cf_worth : Int32 → Int32 → TS → Option (Int32 × TS)) (x1 : Int32) (x2 : Int32) (σ : TS) (hcf_worth : ∀ (a0 : Int32) (a1 : Int32) (a2 : TS), MS a2 (cf_worth a0 a1 a2)) : MS σ (B_chainValue cf_worth x1 x2 σ) := by
  unfold B_chainValue
  exact MS.nmV fun v1 =>
    MS.ob (MoK.rf _) (mS_L_chainValue_8 _ hcf_worth _ _ _ _ _) fun q13 s14 h_s14 =>
    MS.ob h_s14 (hcf_worth _ _ _) fun r17 s16 h_s16 =>
    MS.ob h_s16 (mS_L_chainValue_63 _ hcf_worth _ _ _ _ _) fun q60 s61 h_s61 =>
    MS.some h_s61
theorem mS_B_finds (cf_worth : Int32 → Int32 → TS → Option (Int32 × TS)) (x1 : Int32) (x2 : Int32) (σ : TS) (hcf_worth : ∀ (a0 : Int32) (a1 : Int32) (a2 : TS), MS a2 (cf_worth a0 a1 a2)) : MS σ (B_finds cf_worth x1 x2 σ) := by
  unfold B_finds
  exact MS.ite (MS.ob (MoK.rf _) (hcf_worth _ _ _) fun r3 s2 h_s2 =>
     MS.ite (MS.ob h_s2 (hcf_worth _ _ _) fun r8 s7 h_s7 =>
      MS.ob h_s7 (MS.of (fS_F_isBad _ ) (by decide)) fun r12 s11 h_s11 =>
      MS.ite (MS.ite (MS.ob h_s11 (MS.of (fS_F_compare _ _ _ _ ) (by decide)) fun r17 s16 h_s16 =>
        MS.ite (MS.some h_s16)
        (MS.some h_s16))
       (MS.none))
      (MS.some h_s11))
     (MS.none))
    (MS.none)
theorem mS_B_holds (cf_holds : Int32 → Int32 → TS → Option (Int32 × TS)) (cf_finds : Int32 → Int32 → TS → Option (Int32 × TS)) (x1 : Int32) (x2 : Int32) (σ : TS) (hcf_holds : ∀ (a0 : Int32) (a1 : Int32) (a2 : TS), MS a2 (cf_holds a0 a1 a2)) (hcf_finds : ∀ (a0 : Int32) (a1 : Int32) (a2 : TS), MS a2 (cf_finds a0 a1 a2)) : MS σ (B_holds cf_holds cf_finds x1 x2 σ) := by
  unfold B_holds
  exact MS.ob (MoK.rf _) (MS.of (fS_F_isBad _ ) (by decide)) fun r2 s1 h_s1 =>
    MS.ite (MS.ite (MS.ite (MS.ite (MS.ite (MS.ite (MS.some h_s1)
         (MS.none))
        (MS.none))
       (MS.ob h_s1 (hcf_finds _ _ _) fun r8 s7 h_s7 =>
        MS.some h_s7))
      (MS.ite (MS.ite (MS.ob h_s1 (hcf_holds _ _ _) fun r18 s17 h_s17 =>
         MS.ite (MS.ob h_s17 (hcf_holds _ _ _) fun r23 s22 h_s22 =>
          MS.ite (MS.some h_s22)
          (MS.ite (MS.some h_s22)
           (MS.some h_s22)))
         (MS.none))
        (MS.none))
       (MS.ite (MS.ite (MS.ob h_s1 (hcf_holds _ _ _) fun r31 s30 h_s30 =>
          MS.ite (MS.ob h_s30 (hcf_holds _ _ _) fun r36 s35 h_s35 =>
           MS.ite (MS.ite (MS.some h_s35)
            (MS.some h_s35))
           (MS.some h_s35))
          (MS.none))
         (MS.none))
        (MS.ite (MS.ite (MS.ob h_s1 (hcf_holds _ _ _) fun r44 s43 h_s43 =>
           MS.ite (MS.ob h_s43 (MS.of (fS_F_isBad _ ) (by decide)) fun r48 s47 h_s47 =>
            MS.ite (MS.some h_s47)
            (MS.some h_s47))
           (MS.some h_s43))
          (MS.none))
         (MS.ite (MS.ite (MS.ite (MS.some h_s1)
            (MS.none))
           (MS.none))
          (MS.ob h_s1 (hcf_finds _ _ _) fun r58 s57 h_s57 =>
           MS.some h_s57))))))
     (MS.none))
    (MS.some h_s1)
theorem mS_B_valueOf (cf_parameter : Int32 → TS → Option (Unit × TS)) (x1 : Int32) (σ : TS) (hcf_parameter : ∀ (a0 : Int32) (a1 : TS), MS a1 (cf_parameter a0 a1)) : MS σ (B_valueOf cf_parameter x1 σ) := by
  unfold B_valueOf
  exact MS.ite (MS.ite (MS.ite (MS.ite (MS.ite (MS.some (MoK.rf _))
        (MS.none))
       (MS.ob (MoK.rf _) (hcf_parameter _ _) fun r19 s18 h_s18 =>
        MS.ite (MS.some h_s18)
        (MS.none)))
      (MS.none))
     (MS.ite (MS.ite (MS.ite (MS.some (MoK.rf _))
        (MS.none))
       (MS.ite (MS.nmV fun v4 =>
         MS.ite (MS.ite (MS.ite (MS.ite (MS.nmV fun v8 =>
             MS.ite (MS.ite (MS.some (MoK.rf _))
              (MS.some (MoK.rf _)))
             (MS.none))
            (MS.none))
           (MS.none))
          (MS.ite (MS.ite (MS.some (MoK.rf _))
            (MS.some (MoK.rf _)))
           (MS.none)))
         (MS.none))
        (MS.none)))
      (MS.none)))
    (MS.none)
theorem mS_B_worth (cf_valueOf : Int32 → TS → Option (Int32 × TS)) (cf_worth : Int32 → Int32 → TS → Option (Int32 × TS)) (cf_holds : Int32 → Int32 → TS → Option (Int32 × TS)) (cf_chainValue : Int32 → Int32 → TS → Option (Int32 × TS)) (x1 : Int32) (x2 : Int32) (σ : TS) (hcf_valueOf : ∀ (a0 : Int32) (a1 : TS), MS a1 (cf_valueOf a0 a1)) (hcf_worth : ∀ (a0 : Int32) (a1 : Int32) (a2 : TS), MS a2 (cf_worth a0 a1 a2)) (hcf_holds : ∀ (a0 : Int32) (a1 : Int32) (a2 : TS), MS a2 (cf_holds a0 a1 a2)) (hcf_chainValue : ∀ (a0 : Int32) (a1 : Int32) (a2 : TS), MS a2 (cf_chainValue a0 a1 a2)) : MS σ (B_worth cf_valueOf cf_worth cf_holds cf_chainValue x1 x2 σ) := by
  unfold B_worth
  exact MS.ob (MoK.rf _) (MS.of (fS_F_isBad _ ) (by decide)) fun r2 s1 h_s1 =>
    MS.ite (MS.ite (MS.ite (MS.ite (MS.some h_s1)
       (MS.none))
      (MS.ite (MS.some h_s1)
       (MS.ite (MS.ite (MS.ob h_s1 (hcf_valueOf _ _) fun r12 s11 h_s11 =>
          MS.some h_s11)
         (MS.none))
        (MS.ite (MS.ite (MS.ob h_s1 (MS.of (fS_F_derOf _ _ ) (by decide)) fun r18 s17 h_s17 =>
           MS.some h_s17)
          (MS.none))
         (MS.ite (MS.ite (MS.ob h_s1 (MS.of (fS_F_preOf _ _ ) (by decide)) fun r24 s23 h_s23 =>
            MS.some h_s23)
           (MS.none))
          (MS.ite (MS.ob h_s1 (hcf_chainValue _ _ _) fun r29 s28 h_s28 =>
            MS.some h_s28)
           (MS.ite (MS.ob h_s1 (hcf_chainValue _ _ _) fun r34 s33 h_s33 =>
             MS.some h_s33)
            (MS.ite (MS.ite (MS.ob h_s1 (hcf_worth _ _ _) fun r40 s39 h_s39 =>
               MS.some h_s39)
              (MS.none))
             (MS.ite (MS.ob h_s1 (hcf_chainValue _ _ _) fun r45 s44 h_s44 =>
               MS.some h_s44)
              (MS.ite (MS.ob h_s1 (hcf_chainValue _ _ _) fun r50 s49 h_s49 =>
                MS.some h_s49)
               (MS.ite (MS.ite (MS.ob h_s1 (hcf_worth _ _ _) fun r56 s55 h_s55 =>
                  MS.ite (MS.some h_s55)
                  (MS.some h_s55))
                 (MS.none))
                (MS.ite (MS.ite (MS.ob h_s1 (hcf_worth _ _ _) fun r63 s62 h_s62 =>
                   MS.ob h_s62 (MS.of (fS_F_root _ _ ) (by decide)) fun r67 s66 h_s66 =>
                   MS.some h_s66)
                  (MS.none))
                 (MS.ite (MS.ite (MS.ob h_s1 (hcf_worth _ _ _) fun r73 s72 h_s72 =>
                    MS.ite (MS.ite (MS.some h_s72)
                     (MS.some h_s72))
                    (MS.some h_s72))
                   (MS.none))
                  (MS.ite (MS.ite (MS.ob h_s1 (hcf_worth _ _ _) fun r81 s80 h_s80 =>
                     MS.ob h_s80 (MS.of (fS_F_fit _ _ ) (by decide)) fun r85 s84 h_s84 =>
                     MS.some h_s84)
                    (MS.none))
                   (MS.ite (MS.ite (MS.ob h_s1 (hcf_worth _ _ _) fun r91 s90 h_s90 =>
                      MS.ite (MS.ob h_s90 (hcf_worth _ _ _) fun r96 s95 h_s95 =>
                       MS.some h_s95)
                      (MS.none))
                     (MS.none))
                    (MS.ite (MS.ite (MS.ob h_s1 (hcf_worth _ _ _) fun r102 s101 h_s101 =>
                       MS.ite (MS.ob h_s101 (hcf_worth _ _ _) fun r107 s106 h_s106 =>
                        MS.some h_s106)
                       (MS.none))
                      (MS.none))
                     (MS.ite (MS.ite (MS.ob h_s1 (hcf_holds _ _ _) fun r113 s112 h_s112 =>
                        MS.ite (MS.ite (MS.ob h_s112 (hcf_worth _ _ _) fun r118 s117 h_s117 =>
                          MS.some h_s117)
                         (MS.none))
                        (MS.ite (MS.ob h_s112 (hcf_worth _ _ _) fun r123 s122 h_s122 =>
                          MS.some h_s122)
                         (MS.none)))
                       (MS.none))
                      (MS.ite (MS.ob h_s1 (hcf_chainValue _ _ _) fun r129 s128 h_s128 =>
                        MS.some h_s128)
                       (MS.ite (MS.ob h_s1 (hcf_chainValue _ _ _) fun r134 s133 h_s133 =>
                         MS.some h_s133)
                        (MS.ite (MS.ob h_s1 (hcf_chainValue _ _ _) fun r139 s138 h_s138 =>
                          MS.some h_s138)
                         (MS.ite (MS.ob h_s1 (hcf_chainValue _ _ _) fun r144 s143 h_s143 =>
                           MS.some h_s143)
                          (MS.ite (MS.ob h_s1 (hcf_chainValue _ _ _) fun r149 s148 h_s148 =>
                            MS.some h_s148)
                           (MS.ite (MS.ob h_s1 (hcf_chainValue _ _ _) fun r154 s153 h_s153 =>
                             MS.some h_s153)
                            (MS.ite (MS.ob h_s1 (hcf_chainValue _ _ _) fun r159 s158 h_s158 =>
                              MS.some h_s158)
                             (MS.ite (MS.ob h_s1 (hcf_chainValue _ _ _) fun r164 s163 h_s163 =>
                               MS.some h_s163)
                              (MS.ite (MS.ob h_s1 (hcf_chainValue _ _ _) fun r169 s168 h_s168 =>
                                MS.some h_s168)
                               (MS.ite (MS.ob h_s1 (hcf_chainValue _ _ _) fun r174 s173 h_s173 =>
                                 MS.some h_s173)
                                (MS.ite (MS.ob h_s1 (hcf_chainValue _ _ _) fun r179 s178 h_s178 =>
                                  MS.some h_s178)
                                 (MS.ite (MS.ob h_s1 (hcf_chainValue _ _ _) fun r184 s183 h_s183 =>
                                   MS.some h_s183)
                                  (MS.ite (MS.ob h_s1 (hcf_chainValue _ _ _) fun r189 s188 h_s188 =>
                                    MS.some h_s188)
                                   (MS.ite (MS.ite (MS.ite (MS.some h_s1)
                                      (MS.none))
                                     (MS.none))
                                    (MS.ob h_s1 (hcf_chainValue _ _ _) fun r196 s195 h_s195 =>
                                     MS.some h_s195))))))))))))))))))))))))))))))))
     (MS.none))
    (MS.some h_s1)
theorem mS_G_chainValue : ∀ d : Nat, (∀ (a0 : Int32) (a1 : Int32) (a2 : TS), MS a2 ((G_chainValue d).1 a0 a1 a2)) ∧ (∀ (a0 : Int32) (a1 : Int32) (a2 : TS), MS a2 ((G_chainValue d).2.1 a0 a1 a2)) ∧ (∀ (a0 : Int32) (a1 : Int32) (a2 : TS), MS a2 ((G_chainValue d).2.2.1 a0 a1 a2)) ∧ (∀ (a0 : Int32) (a1 : TS), MS a1 ((G_chainValue d).2.2.2.1 a0 a1)) ∧ (∀ (a0 : Int32) (a1 : TS), MS a1 ((G_chainValue d).2.2.2.2.1 a0 a1)) ∧ (∀ (a0 : Int32) (a1 : Int32) (a2 : TS), MS a2 ((G_chainValue d).2.2.2.2.2 a0 a1 a2)) := by
  intro d
  induction d with
  | zero => exact ⟨fun _ _ _ => MS.none, fun _ _ _ => MS.none, fun _ _ _ => MS.none, fun _ _ => MS.none, fun _ _ => MS.none, fun _ _ _ => MS.none⟩
  | succ d ih => exact ⟨fun a0 a1 a2 => mS_B_chainValue _ a0 a1 a2 (fun b0 b1 b2 => ih.2.2.2.2.2 b0 b1 b2), fun a0 a1 a2 => mS_B_finds _ a0 a1 a2 (fun b0 b1 b2 => ih.2.2.2.2.2 b0 b1 b2), fun a0 a1 a2 => mS_B_holds _ _ a0 a1 a2 (fun b0 b1 b2 => ih.2.2.1 b0 b1 b2) (fun b0 b1 b2 => ih.2.1 b0 b1 b2), fun a0 a1 => mS_B_parameter _ a0 a1 (fun b0 b1 b2 => ih.2.2.2.2.2 b0 b1 b2), fun a0 a1 => mS_B_valueOf _ a0 a1 (fun b0 b1 => ih.2.2.2.1 b0 b1), fun a0 a1 a2 => mS_B_worth _ _ _ _ a0 a1 a2 (fun b0 b1 => ih.2.2.2.2.1 b0 b1) (fun b0 b1 b2 => ih.2.2.2.2.2 b0 b1 b2) (fun b0 b1 b2 => ih.2.2.1 b0 b1 b2) (fun b0 b1 b2 => ih.1 b0 b1 b2)⟩
theorem mS_F_holds (a0 : Int32) (a1 : Int32) (a2 : TS) : MS a2 (F_holds a0 a1 a2) := (mS_G_chainValue 1900).2.2.1 a0 a1 a2
theorem mS_F_parameter (a0 : Int32) (a1 : TS) : MS a1 (F_parameter a0 a1) := (mS_G_chainValue 1900).2.2.2.1 a0 a1
theorem mS_F_worth (a0 : Int32) (a1 : Int32) (a2 : TS) : MS a2 (F_worth a0 a1 a2) := (mS_G_chainValue 1900).2.2.2.2.2 a0 a1 a2
theorem mS_F_truth (x1 : Int32) (x2 : Int32) (σ : TS)  : MS σ (F_truth x1 x2 σ) := by
  unfold F_truth
  exact MS.nmV fun v2 =>
    MS.nmV fun v4 =>
    MS.nmT (MoK.p_tsI (MoK.rf _)) fun s5 h_s5 =>
    MS.nmT (MoK.p_tsI h_s5) fun s6 h_s6 =>
    MS.nmT (MoK.p_tsI h_s6) fun s7 h_s7 =>
    MS.nmV fun v8 =>
    MS.ob h_s7 (MS.of (fS_F_build  _ _ _ _ _) (by decide)) fun r10 s9 h_s9 =>
    MS.nmT (MoK.p_tsI h_s9) fun s13 h_s13 =>
    MS.nmT (MoK.p_tsI h_s13) fun s14 h_s14 =>
    MS.nmV fun v15 =>
    MS.ob h_s14 (MS.of (fS_F_isBad _ ) (by decide)) fun r17 s16 h_s16 =>
    MS.ite (MS.ob h_s16 (mS_F_holds  _ _ _) fun r23 s22 h_s22 =>
     MS.ite (MS.ite (MS.nmT (MoK.p_tsI h_s22) fun s26 h_s26 =>
       MS.some h_s26)
      (MS.some h_s22))
     (MS.ite (MS.nmT (MoK.p_tsI h_s22) fun s28 h_s28 =>
       MS.some h_s28)
      (MS.some h_s22)))
    (MS.ite (MS.nmT (MoK.p_tsI h_s16) fun s20 h_s20 =>
      MS.some h_s20)
     (MS.some h_s16))
theorem mS_L_equationsOf_113 (cf_equationsOf : Int32 → Int32 → TS → Option (Unit × TS)) (hcf_equationsOf : ∀ (a0 : Int32) (a1 : Int32) (a2 : TS), MS a2 (cf_equationsOf a0 a1 a2)) : ∀ (n : Nat) (x2 : Int32) (x3 : Int32) (x4 : Int32) (σ : TS), MS σ (L_equationsOf_113 cf_equationsOf n x2 x3 x4 σ)
  | 0, _, _, _, _ => MS.none
  | n + 1, x2, x3, x4, σ => by
    rw [L_equationsOf_113]
    exact MS.ite (MS.ite (MS.some (MoK.rf _))
       (MS.ob (MoK.rf _) (MS.of (fS_F_isBad _ ) (by decide)) fun r37 s36 h_s36 =>
        MS.ite (MS.nmT (MoK.p_tsI h_s36) fun s40 h_s40 =>
         MS.ite (MS.ite (MS.ite (MS.nmT (MoK.p_tsB h_s40) fun s43 h_s43 =>
            MS.ite (MS.nmT (MoK.p_tsA h_s43 (by decide)) fun s45 h_s45 =>
             MS.nmT (MoK.p_tsI h_s45) fun s46 h_s46 =>
             MS.ite (MS.ob h_s46 (hcf_equationsOf _ _ _) fun r49 s48 h_s48 =>
              MS.nmT (MoK.p_tsI h_s48) fun s52 h_s52 =>
              MS.nmV fun v53 =>
              MS.call h_s52 (mS_L_equationsOf_113 _ hcf_equationsOf _ _ _ _ _))
             (MS.none))
            (MS.none))
           (MS.none))
          (MS.none))
         (MS.ob h_s40 (MS.of (fS_F_bad _ _ _ ) (by decide)) fun r55 s54 h_s54 =>
          MS.some h_s54))
        (MS.some h_s36)))
      (MS.none)
theorem mS_L_equationsOf_2 (cf_equationsOf : Int32 → Int32 → TS → Option (Unit × TS)) (hcf_equationsOf : ∀ (a0 : Int32) (a1 : Int32) (a2 : TS), MS a2 (cf_equationsOf a0 a1 a2)) : ∀ (n : Nat) (x2 : Int32) (x3 : Int32) (σ : TS), MS σ (L_equationsOf_2 cf_equationsOf n x2 x3 σ)
  | 0, _, _, _ => MS.none
  | n + 1, x2, x3, σ => by
    rw [L_equationsOf_2]
    exact MS.ite (MS.some (MoK.rf _))
      (MS.ob (MoK.rf _) (MS.of (fS_F_isBad _ ) (by decide)) fun r2 s1 h_s1 =>
       MS.ite (MS.ite (MS.ite (MS.ite (MS.ob h_s1 (MS.of (fS_F_build  _ _ _ _ _) (by decide)) fun r9 s8 h_s8 =>
           MS.ite (MS.ob h_s8 (MS.of (fS_F_build  _ _ _ _ _) (by decide)) fun r14 s13 h_s13 =>
            MS.ob h_s13 (MS.of (fS_F_addEquation _ _ _ ) (by decide)) fun r18 s17 h_s17 =>
            MS.ite (MS.nmV fun v22 =>
             MS.call h_s17 (mS_L_equationsOf_2 _ hcf_equationsOf _ _ _ _))
            (MS.none))
           (MS.none))
          (MS.none))
         (MS.ite (MS.ite (MS.ite (MS.ob h_s1 (MS.of (fS_F_connect _ _ _ _ ) (by decide)) fun r27 s26 h_s26 =>
             MS.ite (MS.nmV fun v31 =>
              MS.call h_s26 (mS_L_equationsOf_2 _ hcf_equationsOf _ _ _ _))
             (MS.none))
            (MS.none))
           (MS.none))
          (MS.ite (MS.ite (MS.nmV fun v34 =>
             MS.ob h_s1 (mS_L_equationsOf_113 _ hcf_equationsOf _ _ _ _ _) fun q61 s62 h_s62 =>
             MS.ite (MS.nmV fun v65 =>
              MS.call h_s62 (mS_L_equationsOf_2 _ hcf_equationsOf _ _ _ _))
             (MS.none))
            (MS.none))
           (MS.ite (MS.ite (MS.ob h_s1 (mS_F_truth _ _ _ ) fun r70 s69 h_s69 =>
              MS.ob h_s69 (MS.of (fS_F_isBad _ ) (by decide)) fun r74 s73 h_s73 =>
              MS.ite (MS.ite (MS.ite (MS.ob h_s73 (hcf_equationsOf _ _ _) fun r81 s80 h_s80 =>
                 MS.ite (MS.nmV fun v85 =>
                  MS.call h_s80 (mS_L_equationsOf_2 _ hcf_equationsOf _ _ _ _))
                 (MS.none))
                (MS.none))
               (MS.ite (MS.ob h_s73 (hcf_equationsOf _ _ _) fun r88 s87 h_s87 =>
                 MS.ite (MS.nmV fun v92 =>
                  MS.call h_s87 (mS_L_equationsOf_2 _ hcf_equationsOf _ _ _ _))
                 (MS.none))
                (MS.none)))
              (MS.ite (MS.nmV fun v78 =>
                MS.call h_s73 (mS_L_equationsOf_2 _ hcf_equationsOf _ _ _ _))
               (MS.none)))
             (MS.none))
            (MS.ob h_s1 (MS.of (fS_F_when _ _ _ ) (by decide)) fun r96 s95 h_s95 =>
             MS.ite (MS.nmV fun v100 =>
              MS.call h_s95 (mS_L_equationsOf_2 _ hcf_equationsOf _ _ _ _))
             (MS.none))))))
        (MS.none))
       (MS.some h_s1))
theorem mS_B_equationsOf (cf_equationsOf : Int32 → Int32 → TS → Option (Unit × TS)) (x1 : Int32) (x2 : Int32) (σ : TS) (hcf_equationsOf : ∀ (a0 : Int32) (a1 : Int32) (a2 : TS), MS a2 (cf_equationsOf a0 a1 a2)) : MS σ (B_equationsOf cf_equationsOf x1 x2 σ) := by
  unfold B_equationsOf
  exact MS.ob (MoK.rf _) (mS_L_equationsOf_2 _ hcf_equationsOf _ _ _ _) fun q103 s104 h_s104 =>
    MS.some h_s104
theorem mS_G_equationsOf : ∀ d : Nat, (∀ (a0 : Int32) (a1 : Int32) (a2 : TS), MS a2 ((G_equationsOf d) a0 a1 a2)) := by
  intro d
  induction d with
  | zero => exact fun _ _ _ => MS.none
  | succ d ih => exact fun a0 a1 a2 => mS_B_equationsOf _ a0 a1 a2 (fun b0 b1 b2 => ih b0 b1 b2)
theorem mS_F_equationsOf (a0 : Int32) (a1 : Int32) (a2 : TS) : MS a2 (F_equationsOf a0 a1 a2) := (mS_G_equationsOf 40) a0 a1 a2
theorem mS_L_ownEquations_7 (cf_ownEquations : Int32 → Int32 → TS → Option (Unit × TS)) (hcf_ownEquations : ∀ (a0 : Int32) (a1 : Int32) (a2 : TS), MS a2 (cf_ownEquations a0 a1 a2)) : ∀ (n : Nat) (x1 : Int32) (x2 : Int32) (x3 : Int32) (σ : TS), MS σ (L_ownEquations_7 cf_ownEquations n x1 x2 x3 σ)
  | 0, _, _, _, _ => MS.none
  | n + 1, x1, x2, x3, σ => by
    rw [L_ownEquations_7]
    exact MS.ite (MS.ite (MS.ite (MS.some (MoK.rf _))
        (MS.ob (MoK.rf _) (MS.of (fS_F_isBad _ ) (by decide)) fun r6 s5 h_s5 =>
         MS.ite (MS.ite (MS.ite (MS.nmV fun v11 =>
            MS.call h_s5 (mS_L_ownEquations_7 _ hcf_ownEquations _ _ _ _ _))
           (MS.ite (MS.ob h_s5 (MS.of (fS_F_classOf _ _ ) (by decide)) fun r14 s13 h_s13 =>
             MS.ob h_s13 (hcf_ownEquations _ _ _) fun r18 s17 h_s17 =>
             MS.nmV fun v21 =>
             MS.call h_s17 (mS_L_ownEquations_7 _ hcf_ownEquations _ _ _ _ _))
            (MS.none)))
          (MS.none))
         (MS.some h_s5)))
       (MS.none))
      (MS.none)
theorem mS_B_ownEquations (cf_ownEquations : Int32 → Int32 → TS → Option (Unit × TS)) (x1 : Int32) (x2 : Int32) (σ : TS) (hcf_ownEquations : ∀ (a0 : Int32) (a1 : Int32) (a2 : TS), MS a2 (cf_ownEquations a0 a1 a2)) : MS σ (B_ownEquations cf_ownEquations x1 x2 σ) := by
  unfold B_ownEquations
  exact MS.ite (MS.nmV fun v2 =>
     MS.ob (MoK.rf _) (mS_L_ownEquations_7 _ hcf_ownEquations _ _ _ _ _) fun q25 s26 h_s26 =>
     MS.ob h_s26 (MS.of (fS_F_isBad _ ) (by decide)) fun r29 s28 h_s28 =>
     MS.ite (MS.ite (MS.ob h_s28 (mS_F_equationsOf  _ _ _) fun r34 s33 h_s33 =>
       MS.some h_s33)
      (MS.none))
     (MS.some h_s28))
    (MS.none)
theorem mS_G_ownEquations : ∀ d : Nat, (∀ (a0 : Int32) (a1 : Int32) (a2 : TS), MS a2 ((G_ownEquations d) a0 a1 a2)) := by
  intro d
  induction d with
  | zero => exact fun _ _ _ => MS.none
  | succ d ih => exact fun a0 a1 a2 => mS_B_ownEquations _ a0 a1 a2 (fun b0 b1 b2 => ih b0 b1 b2)
theorem mS_F_ownEquations (a0 : Int32) (a1 : Int32) (a2 : TS) : MS a2 (F_ownEquations a0 a1 a2) := (mS_G_ownEquations 40) a0 a1 a2
theorem mS_L_collect_2 (cf_collect : Int32 → TS → Option (Unit × TS)) (hcf_collect : ∀ (a0 : Int32) (a1 : TS), MS a1 (cf_collect a0 a1)) : ∀ (n : Nat) (x1 : Int32) (x2 : Int32) (σ : TS), MS σ (L_collect_2 cf_collect n x1 x2 σ)
  | 0, _, _, _ => MS.none
  | n + 1, x1, x2, σ => by
    rw [L_collect_2]
    exact MS.ite (MS.some (MoK.rf _))
      (MS.ob (MoK.rf _) (MS.of (fS_F_isBad _ ) (by decide)) fun r2 s1 h_s1 =>
       MS.ite (MS.ite (MS.ite (MS.ob h_s1 (hcf_collect _ _) fun r8 s7 h_s7 =>
          MS.nmV fun v11 =>
          MS.call h_s7 (mS_L_collect_2 _ hcf_collect _ _ _ _))
         (MS.nmV fun v6 =>
          MS.call h_s1 (mS_L_collect_2 _ hcf_collect _ _ _ _)))
        (MS.none))
       (MS.some h_s1))
theorem mS_B_collect (cf_collect : Int32 → TS → Option (Unit × TS)) (x1 : Int32) (σ : TS) (hcf_collect : ∀ (a0 : Int32) (a1 : TS), MS a1 (cf_collect a0 a1)) : MS σ (B_collect cf_collect x1 σ) := by
  unfold B_collect
  exact MS.ob (MoK.rf _) (mS_L_collect_2 _ hcf_collect _ _ _ _) fun q15 s16 h_s16 =>
    MS.ob h_s16 (MS.of (fS_F_isBad _ ) (by decide)) fun r19 s18 h_s18 =>
    MS.ite (MS.ite (MS.ob h_s18 (mS_F_ownEquations  _ _ _) fun r24 s23 h_s23 =>
      MS.some h_s23)
     (MS.none))
    (MS.some h_s18)
theorem mS_G_collect : ∀ d : Nat, (∀ (a0 : Int32) (a1 : TS), MS a1 ((G_collect d) a0 a1)) := by
  intro d
  induction d with
  | zero => exact fun _ _ => MS.none
  | succ d ih => exact fun a0 a1 => mS_B_collect _ a0 a1 (fun b0 b1 => ih b0 b1)
theorem mS_F_collect (a0 : Int32) (a1 : TS) : MS a1 (F_collect a0 a1) := (mS_G_collect 40) a0 a1
theorem mS_F_startOf (x1 : Int32) (σ : TS)  : MS σ (F_startOf x1 σ) := by
  unfold F_startOf
  exact MS.ite (MS.ite (MS.ite (MS.nmT (MoK.p_tsA (MoK.rf _) (by decide)) fun s10 h_s10 =>
       MS.some h_s10)
      (MS.none))
     (MS.ite (MS.ob (MoK.rf _) (mS_F_worth  _ _ _) fun r4 s3 h_s3 =>
       MS.ite (MS.nmT (MoK.p_tsA h_s3 (by decide)) fun s8 h_s8 =>
        MS.some h_s8)
       (MS.none))
      (MS.none)))
    (MS.none)
theorem mS_L_makeFlat_351   : ∀ (n : Nat) (x2 : Int32) (σ : TS), MS σ (L_makeFlat_351  n x2 σ)
  | 0, _, _ => MS.none
  | n + 1, x2, σ => by
    rw [L_makeFlat_351]
    exact MS.ite (MS.some (MoK.rf _))
      (MS.ob (MoK.rf _) (MS.of (fS_F_isBad _ ) (by decide)) fun r105 s104 h_s104 =>
       MS.ite (MS.ite (MS.ite (MS.ob h_s104 (mS_F_parameter  _ _) fun r111 s110 h_s110 =>
          MS.nmV fun v114 =>
          MS.call h_s110 (mS_L_makeFlat_351  _ _ _))
         (MS.nmV fun v109 =>
          MS.call h_s104 (mS_L_makeFlat_351  _ _ _)))
        (MS.none))
       (MS.some h_s104))
theorem mS_L_makeFlat_585   : ∀ (n : Nat) (x2 : Int32) (σ : TS), MS σ (L_makeFlat_585  n x2 σ)
  | 0, _, _ => MS.none
  | n + 1, x2, σ => by
    rw [L_makeFlat_585]
    exact MS.ite (MS.some (MoK.rf _))
      (MS.ob (MoK.rf _) (MS.of (fS_F_isBad _ ) (by decide)) fun r192 s191 h_s191 =>
       MS.ite (MS.ob h_s191 (mS_F_startOf _ _ ) fun r196 s195 h_s195 =>
        MS.nmV fun v199 =>
        MS.call h_s195 (mS_L_makeFlat_585  _ _ _))
       (MS.some h_s191))
theorem mS_J_makeFlat_578 (σ : TS)  : MS σ (J_makeFlat_578 σ) := by
  unfold J_makeFlat_578
  exact MS.nmT (MoK.p_tsI (MoK.rf _)) fun s190 h_s190 =>
    MS.ob h_s190 (mS_L_makeFlat_585  _ _ _) fun q202 s203 h_s203 =>
    MS.call h_s203 (MS.of (fS_J_makeFlat_611 _ ) (by decide))
theorem mS_J_makeFlat_517 (σ : TS)  : MS σ (J_makeFlat_517 σ) := by
  unfold J_makeFlat_517
  exact MS.nmT (MoK.p_tsI (MoK.rf _)) fun s168 h_s168 =>
    MS.ob h_s168 (MS.of (fS_L_makeFlat_524  _ _ _) (by decide)) fun q187 s188 h_s188 =>
    MS.call h_s188 (mS_J_makeFlat_578 _ )
theorem mS_J_makeFlat_506 (σ : TS)  : MS σ (J_makeFlat_506 σ) := by
  unfold J_makeFlat_506
  exact MS.ob (MoK.rf _) (MS.of (fS_F_isBad _ ) (by decide)) fun r165 s164 h_s164 =>
    MS.ite (MS.ob h_s164 (MS.of (fS_F_checkActions _ ) (by decide)) fun r223 s222 h_s222 =>
     MS.call h_s222 (mS_J_makeFlat_517 _ ))
    (MS.call h_s164 (mS_J_makeFlat_517 _ ))
theorem mS_J_makeFlat_487 (σ : TS)  : MS σ (J_makeFlat_487 σ) := by
  unfold J_makeFlat_487
  exact MS.nmT (MoK.p_tsI (MoK.rf _)) fun s159 h_s159 =>
    MS.ob h_s159 (MS.of (fS_F_isBad _ ) (by decide)) fun r161 s160 h_s160 =>
    MS.ite (MS.ob h_s160 (MS.of (fS_F_numberAll _ ) (by decide)) fun r228 s227 h_s227 =>
     MS.call h_s227 (mS_J_makeFlat_506 _ ))
    (MS.call h_s160 (mS_J_makeFlat_506 _ ))
theorem mS_J_makeFlat_476 (σ : TS)  : MS σ (J_makeFlat_476 σ) := by
  unfold J_makeFlat_476
  exact MS.ob (MoK.rf _) (MS.of (fS_F_isBad _ ) (by decide)) fun r156 s155 h_s155 =>
    MS.ite (MS.ob h_s155 (MS.of (fS_F_connections _ ) (by decide)) fun r233 s232 h_s232 =>
     MS.call h_s232 (mS_J_makeFlat_487 _ ))
    (MS.call h_s155 (mS_J_makeFlat_487 _ ))
theorem mS_J_makeFlat_464 (σ : TS)  : MS σ (J_makeFlat_464 σ) := by
  unfold J_makeFlat_464
  exact MS.ob (MoK.rf _) (MS.of (fS_F_isBad _ ) (by decide)) fun r152 s151 h_s151 =>
    MS.ite (MS.ob h_s151 (mS_F_collect  _ _) fun r238 s237 h_s237 =>
     MS.call h_s237 (mS_J_makeFlat_476 _ ))
    (MS.call h_s151 (mS_J_makeFlat_476 _ ))
theorem mS_J_makeFlat_387 (σ : TS)  : MS σ (J_makeFlat_387 σ) := by
  unfold J_makeFlat_387
  exact MS.ob (MoK.rf _) (MS.of (fS_L_makeFlat_389  _ _ _) (by decide)) fun q148 s149 h_s149 =>
    MS.call h_s149 (mS_J_makeFlat_464 _ )
theorem mS_J_makeFlat_344 (σ : TS)  : MS σ (J_makeFlat_344 σ) := by
  unfold J_makeFlat_344
  exact MS.nmT (MoK.p_tsI (MoK.rf _)) fun s103 h_s103 =>
    MS.ob h_s103 (mS_L_makeFlat_351  _ _ _) fun q118 s119 h_s119 =>
    MS.call h_s119 (mS_J_makeFlat_387 _ )
