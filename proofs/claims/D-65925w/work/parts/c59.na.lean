/-! Layer B: solving does not count nodes (the twin alone) -/
set_option maxRecDepth 100000
def NaK (σ σ' : TS) : Prop := tI σ 129 = 0 → tI σ' 129 = 0 ∧ tI σ' 127 = tI σ 127
theorem NaK.rf (σ : TS) : NaK σ σ := fun h => ⟨h, rfl⟩
theorem NaK.tr {σ1 σ2 σ3 : TS} (h : NaK σ1 σ2) (g : NaK σ2 σ3) : NaK σ1 σ3 := fun z => ⟨(g (h z).1).1, (g (h z).1).2.trans (h z).2⟩
theorem NaK.p_tsI {σ s : TS} (h : NaK σ s) {k : Nat} {v : Int32} (hk : k ≠ 127 ∧ k ≠ 129) : NaK σ (tsI s k v) := fun z => by
  rw [show tI (tsI s k v) 129 = if 129 = k then v else tI s 129 from rfl, show tI (tsI s k v) 127 = if 127 = k then v else tI s 127 from rfl, if_neg (fun q => hk.2 q.symm), if_neg (fun q => hk.1 q.symm)]; exact h z
theorem NaK.p_tsL {σ s : TS} (h : NaK σ s) {k : Nat} {v : Int64} : NaK σ (tsL s k v) := h
theorem NaK.p_tsB {σ s : TS} (h : NaK σ s) {k i : Nat} {v : Int64} : NaK σ (tsB s k i v) := h
theorem NaK.p_tsA {σ s : TS} (h : NaK σ s) {k i : Nat} {v : Int32} : NaK σ (tsA s k i v) := h
def NS {α : Type} (σ0 : TS) (o : Option (α × TS)) : Prop := ∀ r σ', o = some (r, σ') → NaK σ0 σ'
theorem NS.of {α : Type} {S : List Nat} {σ0 : TS} {o : Option (α × TS)} (h : FS S σ0 o) (hS : S.contains 127 = false) (hT : S.contains 129 = false) : NS σ0 o := fun r σ' e z => ⟨(h r σ' e 129 hT).1.trans z, (h r σ' e 127 hS).1⟩
theorem NS.none {α : Type} {σ0 : TS} : NS σ0 (none : Option (α × TS)) := fun _ _ h => by cases h
theorem NS.some {α : Type} {σ0 σ : TS} {r : α} (h : NaK σ0 σ) : NS σ0 (some (r, σ)) := fun _ _ e => by cases e; exact h
theorem NS.ite {α : Type} {σ0 : TS} {c : Prop} [Decidable c] {a b : Option (α × TS)} (h1 : NS σ0 a) (h2 : NS σ0 b) : NS σ0 (if c then a else b) := by
  split
  · exact h1
  · exact h2
theorem NS.nmT {β : Type} {σ0 x : TS} {f : TS → Option (β × TS)} (hx : NaK σ0 x) (h : ∀ s, NaK σ0 s → NS σ0 (f s)) : NS σ0 (nm x f) := h x hx
theorem NS.nmV {α β : Type} {σ0 : TS} {x : α} {f : α → Option (β × TS)} (h : ∀ v, NS σ0 (f v)) : NS σ0 (nm x f) := h x
theorem NS.call {β : Type} {σ0 s : TS} {o : Option (β × TS)} (hs : NaK σ0 s) (h1 : NS s o) : NS σ0 o := fun r σ' e => hs.tr (h1 r σ' e)
theorem NS.ob {α β : Type} {σ0 s : TS} {o : Option (α × TS)} {k : α → TS → Option (β × TS)} (hs : NaK σ0 s) (h1 : NS s o) (h2 : ∀ r s', NaK σ0 s' → NS σ0 (k r s')) : NS σ0 (ob o k) := by
  intro r σ' e
  obtain ⟨a, t, e1, e2⟩ := obE e
  exact h2 a t (hs.tr (h1 a t e1)) r σ' e2
theorem NS.obS {α ρ β : Type} {σ0 s : TS} {o : Option ((α ⊕ ρ) × TS)} {kr : ρ → TS → Option (β × TS)} {k : α → TS → Option (β × TS)} (hs : NaK σ0 s) (h1 : NS s o) (h3 : ∀ r s', NaK σ0 s' → NS σ0 (kr r s')) (h2 : ∀ r s', NaK σ0 s' → NS σ0 (k r s')) : NS σ0 (obS o kr k) := by
  intro r σ' e
  rcases obSE e with ⟨a, t, e1, e2⟩ | ⟨a, t, e1, e2⟩
  · exact h2 a t (hs.tr (h1 _ t e1)) r σ' e2
  · exact h3 a t (hs.tr (h1 _ t e1)) r σ' e2
theorem nS_J_make_485 (x5 : Int32) (σ : TS) : NS σ (J_make_485 x5 σ) := by
  by_cases q : tI σ 129 = 0
  · unfold J_make_485
    rw [if_pos q]; exact NS.some (NaK.rf _)
  · exact fun r σ' _ z => absurd z q
theorem nS_J_make_433 (x5 : Int32) (x7 : Int32) (σ : TS)  : NS σ (J_make_433 x5 x7 σ) := by
  unfold J_make_433
  exact NS.ite (NS.nmT (NaK.p_tsA (NaK.rf _)) fun s20 h_s20 =>
     NS.ite (NS.ite (NS.call h_s20 (nS_J_make_485 _ _ ))
      (NS.nmT (NaK.p_tsI h_s20 (by decide)) fun s31 h_s31 =>
       NS.ite (NS.call h_s31 (nS_J_make_485 _ _ ))
       (NS.ob h_s31 (NS.of (fS_F_bad _ _ _ ) (by decide) (by decide)) fun r33 s32 h_s32 =>
        NS.call h_s32 (nS_J_make_485 _ _ ))))
     (NS.call h_s20 (nS_J_make_485 _ _ )))
    (NS.none)
theorem nS_J_make_312 (x3 : Int32) (x4 : Int32) (x5 : Int32) (σ : TS)  : NS σ (J_make_312 x3 x4 x5 σ) := by
  unfold J_make_312
  exact NS.ite (NS.ite (NS.nmV fun v18 =>
      NS.call (NaK.rf _) (nS_J_make_433 _ _ _ ))
     (NS.none))
    (NS.none)
theorem nS_J_make_428 (x5 : Int32) (y0 : Int32) (y1 : Int32) (σ : TS)  : NS σ (J_make_428 x5 y0 y1 σ) := by
  unfold J_make_428
  exact NS.nmV fun v44 =>
    NS.call (NaK.rf _) (nS_J_make_433 _ _ _ )
theorem nS_J_make_282 (x1 : Int32) (x2 : Int32) (x3 : Int32) (x4 : Int32) (x5 : Int32) (x6 : Int32) (σ : TS)  : NS σ (J_make_282 x1 x2 x3 x4 x5 x6 σ) := by
  unfold J_make_282
  exact NS.ite (NS.nmT (NaK.p_tsA (NaK.rf _)) fun s15 h_s15 =>
     NS.ite (NS.call h_s15 (nS_J_make_312 _ _ _ _ ))
     (NS.ite (NS.call h_s15 (nS_J_make_312 _ _ _ _ ))
      (NS.ite (NS.ite (NS.ite (NS.ite (NS.nmV fun v57 =>
           NS.call h_s15 (nS_J_make_433 _ _ _ ))
          (NS.none))
         (NS.none))
        (NS.none))
       (NS.ite (NS.call h_s15 (nS_J_make_433 _ _ _ ))
        (NS.ite (NS.call h_s15 (nS_J_make_433 _ _ _ ))
         (NS.ite (NS.call h_s15 (nS_J_make_433 _ _ _ ))
          (NS.ite (NS.call h_s15 (nS_J_make_433 _ _ _ ))
           (NS.ite (NS.call h_s15 (nS_J_make_433 _ _ _ ))
            (NS.ite (NS.call h_s15 (nS_J_make_433 _ _ _ ))
             (NS.ite (NS.call h_s15 (nS_J_make_433 _ _ _ ))
              (NS.ite (NS.ob h_s15 (NS.of (fS_F_isTwo _ _ ) (by decide) (by decide)) fun r41 s40 h_s40 =>
                NS.ite (NS.call h_s40 (nS_J_make_428 _ _ _ _ ))
                (NS.ite (NS.call h_s40 (nS_J_make_428 _ _ _ _ ))
                 (NS.none)))
               (NS.none))))))))))))
    (NS.none)
theorem nS_J_make_145 (x1 : Int32) (x2 : Int32) (x3 : Int32) (x4 : Int32) (x5 : Int32) (x6 : Int32) (σ : TS)  : NS σ (J_make_145 x1 x2 x3 x4 x5 x6 σ) := by
  unfold J_make_145
  exact NS.ite (NS.ite (NS.nmV fun v13 =>
      NS.call (NaK.rf _) (nS_J_make_282 _ _ _ _ _ _ _ ))
     (NS.none))
    (NS.none)
theorem nS_J_make_202 (x1 : Int32) (x2 : Int32) (x3 : Int32) (x4 : Int32) (x5 : Int32) (x6 : Int32) (σ : TS)  : NS σ (J_make_202 x1 x2 x3 x4 x5 x6 σ) := by
  unfold J_make_202
  exact NS.ite (NS.nmV fun v62 =>
     NS.call (NaK.rf _) (nS_J_make_282 _ _ _ _ _ _ _ ))
    (NS.none)
theorem nS_J_make_263 (x1 : Int32) (x2 : Int32) (x3 : Int32) (x4 : Int32) (x5 : Int32) (x6 : Int32) (σ : TS)  : NS σ (J_make_263 x1 x2 x3 x4 x5 x6 σ) := by
  unfold J_make_263
  exact NS.ite (NS.ite (NS.nmV fun v65 =>
      NS.call (NaK.rf _) (nS_J_make_282 _ _ _ _ _ _ _ ))
     (NS.none))
    (NS.none)
theorem nS_F_make (x1 : Int32) (x2 : Int32) (x3 : Int32) (x4 : Int32) (σ : TS)  : NS σ (F_make x1 x2 x3 x4 σ) := by
  unfold F_make
  exact NS.ite (NS.ite (NS.ite (NS.ob (NaK.rf _) (NS.of (fS_F_bad _ _ _ ) (by decide) (by decide)) fun r90 s89 h_s89 =>
       NS.some h_s89)
      (NS.ob (NaK.rf _) (NS.of (fS_F_bad _ _ _ ) (by decide) (by decide)) fun r94 s93 h_s93 =>
       NS.some h_s93))
     (NS.ite (NS.ob (NaK.rf _) (NS.of (fS_F_bad _ _ _ ) (by decide) (by decide)) fun r100 s99 h_s99 =>
       NS.some h_s99)
      (NS.ob (NaK.rf _) (NS.of (fS_F_bad _ _ _ ) (by decide) (by decide)) fun r104 s103 h_s103 =>
       NS.some h_s103)))
    (NS.nmV fun v1 =>
     NS.nmT (NaK.p_tsI (NaK.rf _) (by decide)) fun s2 h_s2 =>
     NS.ite (NS.nmT (NaK.p_tsA h_s2) fun s4 h_s4 =>
      NS.ite (NS.nmT (NaK.p_tsA h_s4) fun s6 h_s6 =>
       NS.ite (NS.nmT (NaK.p_tsA h_s6) fun s8 h_s8 =>
        NS.ite (NS.nmT (NaK.p_tsA h_s8) fun s10 h_s10 =>
         NS.ite (NS.call h_s10 (nS_J_make_145 _ _ _ _ _ _ _ ))
         (NS.ite (NS.call h_s10 (nS_J_make_145 _ _ _ _ _ _ _ ))
          (NS.ite (NS.call h_s10 (nS_J_make_145 _ _ _ _ _ _ _ ))
           (NS.ite (NS.call h_s10 (nS_J_make_145 _ _ _ _ _ _ _ ))
            (NS.ite (NS.call h_s10 (nS_J_make_145 _ _ _ _ _ _ _ ))
             (NS.ite (NS.call h_s10 (nS_J_make_145 _ _ _ _ _ _ _ ))
              (NS.ite (NS.call h_s10 (nS_J_make_145 _ _ _ _ _ _ _ ))
               (NS.ite (NS.call h_s10 (nS_J_make_145 _ _ _ _ _ _ _ ))
                (NS.ite (NS.call h_s10 (nS_J_make_202 _ _ _ _ _ _ _ ))
                 (NS.ite (NS.call h_s10 (nS_J_make_202 _ _ _ _ _ _ _ ))
                  (NS.ite (NS.call h_s10 (nS_J_make_202 _ _ _ _ _ _ _ ))
                   (NS.ite (NS.call h_s10 (nS_J_make_202 _ _ _ _ _ _ _ ))
                    (NS.ite (NS.call h_s10 (nS_J_make_202 _ _ _ _ _ _ _ ))
                     (NS.ite (NS.call h_s10 (nS_J_make_202 _ _ _ _ _ _ _ ))
                      (NS.ite (NS.ite (NS.ite (NS.ite (NS.nmV fun v71 =>
                           NS.call h_s10 (nS_J_make_282 _ _ _ _ _ _ _ ))
                          (NS.none))
                         (NS.none))
                        (NS.none))
                       (NS.ite (NS.call h_s10 (nS_J_make_263 _ _ _ _ _ _ _ ))
                        (NS.ite (NS.call h_s10 (nS_J_make_263 _ _ _ _ _ _ _ ))
                         (NS.call h_s10 (nS_J_make_282 _ _ _ _ _ _ _ )))))))))))))))))))
        (NS.none))
       (NS.none))
      (NS.none))
     (NS.none))
theorem nS_F_numeralNode (x1 : Int32) (σ : TS)  : NS σ (F_numeralNode x1 σ) := by
  unfold F_numeralNode
  exact NS.ob (NaK.rf _) (nS_F_make _ _ _ _ _ ) fun r2 s1 h_s1 =>
    NS.some h_s1
theorem nS_F_unknownNode (x1 : Int32) (σ : TS)  : NS σ (F_unknownNode x1 σ) := by
  unfold F_unknownNode
  exact NS.ob (NaK.rf _) (nS_F_make _ _ _ _ _ ) fun r2 s1 h_s1 =>
    NS.some h_s1
theorem nS_J_derived_307 (cf_derived : Int32 → TS → Option (Int32 × TS)) (x3 : Int32) (x4 : Int32) (σ : TS) (hcf_derived : ∀ (a0 : Int32) (a1 : TS), NS a1 (cf_derived a0 a1)) : NS σ (J_derived_307 cf_derived x3 x4 σ) := by
  unfold J_derived_307
  exact NS.ob (NaK.rf _) (NS.of (fS_F_isBad _ ) (by decide) (by decide)) fun r24 s23 h_s23 =>
    NS.ite (NS.ite (NS.ob h_s23 (nS_F_unknownNode _ _ ) fun r29 s28 h_s28 =>
      NS.ite (NS.some h_s28)
      (NS.ob h_s28 (nS_F_make _ _ _ _ _ ) fun r33 s32 h_s32 =>
       NS.some h_s32))
     (NS.none))
    (NS.some h_s23)
theorem nS_J_derived_276 (cf_derived : Int32 → TS → Option (Int32 × TS)) (x3 : Int32) (y0 : Int32) (σ : TS) (hcf_derived : ∀ (a0 : Int32) (a1 : TS), NS a1 (cf_derived a0 a1)) : NS σ (J_derived_276 cf_derived x3 y0 σ) := by
  unfold J_derived_276
  exact NS.ite (NS.ite (NS.call (NaK.rf _) (nS_J_derived_307 _ _ _ _ hcf_derived ))
     (NS.ite (NS.ite (NS.ob (NaK.rf _) (NS.of (fS_F_newUnknown _ _ _ _ ) (by decide) (by decide)) fun r41 s40 h_s40 =>
        NS.call h_s40 (nS_J_derived_307 _ _ _ _ hcf_derived ))
       (NS.none))
      (NS.none)))
    (NS.none)
theorem nS_J_derived_275 (cf_derived : Int32 → TS → Option (Int32 × TS)) (x3 : Int32) (σ : TS) (hcf_derived : ∀ (a0 : Int32) (a1 : TS), NS a1 (cf_derived a0 a1)) : NS σ (J_derived_275 cf_derived x3 σ) := by
  unfold J_derived_275
  exact NS.call (NaK.rf _) (nS_J_derived_276 _ _ _ _ hcf_derived )
theorem nS_J_derived_245 (cf_derived : Int32 → TS → Option (Int32 × TS)) (x1 : Int32) (x2 : Int32) (σ : TS) (hcf_derived : ∀ (a0 : Int32) (a1 : TS), NS a1 (cf_derived a0 a1)) : NS σ (J_derived_245 cf_derived x1 x2 σ) := by
  unfold J_derived_245
  exact NS.ob (NaK.rf _) (NS.of (fS_F_leafUnknown _ _ ) (by decide) (by decide)) fun r19 s18 h_s18 =>
    NS.ite (NS.call h_s18 (nS_J_derived_275 _ _ _ hcf_derived ))
    (NS.ite (NS.ite (NS.ite (NS.call h_s18 (nS_J_derived_275 _ _ _ hcf_derived ))
       (NS.call h_s18 (nS_J_derived_276 _ _ _ _ hcf_derived )))
      (NS.none))
     (NS.none))
theorem nS_B_derived (cf_derived : Int32 → TS → Option (Int32 × TS)) (x1 : Int32) (σ : TS) (hcf_derived : ∀ (a0 : Int32) (a1 : TS), NS a1 (cf_derived a0 a1)) : NS σ (B_derived cf_derived x1 σ) := by
  unfold B_derived
  exact NS.ob (NaK.rf _) (NS.of (fS_F_isBad _ ) (by decide) (by decide)) fun r2 s1 h_s1 =>
    NS.ite (NS.ite (NS.nmV fun v6 =>
      NS.ite (NS.ob h_s1 (nS_F_numeralNode _ _ ) fun r9 s8 h_s8 =>
       NS.some h_s8)
      (NS.ite (NS.ob h_s1 (nS_F_numeralNode _ _ ) fun r14 s13 h_s13 =>
        NS.some h_s13)
       (NS.ite (NS.ite (NS.ite (NS.ite (NS.ite (NS.call h_s1 (nS_J_derived_245 _ _ _ _ hcf_derived ))
            (NS.ob h_s1 (nS_F_numeralNode _ _ ) fun r52 s51 h_s51 =>
             NS.some h_s51))
           (NS.none))
          (NS.none))
         (NS.call h_s1 (nS_J_derived_245 _ _ _ _ hcf_derived )))
        (NS.ite (NS.ite (NS.ite (NS.ite (NS.ite (NS.call h_s1 (nS_J_derived_245 _ _ _ _ hcf_derived ))
             (NS.ob h_s1 (nS_F_numeralNode _ _ ) fun r61 s60 h_s60 =>
              NS.some h_s60))
            (NS.none))
           (NS.none))
          (NS.call h_s1 (nS_J_derived_245 _ _ _ _ hcf_derived )))
         (NS.ite (NS.ite (NS.ite (NS.ite (NS.ite (NS.ite (NS.ite (NS.ob h_s1 (nS_F_numeralNode _ _ ) fun r76 s75 h_s75 =>
                 NS.some h_s75)
                (NS.ob h_s1 (nS_F_numeralNode _ _ ) fun r80 s79 h_s79 =>
                 NS.ob h_s79 (nS_F_make _ _ _ _ _ ) fun r84 s83 h_s83 =>
                 NS.some h_s83))
               (NS.none))
              (NS.none))
             (NS.ob h_s1 (nS_F_numeralNode _ _ ) fun r70 s69 h_s69 =>
              NS.some h_s69))
            (NS.none))
           (NS.none))
          (NS.ite (NS.ite (NS.ob h_s1 (hcf_derived _ _) fun r92 s91 h_s91 =>
             NS.ite (NS.ob h_s91 (hcf_derived _ _) fun r97 s96 h_s96 =>
              NS.ob h_s96 (nS_F_make _ _ _ _ _ ) fun r101 s100 h_s100 =>
              NS.some h_s100)
             (NS.none))
            (NS.none))
           (NS.ite (NS.ite (NS.ob h_s1 (hcf_derived _ _) fun r107 s106 h_s106 =>
              NS.ite (NS.ob h_s106 (hcf_derived _ _) fun r112 s111 h_s111 =>
               NS.ob h_s111 (nS_F_make _ _ _ _ _ ) fun r116 s115 h_s115 =>
               NS.some h_s115)
              (NS.none))
             (NS.none))
            (NS.ite (NS.ite (NS.ob h_s1 (hcf_derived _ _) fun r122 s121 h_s121 =>
               NS.ob h_s121 (nS_F_make _ _ _ _ _ ) fun r126 s125 h_s125 =>
               NS.some h_s125)
              (NS.none))
             (NS.ite (NS.ite (NS.ob h_s1 (hcf_derived _ _) fun r132 s131 h_s131 =>
                NS.ite (NS.ob h_s131 (hcf_derived _ _) fun r137 s136 h_s136 =>
                 NS.ite (NS.ob h_s136 (nS_F_make _ _ _ _ _ ) fun r142 s141 h_s141 =>
                  NS.ite (NS.ob h_s141 (nS_F_make _ _ _ _ _ ) fun r147 s146 h_s146 =>
                   NS.ob h_s146 (nS_F_make _ _ _ _ _ ) fun r151 s150 h_s150 =>
                   NS.some h_s150)
                  (NS.none))
                 (NS.none))
                (NS.none))
               (NS.none))
              (NS.ite (NS.ite (NS.ob h_s1 (hcf_derived _ _) fun r157 s156 h_s156 =>
                 NS.ite (NS.ob h_s156 (hcf_derived _ _) fun r162 s161 h_s161 =>
                  NS.ite (NS.ite (NS.ob h_s161 (nS_F_make _ _ _ _ _ ) fun r168 s167 h_s167 =>
                    NS.ob h_s167 (nS_F_make _ _ _ _ _ ) fun r172 s171 h_s171 =>
                    NS.ob h_s171 (nS_F_make _ _ _ _ _ ) fun r176 s175 h_s175 =>
                    NS.ite (NS.ob h_s175 (nS_F_make _ _ _ _ _ ) fun r181 s180 h_s180 =>
                     NS.some h_s180)
                    (NS.none))
                   (NS.none))
                  (NS.none))
                 (NS.none))
                (NS.none))
               (NS.ite (NS.ite (NS.ob h_s1 (hcf_derived _ _) fun r187 s186 h_s186 =>
                  NS.ite (NS.ob h_s186 (nS_F_make _ _ _ _ _ ) fun r192 s191 h_s191 =>
                   NS.ob h_s191 (nS_F_make _ _ _ _ _ ) fun r196 s195 h_s195 =>
                   NS.some h_s195)
                  (NS.none))
                 (NS.none))
                (NS.ite (NS.ite (NS.ob h_s1 (hcf_derived _ _) fun r202 s201 h_s201 =>
                   NS.ite (NS.ob h_s201 (nS_F_make _ _ _ _ _ ) fun r207 s206 h_s206 =>
                    NS.ob h_s206 (nS_F_numeralNode _ _ ) fun r211 s210 h_s210 =>
                    NS.ob h_s210 (nS_F_make _ _ _ _ _ ) fun r215 s214 h_s214 =>
                    NS.ob h_s214 (nS_F_make _ _ _ _ _ ) fun r219 s218 h_s218 =>
                    NS.some h_s218)
                   (NS.none))
                  (NS.none))
                 (NS.ite (NS.ob h_s1 (nS_F_numeralNode _ _ ) fun r224 s223 h_s223 =>
                   NS.some h_s223)
                  (NS.ite (NS.ob h_s1 (nS_F_numeralNode _ _ ) fun r229 s228 h_s228 =>
                    NS.some h_s228)
                   (NS.ite (NS.ite (NS.ob h_s1 (hcf_derived _ _) fun r235 s234 h_s234 =>
                      NS.ite (NS.ob h_s234 (hcf_derived _ _) fun r240 s239 h_s239 =>
                       NS.ite (NS.ite (NS.ite (NS.ob h_s239 (nS_F_make _ _ _ _ _ ) fun r256 s255 h_s255 =>
                          NS.ob h_s255 (nS_F_make _ _ _ _ _ ) fun r260 s259 h_s259 =>
                          NS.some h_s259)
                         (NS.none))
                        (NS.none))
                       (NS.ite (NS.ite (NS.ob h_s239 (nS_F_make _ _ _ _ _ ) fun r246 s245 h_s245 =>
                          NS.ob h_s245 (nS_F_make _ _ _ _ _ ) fun r250 s249 h_s249 =>
                          NS.some h_s249)
                         (NS.none))
                        (NS.none)))
                      (NS.none))
                     (NS.none))
                    (NS.ite (NS.ite (NS.ob h_s1 (hcf_derived _ _) fun r267 s266 h_s266 =>
                       NS.ite (NS.ob h_s266 (hcf_derived _ _) fun r272 s271 h_s271 =>
                        NS.ite (NS.ite (NS.ite (NS.ob h_s271 (nS_F_make _ _ _ _ _ ) fun r288 s287 h_s287 =>
                           NS.ob h_s287 (nS_F_make _ _ _ _ _ ) fun r292 s291 h_s291 =>
                           NS.some h_s291)
                          (NS.none))
                         (NS.none))
                        (NS.ite (NS.ite (NS.ob h_s271 (nS_F_make _ _ _ _ _ ) fun r278 s277 h_s277 =>
                           NS.ob h_s277 (nS_F_make _ _ _ _ _ ) fun r282 s281 h_s281 =>
                           NS.some h_s281)
                          (NS.none))
                         (NS.none)))
                       (NS.none))
                      (NS.none))
                     (NS.ite (NS.ite (NS.ob h_s1 (hcf_derived _ _) fun r299 s298 h_s298 =>
                        NS.ite (NS.ite (NS.ob h_s298 (hcf_derived _ _) fun r305 s304 h_s304 =>
                          NS.ob h_s304 (nS_F_make _ _ _ _ _ ) fun r309 s308 h_s308 =>
                          NS.some h_s308)
                         (NS.none))
                        (NS.none))
                       (NS.none))
                      (NS.ite (NS.ite (NS.ob h_s1 (hcf_derived _ _) fun r315 s314 h_s314 =>
                         NS.ite (NS.ite (NS.ob h_s314 (hcf_derived _ _) fun r321 s320 h_s320 =>
                           NS.ob h_s320 (nS_F_make _ _ _ _ _ ) fun r325 s324 h_s324 =>
                           NS.some h_s324)
                          (NS.none))
                         (NS.none))
                        (NS.none))
                       (NS.ite (NS.ite (NS.ob h_s1 (hcf_derived _ _) fun r331 s330 h_s330 =>
                          NS.ite (NS.ite (NS.ob h_s330 (hcf_derived _ _) fun r337 s336 h_s336 =>
                            NS.ob h_s336 (nS_F_make _ _ _ _ _ ) fun r341 s340 h_s340 =>
                            NS.some h_s340)
                           (NS.none))
                          (NS.none))
                         (NS.none))
                        (NS.ite (NS.ite (NS.ob h_s1 (hcf_derived _ _) fun r347 s346 h_s346 =>
                           NS.ite (NS.ite (NS.ob h_s346 (hcf_derived _ _) fun r353 s352 h_s352 =>
                             NS.ob h_s352 (nS_F_make _ _ _ _ _ ) fun r357 s356 h_s356 =>
                             NS.some h_s356)
                            (NS.none))
                           (NS.none))
                          (NS.none))
                         (NS.ite (NS.ite (NS.ob h_s1 (hcf_derived _ _) fun r363 s362 h_s362 =>
                            NS.ite (NS.ite (NS.ob h_s362 (hcf_derived _ _) fun r369 s368 h_s368 =>
                              NS.ob h_s368 (nS_F_make _ _ _ _ _ ) fun r373 s372 h_s372 =>
                              NS.some h_s372)
                             (NS.none))
                            (NS.none))
                           (NS.none))
                          (NS.ite (NS.ite (NS.ob h_s1 (hcf_derived _ _) fun r379 s378 h_s378 =>
                             NS.ite (NS.ite (NS.ob h_s378 (hcf_derived _ _) fun r385 s384 h_s384 =>
                               NS.ob h_s384 (nS_F_make _ _ _ _ _ ) fun r389 s388 h_s388 =>
                               NS.some h_s388)
                              (NS.none))
                             (NS.none))
                            (NS.none))
                           (NS.ite (NS.ite (NS.ob h_s1 (hcf_derived _ _) fun r395 s394 h_s394 =>
                              NS.ite (NS.ite (NS.ob h_s394 (hcf_derived _ _) fun r401 s400 h_s400 =>
                                NS.ob h_s400 (nS_F_make _ _ _ _ _ ) fun r405 s404 h_s404 =>
                                NS.some h_s404)
                               (NS.none))
                              (NS.none))
                             (NS.none))
                            (NS.ite (NS.ite (NS.ob h_s1 (hcf_derived _ _) fun r411 s410 h_s410 =>
                               NS.ite (NS.ite (NS.ob h_s410 (hcf_derived _ _) fun r417 s416 h_s416 =>
                                 NS.ob h_s416 (nS_F_make _ _ _ _ _ ) fun r421 s420 h_s420 =>
                                 NS.some h_s420)
                                (NS.none))
                               (NS.none))
                              (NS.none))
                             (NS.ite (NS.ite (NS.ob h_s1 (hcf_derived _ _) fun r427 s426 h_s426 =>
                                NS.ite (NS.ite (NS.ob h_s426 (hcf_derived _ _) fun r433 s432 h_s432 =>
                                  NS.ob h_s432 (nS_F_make _ _ _ _ _ ) fun r437 s436 h_s436 =>
                                  NS.some h_s436)
                                 (NS.none))
                                (NS.none))
                               (NS.none))
                              (NS.ite (NS.ite (NS.ob h_s1 (hcf_derived _ _) fun r443 s442 h_s442 =>
                                 NS.ite (NS.ite (NS.ob h_s442 (hcf_derived _ _) fun r449 s448 h_s448 =>
                                   NS.ob h_s448 (nS_F_make _ _ _ _ _ ) fun r453 s452 h_s452 =>
                                   NS.some h_s452)
                                  (NS.none))
                                 (NS.none))
                                (NS.none))
                               (NS.ite (NS.ite (NS.ob h_s1 (hcf_derived _ _) fun r459 s458 h_s458 =>
                                  NS.ite (NS.ite (NS.ob h_s458 (hcf_derived _ _) fun r465 s464 h_s464 =>
                                    NS.ob h_s464 (nS_F_make _ _ _ _ _ ) fun r469 s468 h_s468 =>
                                    NS.some h_s468)
                                   (NS.none))
                                  (NS.none))
                                 (NS.none))
                                (NS.ite (NS.ite (NS.ob h_s1 (hcf_derived _ _) fun r475 s474 h_s474 =>
                                   NS.ite (NS.ite (NS.ob h_s474 (hcf_derived _ _) fun r481 s480 h_s480 =>
                                     NS.ob h_s480 (nS_F_make _ _ _ _ _ ) fun r485 s484 h_s484 =>
                                     NS.some h_s484)
                                    (NS.none))
                                   (NS.none))
                                  (NS.none))
                                 (NS.ite (NS.ite (NS.ob h_s1 (hcf_derived _ _) fun r491 s490 h_s490 =>
                                    NS.ite (NS.ite (NS.ob h_s490 (hcf_derived _ _) fun r497 s496 h_s496 =>
                                      NS.ob h_s496 (nS_F_make _ _ _ _ _ ) fun r501 s500 h_s500 =>
                                      NS.some h_s500)
                                     (NS.none))
                                    (NS.none))
                                   (NS.none))
                                  (NS.ite (NS.ite (NS.ob h_s1 (hcf_derived _ _) fun r507 s506 h_s506 =>
                                     NS.ite (NS.ite (NS.ob h_s506 (hcf_derived _ _) fun r513 s512 h_s512 =>
                                       NS.ob h_s512 (nS_F_make _ _ _ _ _ ) fun r517 s516 h_s516 =>
                                       NS.some h_s516)
                                      (NS.none))
                                     (NS.none))
                                    (NS.none))
                                   (NS.ite (NS.ite (NS.ite (NS.ite (NS.ite (NS.call h_s1 (nS_J_derived_245 _ _ _ _ hcf_derived ))
                                        (NS.ob h_s1 (nS_F_numeralNode _ _ ) fun r524 s523 h_s523 =>
                                         NS.some h_s523))
                                       (NS.none))
                                      (NS.none))
                                     (NS.call h_s1 (nS_J_derived_245 _ _ _ _ hcf_derived )))
                                    (NS.ite (NS.ob h_s1 (hcf_derived _ _) fun r531 s530 h_s530 =>
                                      NS.ite (NS.ite (NS.ob h_s530 (hcf_derived _ _) fun r537 s536 h_s536 =>
                                        NS.ob h_s536 (nS_F_make _ _ _ _ _ ) fun r541 s540 h_s540 =>
                                        NS.some h_s540)
                                       (NS.none))
                                      (NS.none))
                                     (NS.none)))))))))))))))))))))))))))))))))
     (NS.none))
    (NS.some h_s1)
theorem nS_G_derived : ∀ d : Nat, (∀ (a0 : Int32) (a1 : TS), NS a1 ((G_derived d) a0 a1)) := by
  intro d
  induction d with
  | zero => exact fun _ _ => NS.none
  | succ d ih => exact fun a0 a1 => nS_B_derived _ a0 a1 (fun b0 b1 => ih b0 b1)
theorem nS_F_derived (a0 : Int32) (a1 : TS) : NS a1 (F_derived a0 a1) := (nS_G_derived 300) a0 a1
theorem nS_F_differentiate (x1 : Int32) (σ : TS)  : NS σ (F_differentiate x1 σ) := by
  unfold F_differentiate
  exact NS.ite (NS.ob (NaK.rf _) (NS.of (fS_F_bad _ _ _ ) (by decide) (by decide)) fun r71 s70 h_s70 =>
     NS.some h_s70)
    (NS.nmV fun v1 =>
     NS.nmT (NaK.p_tsI (NaK.rf _) (by decide)) fun s2 h_s2 =>
     NS.ite (NS.nmT (NaK.p_tsA h_s2) fun s4 h_s4 =>
      NS.ite (NS.ob h_s4 (nS_F_derived  _ _) fun r7 s6 h_s6 =>
       NS.ite (NS.nmT (NaK.p_tsA h_s6) fun s11 h_s11 =>
        NS.ite (NS.ob h_s11 (nS_F_derived  _ _) fun r14 s13 h_s13 =>
         NS.ite (NS.nmT (NaK.p_tsA h_s13) fun s18 h_s18 =>
          NS.ite (NS.nmT (NaK.p_tsA h_s18) fun s20 h_s20 =>
           NS.ite (NS.nmT (NaK.p_tsA h_s20) fun s22 h_s22 =>
            NS.ite (NS.nmT (NaK.p_tsA h_s22) fun s24 h_s24 =>
             NS.ob h_s24 (NS.of (fS_F_isBad _ ) (by decide) (by decide)) fun r26 s25 h_s25 =>
             NS.ite (NS.ite (NS.ob h_s25 (NS.of (fS_F_printedSize  _ _) (by decide) (by decide)) fun r31 s30 h_s30 =>
               NS.ite (NS.ob h_s30 (NS.of (fS_F_printedSize  _ _) (by decide) (by decide)) fun r36 s35 h_s35 =>
                NS.nmT (NaK.p_tsL h_s35) fun s39 h_s39 =>
                NS.ite (NS.ob h_s39 (NS.of (fS_F_bad _ _ _ ) (by decide) (by decide)) fun r41 s40 h_s40 =>
                 NS.some h_s40)
                (NS.ite (NS.ob h_s39 (NS.of (fS_F_printedHeight  _ _) (by decide) (by decide)) fun r46 s45 h_s45 =>
                  NS.ite (NS.ob h_s45 (NS.of (fS_F_bad _ _ _ ) (by decide) (by decide)) fun r50 s49 h_s49 =>
                   NS.some h_s49)
                  (NS.ite (NS.ob h_s45 (NS.of (fS_F_printedHeight  _ _) (by decide) (by decide)) fun r55 s54 h_s54 =>
                    NS.ite (NS.ob h_s54 (NS.of (fS_F_learn _ _ ) (by decide) (by decide)) fun r59 s58 h_s58 =>
                     NS.some h_s58)
                    (NS.ob h_s54 (NS.of (fS_F_bad _ _ _ ) (by decide) (by decide)) fun r63 s62 h_s62 =>
                     NS.some h_s62))
                   (NS.none)))
                 (NS.none)))
               (NS.none))
              (NS.none))
             (NS.some h_s25))
            (NS.none))
           (NS.none))
          (NS.none))
         (NS.none))
        (NS.none))
       (NS.none))
      (NS.none))
     (NS.none))
theorem nS_L_reduce_155   : ∀ (n : Nat) (x1 : Int32) (x2 : Int32) (x3 : Int32) (x4 : Int32) (x5 : Int32) (σ : TS), NS σ (L_reduce_155  n x1 x2 x3 x4 x5 σ)
  | 0, _, _, _, _, _, _ => NS.none
  | n + 1, x1, x2, x3, x4, x5, σ => by
    rw [L_reduce_155]
    exact NS.ite (NS.some (NaK.rf _))
      (NS.ob (NaK.rf _) (NS.of (fS_F_isBad _ ) (by decide) (by decide)) fun r51 s50 h_s50 =>
       NS.ite (NS.ite (NS.ite (NS.nmV fun v56 =>
          NS.call h_s50 (nS_L_reduce_155  _ _ _ _ _ _ _))
         (NS.ob h_s50 (nS_F_differentiate _ _ ) fun r58 s57 h_s57 =>
          NS.nmV fun v61 =>
          NS.call h_s57 (nS_L_reduce_155  _ _ _ _ _ _ _)))
        (NS.none))
       (NS.some h_s50))
theorem nS_J_reduce_191_64 (rec : Int32 → Int32 → TS → Option ((Unit ⊕ Unit) × TS)) (x1 : Int32) (x2 : Int32) (x3 : Int32) (σ : TS) (hrec : ∀ (a0 : Int32) (a1 : Int32) (a2 : TS), NS a2 (rec a0 a1 a2)) : NS σ (J_reduce_191_64 rec x1 x2 x3 σ) := by
  unfold J_reduce_191_64
  exact NS.ob (NaK.rf _) (NS.of (fS_F_isBad _ ) (by decide) (by decide)) fun r69 s68 h_s68 =>
    NS.ite (NS.ob h_s68 (NS.of (fS_L_reduce_202  _ _ _ _ _ _) (by decide) (by decide)) fun q83 s84 h_s84 =>
     NS.ite (NS.nmV fun v87 =>
      NS.call h_s84 (hrec _ _ _))
     (NS.none))
    (NS.some h_s68)
theorem nS_J_reduce_146_64 (rec : Int32 → Int32 → TS → Option ((Unit ⊕ Unit) × TS)) (x1 : Int32) (x2 : Int32) (x3 : Int32) (σ : TS) (hrec : ∀ (a0 : Int32) (a1 : Int32) (a2 : TS), NS a2 (rec a0 a1 a2)) : NS σ (J_reduce_146_64 rec x1 x2 x3 σ) := by
  unfold J_reduce_146_64
  exact NS.nmV fun v49 =>
    NS.ob (NaK.rf _) (nS_L_reduce_155  _ _ _ _ _ _ _) fun q65 s66 h_s66 =>
    NS.call h_s66 (nS_J_reduce_191_64 _ _ _ _ _ hrec )
theorem nS_L_reduce_64   : ∀ (n : Nat) (x1 : Int32) (x2 : Int32) (σ : TS), NS σ (L_reduce_64  n x1 x2 σ)
  | 0, _, _, _ => NS.none
  | n + 1, x1, x2, σ => by
    rw [L_reduce_64]
    exact NS.ob (NaK.rf _) (NS.of (fS_F_isBad _ ) (by decide) (by decide)) fun r17 s16 h_s16 =>
      NS.ite (NS.ob h_s16 (NS.of (fS_F_unmark _ ) (by decide) (by decide)) fun r21 s20 h_s20 =>
       NS.ob h_s20 (NS.of (fS_F_attempt  _ _) (by decide) (by decide)) fun r25 s24 h_s24 =>
       NS.ite (NS.nmV fun v28 =>
        NS.ob h_s24 (NS.of (fS_L_reduce_94  _ _ _ _ _ _) (by decide) (by decide)) fun q46 s47 h_s47 =>
        NS.call h_s47 (nS_J_reduce_146_64 _ _ _ _ _ (fun a0 a1 a2 => nS_L_reduce_64   _ a0 a1 a2) ))
       (NS.some h_s24))
      (NS.some h_s16)
theorem nS_L_reduce_30   : ∀ (n : Nat) (x1 : Int32) (σ : TS), NS σ (L_reduce_30  n x1 σ)
  | 0, _, _ => NS.none
  | n + 1, x1, σ => by
    rw [L_reduce_30]
    exact NS.ite (NS.some (NaK.rf _))
      (NS.ob (NaK.rf _) (NS.of (fS_F_isBad _ ) (by decide) (by decide)) fun r10 s9 h_s9 =>
       NS.ite (NS.ite (NS.ite (NS.nmT (NaK.p_tsI h_s9 (by decide)) fun s15 h_s15 =>
          NS.obS h_s15 (nS_L_reduce_64  _ _ _ _) (fun r99 s95 h_s95 => NS.some h_s95) fun q94 s95 h_s95 =>
          NS.nmV fun v97 =>
          NS.call h_s95 (nS_L_reduce_30  _ _ _))
         (NS.nmV fun v100 =>
          NS.call h_s9 (nS_L_reduce_30  _ _ _)))
        (NS.none))
       (NS.some h_s9))
theorem nS_F_reduce (σ : TS)  : NS σ (F_reduce σ) := by
  unfold F_reduce
  exact NS.nmT (NaK.p_tsI (NaK.rf _) (by decide)) fun s1 h_s1 =>
    NS.ob h_s1 (NS.of (fS_L_reduce_7  _ _ _) (by decide) (by decide)) fun q6 s7 h_s7 =>
    NS.obS h_s7 (nS_L_reduce_30  _ _ _) (fun r108 s105 h_s105 => NS.some h_s105) fun q104 s105 h_s105 =>
    NS.some h_s105
theorem nS_J_solve_214 (σ : TS)  : NS σ (J_solve_214 σ) := by
  unfold J_solve_214
  exact NS.ob (NaK.rf _) (NS.of (fS_F_isBad _ ) (by decide) (by decide)) fun r71 s70 h_s70 =>
    NS.ite (NS.ob h_s70 (nS_F_reduce _ ) fun r114 s113 h_s113 =>
     NS.call h_s113 (NS.of (fS_J_solve_225 _ ) (by decide) (by decide)))
    (NS.call h_s70 (NS.of (fS_J_solve_225 _ ) (by decide) (by decide)))
theorem nS_F_solve (σ : TS)  : NS σ (F_solve σ) := by
  unfold F_solve
  exact NS.ite (NS.some (NaK.rf _))
    (NS.nmT (NaK.p_tsI (NaK.rf _) (by decide)) fun s2 h_s2 =>
     NS.nmT (NaK.p_tsI h_s2 (by decide)) fun s3 h_s3 =>
     NS.nmT (NaK.p_tsI h_s3 (by decide)) fun s4 h_s4 =>
     NS.nmT (NaK.p_tsI h_s4 (by decide)) fun s5 h_s5 =>
     NS.nmT (NaK.p_tsI h_s5 (by decide)) fun s6 h_s6 =>
     NS.nmT (NaK.p_tsI h_s6 (by decide)) fun s7 h_s7 =>
     NS.ob h_s7 (NS.of (fS_L_solve_48  _ _ _) (by decide) (by decide)) fun q22 s23 h_s23 =>
     NS.ob h_s23 (NS.of (fS_L_solve_109  _ _ _) (by decide) (by decide)) fun q29 s30 h_s30 =>
     NS.ob h_s30 (NS.of (fS_F_aliases _ ) (by decide) (by decide)) fun r33 s32 h_s32 =>
     NS.ob h_s32 (NS.of (fS_F_makeUnknowns _ ) (by decide) (by decide)) fun r37 s36 h_s36 =>
     NS.nmT (NaK.p_tsL h_s36) fun s40 h_s40 =>
     NS.ob h_s40 (NS.of (fS_L_solve_146  _ _ _) (by decide) (by decide)) fun q67 s68 h_s68 =>
     NS.call h_s68 (nS_J_solve_214 _ ))
