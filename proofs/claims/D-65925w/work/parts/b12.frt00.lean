/-! Layer B: frames of the twin -/
set_option maxRecDepth 100000
theorem fS_F_isBad (σ : TS)  : FS fs0 σ (F_isBad σ) := by
  unfold F_isBad
  exact FS.ite (FS.some (Ft.rf _ _))
    (FS.some (Ft.rf _ _))
theorem fS_F_bad (x1 : Int32) (x2 : Int32) (σ : TS)  : FS fs1 σ (F_bad x1 x2 σ) := by
  unfold F_bad
  exact FS.ite (FS.nmT (Ft.p_tsI (Ft.rf _ _) rfl) fun s1 h_s1 =>
     FS.nmT (Ft.p_tsI h_s1 rfl) fun s2 h_s2 =>
     FS.some h_s2)
    (FS.some (Ft.rf _ _))
theorem fS_J_derOf_31 (x1 : Int32) (y0 : Int32) (σ : TS)  : FS fs0 σ (J_derOf_31 x1 y0 σ) := by
  unfold J_derOf_31
  exact FS.ite (FS.ite (FS.nmV fun v7 =>
      FS.ite (FS.ite (FS.some (Ft.rf _ _))
       (FS.some (Ft.rf _ _)))
      (FS.none))
     (FS.none))
    (FS.ite (FS.ite (FS.some (Ft.rf _ _))
      (FS.some (Ft.rf _ _)))
     (FS.none))
theorem fS_F_derOf (x1 : Int32) (σ : TS)  : FS fs0 σ (F_derOf x1 σ) := by
  unfold F_derOf
  exact FS.ite (FS.nmV fun v2 =>
     FS.ite (FS.ite (FS.ite (FS.ite (FS.call (Ft.rf _ _) (fS_J_derOf_31 _ _ _ ) (FtR fs0))
        (FS.none))
       (FS.none))
      (FS.call (Ft.rf _ _) (fS_J_derOf_31 _ _ _ ) (FtR fs0)))
     (FS.none))
    (FS.none)
theorem fS_F_preOf (x1 : Int32) (σ : TS)  : FS fs0 σ (F_preOf x1 σ) := by
  unfold F_preOf
  exact FS.ite (FS.ite (FS.ite (FS.some (Ft.rf _ _))
      (FS.none))
     (FS.ite (FS.nmV fun v3 =>
       FS.ite (FS.ite (FS.ite (FS.ite (FS.nmV fun v7 =>
           FS.ite (FS.ite (FS.some (Ft.rf _ _))
            (FS.some (Ft.rf _ _)))
           (FS.none))
          (FS.none))
         (FS.none))
        (FS.ite (FS.ite (FS.some (Ft.rf _ _))
          (FS.some (Ft.rf _ _)))
         (FS.none)))
       (FS.none))
      (FS.none)))
    (FS.none)
theorem fS_F_fit (x1 : Int64) (σ : TS)  : FS fs1 σ (F_fit x1 σ) := by
  unfold F_fit
  exact FS.ite (FS.ob (Ft.rf _ _) (fS_F_bad _ _ _ ) (FtR fs1) fun r2 s1 h_s1 =>
     FS.some h_s1)
    (FS.ite (FS.some (Ft.rf _ _))
     (FS.ob (Ft.rf _ _) (fS_F_bad _ _ _ ) (FtR fs1) fun r6 s5 h_s5 =>
      FS.some h_s5))
theorem fS_L_root_27   : ∀ (n : Nat) (x2 : Int64) (x4 : Int64) (x6 : Int64) (σ : TS), FS fs0 σ (L_root_27  n x2 x4 x6 σ)
  | 0, _, _, _, _ => FS.none
  | n + 1, x2, x4, x6, σ => by
    rw [L_root_27]
    exact FS.ite (FS.some (Ft.rf _ _))
      (FS.nmV fun v2 =>
       FS.ite (FS.call (Ft.rf _ _) (fS_L_root_27  _ _ _ _ _) (FtR fs0))
       (FS.call (Ft.rf _ _) (fS_L_root_27  _ _ _ _ _) (FtR fs0)))
theorem fS_F_root (x1 : Int32) (σ : TS)  : FS fs1 σ (F_root x1 σ) := by
  unfold F_root
  exact FS.ite (FS.nmV fun v1 =>
     FS.ob (Ft.rf _ _) (fS_L_root_27  _ _ _ _ _) (le_fs0_fs1) fun q5 s6 h_s6 =>
     FS.ob h_s6 (fS_F_fit _ _ ) (FtR fs1) fun r9 s8 h_s8 =>
     FS.some h_s8)
    (FS.ob (Ft.rf _ _) (fS_F_bad _ _ _ ) (FtR fs1) fun r14 s13 h_s13 =>
     FS.some h_s13)
theorem fS_F_compare (x1 : Int32) (x2 : Int32) (x3 : Int32) (σ : TS)  : FS fs0 σ (F_compare x1 x2 x3 σ) := by
  unfold F_compare
  exact FS.ite (FS.ite (FS.some (Ft.rf _ _))
     (FS.some (Ft.rf _ _)))
    (FS.ite (FS.ite (FS.some (Ft.rf _ _))
      (FS.some (Ft.rf _ _)))
     (FS.ite (FS.ite (FS.some (Ft.rf _ _))
       (FS.some (Ft.rf _ _)))
      (FS.ite (FS.ite (FS.some (Ft.rf _ _))
        (FS.some (Ft.rf _ _)))
       (FS.ite (FS.ite (FS.some (Ft.rf _ _))
         (FS.some (Ft.rf _ _)))
        (FS.ite (FS.some (Ft.rf _ _))
         (FS.some (Ft.rf _ _)))))))
theorem fS_F_isArithmetic (x0 : Int32) (σ : TS)  : FS fs0 σ (F_isArithmetic x0 σ) := by
  unfold F_isArithmetic
  exact FS.ite (FS.some (Ft.rf _ _))
    (FS.ite (FS.some (Ft.rf _ _))
     (FS.ite (FS.some (Ft.rf _ _))
      (FS.ite (FS.some (Ft.rf _ _))
       (FS.some (Ft.rf _ _)))))
theorem fS_F_times (x1 : Int32) (x2 : Int32) (σ : TS)  : FS fs1 σ (F_times x1 x2 σ) := by
  unfold F_times
  exact FS.ob (Ft.rf _ _) (fS_F_fit _ _ ) (FtR fs1) fun r2 s1 h_s1 =>
    FS.some h_s1
theorem fS_F_over (x1 : Int32) (x2 : Int32) (σ : TS)  : FS fs1 σ (F_over x1 x2 σ) := by
  unfold F_over
  exact FS.ite (FS.ob (Ft.rf _ _) (fS_F_bad _ _ _ ) (FtR fs1) fun r7 s6 h_s6 =>
     FS.some h_s6)
    (FS.ite (FS.ob (Ft.rf _ _) (fS_F_fit _ _ ) (FtR fs1) fun r3 s2 h_s2 =>
      FS.some h_s2)
     (FS.none))
theorem fS_L_chainValue_8 (cf_worth : Int32 → Int32 → TS → Option (Int32 × TS)) (hcf_worth : ∀ (a0 : Int32) (a1 : Int32) (a2 : TS), FS fs2 a2 (cf_worth a0 a1 a2)) : ∀ (n : Nat) (x2 : Int32) (x3 : Int32) (x4 : Int32) (σ : TS), FS fs2 σ (L_chainValue_8 cf_worth n x2 x3 x4 σ)
  | 0, _, _, _, _ => FS.none
  | n + 1, x2, x3, x4, σ => by
    rw [L_chainValue_8]
    exact FS.ite (FS.ob (Ft.rf _ _) (fS_F_isArithmetic _ _ ) (le_fs0_fs2) fun r4 s3 h_s3 =>
       FS.ite (FS.some h_s3)
       (FS.ite (FS.nmT (Ft.p_tsA h_s3 rfl) fun s8 h_s8 =>
         FS.nmT (Ft.p_tsI h_s8 rfl) fun s9 h_s9 =>
         FS.ite (FS.nmV fun v11 =>
          FS.call h_s9 (fS_L_chainValue_8 _ hcf_worth _ _ _ _ _) (FtR fs2))
         (FS.none))
        (FS.none)))
      (FS.none)
theorem fS_L_chainValue_63 (cf_worth : Int32 → Int32 → TS → Option (Int32 × TS)) (hcf_worth : ∀ (a0 : Int32) (a1 : Int32) (a2 : TS), FS fs2 a2 (cf_worth a0 a1 a2)) : ∀ (n : Nat) (x2 : Int32) (x3 : Int32) (x5 : Int32) (σ : TS), FS fs2 σ (L_chainValue_63 cf_worth n x2 x3 x5 σ)
  | 0, _, _, _, _ => FS.none
  | n + 1, x2, x3, x5, σ => by
    rw [L_chainValue_63]
    exact FS.ite (FS.some (Ft.rf _ _))
      (FS.nmT (Ft.p_tsI (Ft.rf _ _) rfl) fun s20 h_s20 =>
       FS.ite (FS.nmV fun v22 =>
        FS.ob h_s20 (fS_F_isBad _ ) (le_fs0_fs2) fun r24 s23 h_s23 =>
        FS.ite (FS.ite (FS.ob h_s23 (hcf_worth _ _ _) (FtR fs2) fun r29 s28 h_s28 =>
          FS.ob h_s28 (fS_F_isBad _ ) (le_fs0_fs2) fun r33 s32 h_s32 =>
          FS.ite (FS.ite (FS.nmV fun v37 =>
            FS.ite (FS.ob h_s32 (fS_F_fit _ _ ) (le_fs1_fs2) fun r53 s52 h_s52 =>
             FS.call h_s52 (fS_L_chainValue_63 _ hcf_worth _ _ _ _ _) (FtR fs2))
            (FS.ite (FS.ob h_s32 (fS_F_fit _ _ ) (le_fs1_fs2) fun r48 s47 h_s47 =>
              FS.call h_s47 (fS_L_chainValue_63 _ hcf_worth _ _ _ _ _) (FtR fs2))
             (FS.ite (FS.ob h_s32 (fS_F_times _ _ _ ) (le_fs1_fs2) fun r43 s42 h_s42 =>
               FS.call h_s42 (fS_L_chainValue_63 _ hcf_worth _ _ _ _ _) (FtR fs2))
              (FS.ob h_s32 (fS_F_over _ _ _ ) (le_fs1_fs2) fun r39 s38 h_s38 =>
               FS.call h_s38 (fS_L_chainValue_63 _ hcf_worth _ _ _ _ _) (FtR fs2)))))
           (FS.none))
          (FS.call h_s32 (fS_L_chainValue_63 _ hcf_worth _ _ _ _ _) (FtR fs2)))
         (FS.none))
        (FS.call h_s23 (fS_L_chainValue_63 _ hcf_worth _ _ _ _ _) (FtR fs2)))
       (FS.none))
theorem fS_B_chainValue (cf_worth : Int32 → Int32 → TS → Option (Int32 × TS)) (x1 : Int32) (x2 : Int32) (σ : TS) (hcf_worth : ∀ (a0 : Int32) (a1 : Int32) (a2 : TS), FS fs2 a2 (cf_worth a0 a1 a2)) : FS fs2 σ (B_chainValue cf_worth x1 x2 σ) := by
  unfold B_chainValue
  exact FS.nmV fun v1 =>
    FS.ob (Ft.rf _ _) (fS_L_chainValue_8 _ hcf_worth _ _ _ _ _) (FtR fs2) fun q13 s14 h_s14 =>
    FS.ob h_s14 (hcf_worth _ _ _) (FtR fs2) fun r17 s16 h_s16 =>
    FS.ob h_s16 (fS_L_chainValue_63 _ hcf_worth _ _ _ _ _) (FtR fs2) fun q60 s61 h_s61 =>
    FS.some h_s61
theorem fS_B_finds (cf_worth : Int32 → Int32 → TS → Option (Int32 × TS)) (x1 : Int32) (x2 : Int32) (σ : TS) (hcf_worth : ∀ (a0 : Int32) (a1 : Int32) (a2 : TS), FS fs2 a2 (cf_worth a0 a1 a2)) : FS fs2 σ (B_finds cf_worth x1 x2 σ) := by
  unfold B_finds
  exact FS.ite (FS.ob (Ft.rf _ _) (hcf_worth _ _ _) (FtR fs2) fun r3 s2 h_s2 =>
     FS.ite (FS.ob h_s2 (hcf_worth _ _ _) (FtR fs2) fun r8 s7 h_s7 =>
      FS.ob h_s7 (fS_F_isBad _ ) (le_fs0_fs2) fun r12 s11 h_s11 =>
      FS.ite (FS.ite (FS.ob h_s11 (fS_F_compare _ _ _ _ ) (le_fs0_fs2) fun r17 s16 h_s16 =>
        FS.ite (FS.some h_s16)
        (FS.some h_s16))
       (FS.none))
      (FS.some h_s11))
     (FS.none))
    (FS.none)
theorem fS_B_holds (cf_holds : Int32 → Int32 → TS → Option (Int32 × TS)) (cf_finds : Int32 → Int32 → TS → Option (Int32 × TS)) (x1 : Int32) (x2 : Int32) (σ : TS) (hcf_holds : ∀ (a0 : Int32) (a1 : Int32) (a2 : TS), FS fs2 a2 (cf_holds a0 a1 a2)) (hcf_finds : ∀ (a0 : Int32) (a1 : Int32) (a2 : TS), FS fs2 a2 (cf_finds a0 a1 a2)) : FS fs2 σ (B_holds cf_holds cf_finds x1 x2 σ) := by
  unfold B_holds
  exact FS.ob (Ft.rf _ _) (fS_F_isBad _ ) (le_fs0_fs2) fun r2 s1 h_s1 =>
    FS.ite (FS.ite (FS.ite (FS.ite (FS.ite (FS.ite (FS.some h_s1)
         (FS.none))
        (FS.none))
       (FS.ob h_s1 (hcf_finds _ _ _) (FtR fs2) fun r8 s7 h_s7 =>
        FS.some h_s7))
      (FS.ite (FS.ite (FS.ob h_s1 (hcf_holds _ _ _) (FtR fs2) fun r18 s17 h_s17 =>
         FS.ite (FS.ob h_s17 (hcf_holds _ _ _) (FtR fs2) fun r23 s22 h_s22 =>
          FS.ite (FS.some h_s22)
          (FS.ite (FS.some h_s22)
           (FS.some h_s22)))
         (FS.none))
        (FS.none))
       (FS.ite (FS.ite (FS.ob h_s1 (hcf_holds _ _ _) (FtR fs2) fun r31 s30 h_s30 =>
          FS.ite (FS.ob h_s30 (hcf_holds _ _ _) (FtR fs2) fun r36 s35 h_s35 =>
           FS.ite (FS.ite (FS.some h_s35)
            (FS.some h_s35))
           (FS.some h_s35))
          (FS.none))
         (FS.none))
        (FS.ite (FS.ite (FS.ob h_s1 (hcf_holds _ _ _) (FtR fs2) fun r44 s43 h_s43 =>
           FS.ite (FS.ob h_s43 (fS_F_isBad _ ) (le_fs0_fs2) fun r48 s47 h_s47 =>
            FS.ite (FS.some h_s47)
            (FS.some h_s47))
           (FS.some h_s43))
          (FS.none))
         (FS.ite (FS.ite (FS.ite (FS.some h_s1)
            (FS.none))
           (FS.none))
          (FS.ob h_s1 (hcf_finds _ _ _) (FtR fs2) fun r58 s57 h_s57 =>
           FS.some h_s57))))))
     (FS.none))
    (FS.some h_s1)
theorem fS_B_parameter (cf_worth : Int32 → Int32 → TS → Option (Int32 × TS)) (x1 : Int32) (σ : TS) (hcf_worth : ∀ (a0 : Int32) (a1 : Int32) (a2 : TS), FS fs2 a2 (cf_worth a0 a1 a2)) : FS fs2 σ (B_parameter cf_worth x1 σ) := by
  unfold B_parameter
  exact FS.ite (FS.ite (FS.some (Ft.rf _ _))
     (FS.ob (Ft.rf _ _) (fS_F_isBad _ ) (le_fs0_fs2) fun r3 s2 h_s2 =>
      FS.ite (FS.ite (FS.ite (FS.ob h_s2 (fS_F_bad _ _ _ ) (le_fs1_fs2) fun r34 s33 h_s33 =>
         FS.some h_s33)
        (FS.ite (FS.ob h_s2 (fS_F_bad _ _ _ ) (le_fs1_fs2) fun r29 s28 h_s28 =>
          FS.some h_s28)
         (FS.nmT (Ft.p_tsI h_s2 rfl) fun s7 h_s7 =>
          FS.ite (FS.nmT (Ft.p_tsA h_s7 rfl) fun s9 h_s9 =>
           FS.ite (FS.ite (FS.ite (FS.ite (FS.nmT (Ft.p_tsA h_s9 rfl) fun s23 h_s23 =>
               FS.ite (FS.nmT (Ft.p_tsA h_s23 rfl) fun s25 h_s25 =>
                FS.nmT (Ft.p_tsI h_s25 rfl) fun s26 h_s26 =>
                FS.some h_s26)
               (FS.none))
              (FS.none))
             (FS.none))
            (FS.ite (FS.ob h_s9 (hcf_worth _ _ _) (FtR fs2) fun r13 s12 h_s12 =>
              FS.ite (FS.nmT (Ft.p_tsA h_s12 rfl) fun s17 h_s17 =>
               FS.ite (FS.nmT (Ft.p_tsA h_s17 rfl) fun s19 h_s19 =>
                FS.nmT (Ft.p_tsI h_s19 rfl) fun s20 h_s20 =>
                FS.some h_s20)
               (FS.none))
              (FS.none))
             (FS.none)))
           (FS.none))
          (FS.none))))
       (FS.none))
      (FS.some h_s2)))
    (FS.none)
theorem fS_B_valueOf (cf_parameter : Int32 → TS → Option (Unit × TS)) (x1 : Int32) (σ : TS) (hcf_parameter : ∀ (a0 : Int32) (a1 : TS), FS fs2 a1 (cf_parameter a0 a1)) : FS fs2 σ (B_valueOf cf_parameter x1 σ) := by
  unfold B_valueOf
  exact FS.ite (FS.ite (FS.ite (FS.ite (FS.ite (FS.some (Ft.rf _ _))
        (FS.none))
       (FS.ob (Ft.rf _ _) (hcf_parameter _ _) (FtR fs2) fun r19 s18 h_s18 =>
        FS.ite (FS.some h_s18)
        (FS.none)))
      (FS.none))
     (FS.ite (FS.ite (FS.ite (FS.some (Ft.rf _ _))
        (FS.none))
       (FS.ite (FS.nmV fun v4 =>
         FS.ite (FS.ite (FS.ite (FS.ite (FS.nmV fun v8 =>
             FS.ite (FS.ite (FS.some (Ft.rf _ _))
              (FS.some (Ft.rf _ _)))
             (FS.none))
            (FS.none))
           (FS.none))
          (FS.ite (FS.ite (FS.some (Ft.rf _ _))
            (FS.some (Ft.rf _ _)))
           (FS.none)))
         (FS.none))
        (FS.none)))
      (FS.none)))
    (FS.none)
theorem fS_B_worth (cf_valueOf : Int32 → TS → Option (Int32 × TS)) (cf_worth : Int32 → Int32 → TS → Option (Int32 × TS)) (cf_holds : Int32 → Int32 → TS → Option (Int32 × TS)) (cf_chainValue : Int32 → Int32 → TS → Option (Int32 × TS)) (x1 : Int32) (x2 : Int32) (σ : TS) (hcf_valueOf : ∀ (a0 : Int32) (a1 : TS), FS fs2 a1 (cf_valueOf a0 a1)) (hcf_worth : ∀ (a0 : Int32) (a1 : Int32) (a2 : TS), FS fs2 a2 (cf_worth a0 a1 a2)) (hcf_holds : ∀ (a0 : Int32) (a1 : Int32) (a2 : TS), FS fs2 a2 (cf_holds a0 a1 a2)) (hcf_chainValue : ∀ (a0 : Int32) (a1 : Int32) (a2 : TS), FS fs2 a2 (cf_chainValue a0 a1 a2)) : FS fs2 σ (B_worth cf_valueOf cf_worth cf_holds cf_chainValue x1 x2 σ) := by
  unfold B_worth
  exact FS.ob (Ft.rf _ _) (fS_F_isBad _ ) (le_fs0_fs2) fun r2 s1 h_s1 =>
    FS.ite (FS.ite (FS.ite (FS.ite (FS.some h_s1)
       (FS.none))
      (FS.ite (FS.some h_s1)
       (FS.ite (FS.ite (FS.ob h_s1 (hcf_valueOf _ _) (FtR fs2) fun r12 s11 h_s11 =>
          FS.some h_s11)
         (FS.none))
        (FS.ite (FS.ite (FS.ob h_s1 (fS_F_derOf _ _ ) (le_fs0_fs2) fun r18 s17 h_s17 =>
           FS.some h_s17)
          (FS.none))
         (FS.ite (FS.ite (FS.ob h_s1 (fS_F_preOf _ _ ) (le_fs0_fs2) fun r24 s23 h_s23 =>
            FS.some h_s23)
           (FS.none))
          (FS.ite (FS.ob h_s1 (hcf_chainValue _ _ _) (FtR fs2) fun r29 s28 h_s28 =>
            FS.some h_s28)
           (FS.ite (FS.ob h_s1 (hcf_chainValue _ _ _) (FtR fs2) fun r34 s33 h_s33 =>
             FS.some h_s33)
            (FS.ite (FS.ite (FS.ob h_s1 (hcf_worth _ _ _) (FtR fs2) fun r40 s39 h_s39 =>
               FS.some h_s39)
              (FS.none))
             (FS.ite (FS.ob h_s1 (hcf_chainValue _ _ _) (FtR fs2) fun r45 s44 h_s44 =>
               FS.some h_s44)
              (FS.ite (FS.ob h_s1 (hcf_chainValue _ _ _) (FtR fs2) fun r50 s49 h_s49 =>
                FS.some h_s49)
               (FS.ite (FS.ite (FS.ob h_s1 (hcf_worth _ _ _) (FtR fs2) fun r56 s55 h_s55 =>
                  FS.ite (FS.some h_s55)
                  (FS.some h_s55))
                 (FS.none))
                (FS.ite (FS.ite (FS.ob h_s1 (hcf_worth _ _ _) (FtR fs2) fun r63 s62 h_s62 =>
                   FS.ob h_s62 (fS_F_root _ _ ) (le_fs1_fs2) fun r67 s66 h_s66 =>
                   FS.some h_s66)
                  (FS.none))
                 (FS.ite (FS.ite (FS.ob h_s1 (hcf_worth _ _ _) (FtR fs2) fun r73 s72 h_s72 =>
                    FS.ite (FS.ite (FS.some h_s72)
                     (FS.some h_s72))
                    (FS.some h_s72))
                   (FS.none))
                  (FS.ite (FS.ite (FS.ob h_s1 (hcf_worth _ _ _) (FtR fs2) fun r81 s80 h_s80 =>
                     FS.ob h_s80 (fS_F_fit _ _ ) (le_fs1_fs2) fun r85 s84 h_s84 =>
                     FS.some h_s84)
                    (FS.none))
                   (FS.ite (FS.ite (FS.ob h_s1 (hcf_worth _ _ _) (FtR fs2) fun r91 s90 h_s90 =>
                      FS.ite (FS.ob h_s90 (hcf_worth _ _ _) (FtR fs2) fun r96 s95 h_s95 =>
                       FS.some h_s95)
                      (FS.none))
                     (FS.none))
                    (FS.ite (FS.ite (FS.ob h_s1 (hcf_worth _ _ _) (FtR fs2) fun r102 s101 h_s101 =>
                       FS.ite (FS.ob h_s101 (hcf_worth _ _ _) (FtR fs2) fun r107 s106 h_s106 =>
                        FS.some h_s106)
                       (FS.none))
                      (FS.none))
                     (FS.ite (FS.ite (FS.ob h_s1 (hcf_holds _ _ _) (FtR fs2) fun r113 s112 h_s112 =>
                        FS.ite (FS.ite (FS.ob h_s112 (hcf_worth _ _ _) (FtR fs2) fun r118 s117 h_s117 =>
                          FS.some h_s117)
                         (FS.none))
                        (FS.ite (FS.ob h_s112 (hcf_worth _ _ _) (FtR fs2) fun r123 s122 h_s122 =>
                          FS.some h_s122)
                         (FS.none)))
                       (FS.none))
                      (FS.ite (FS.ob h_s1 (hcf_chainValue _ _ _) (FtR fs2) fun r129 s128 h_s128 =>
                        FS.some h_s128)
                       (FS.ite (FS.ob h_s1 (hcf_chainValue _ _ _) (FtR fs2) fun r134 s133 h_s133 =>
                         FS.some h_s133)
                        (FS.ite (FS.ob h_s1 (hcf_chainValue _ _ _) (FtR fs2) fun r139 s138 h_s138 =>
                          FS.some h_s138)
                         (FS.ite (FS.ob h_s1 (hcf_chainValue _ _ _) (FtR fs2) fun r144 s143 h_s143 =>
                           FS.some h_s143)
                          (FS.ite (FS.ob h_s1 (hcf_chainValue _ _ _) (FtR fs2) fun r149 s148 h_s148 =>
                            FS.some h_s148)
                           (FS.ite (FS.ob h_s1 (hcf_chainValue _ _ _) (FtR fs2) fun r154 s153 h_s153 =>
                             FS.some h_s153)
                            (FS.ite (FS.ob h_s1 (hcf_chainValue _ _ _) (FtR fs2) fun r159 s158 h_s158 =>
                              FS.some h_s158)
                             (FS.ite (FS.ob h_s1 (hcf_chainValue _ _ _) (FtR fs2) fun r164 s163 h_s163 =>
                               FS.some h_s163)
                              (FS.ite (FS.ob h_s1 (hcf_chainValue _ _ _) (FtR fs2) fun r169 s168 h_s168 =>
                                FS.some h_s168)
                               (FS.ite (FS.ob h_s1 (hcf_chainValue _ _ _) (FtR fs2) fun r174 s173 h_s173 =>
                                 FS.some h_s173)
                                (FS.ite (FS.ob h_s1 (hcf_chainValue _ _ _) (FtR fs2) fun r179 s178 h_s178 =>
                                  FS.some h_s178)
                                 (FS.ite (FS.ob h_s1 (hcf_chainValue _ _ _) (FtR fs2) fun r184 s183 h_s183 =>
                                   FS.some h_s183)
                                  (FS.ite (FS.ob h_s1 (hcf_chainValue _ _ _) (FtR fs2) fun r189 s188 h_s188 =>
                                    FS.some h_s188)
                                   (FS.ite (FS.ite (FS.ite (FS.some h_s1)
                                      (FS.none))
                                     (FS.none))
                                    (FS.ob h_s1 (hcf_chainValue _ _ _) (FtR fs2) fun r196 s195 h_s195 =>
                                     FS.some h_s195))))))))))))))))))))))))))))))))
     (FS.none))
    (FS.some h_s1)
theorem fS_G_chainValue : ∀ d : Nat, (∀ (a0 : Int32) (a1 : Int32) (a2 : TS), FS fs2 a2 ((G_chainValue d).1 a0 a1 a2)) ∧ (∀ (a0 : Int32) (a1 : Int32) (a2 : TS), FS fs2 a2 ((G_chainValue d).2.1 a0 a1 a2)) ∧ (∀ (a0 : Int32) (a1 : Int32) (a2 : TS), FS fs2 a2 ((G_chainValue d).2.2.1 a0 a1 a2)) ∧ (∀ (a0 : Int32) (a1 : TS), FS fs2 a1 ((G_chainValue d).2.2.2.1 a0 a1)) ∧ (∀ (a0 : Int32) (a1 : TS), FS fs2 a1 ((G_chainValue d).2.2.2.2.1 a0 a1)) ∧ (∀ (a0 : Int32) (a1 : Int32) (a2 : TS), FS fs2 a2 ((G_chainValue d).2.2.2.2.2 a0 a1 a2)) := by
  intro d
  induction d with
  | zero => exact ⟨fun _ _ _ => FS.none, fun _ _ _ => FS.none, fun _ _ _ => FS.none, fun _ _ => FS.none, fun _ _ => FS.none, fun _ _ _ => FS.none⟩
  | succ d ih => exact ⟨fun a0 a1 a2 => fS_B_chainValue _ a0 a1 a2 (fun b0 b1 b2 => ih.2.2.2.2.2 b0 b1 b2), fun a0 a1 a2 => fS_B_finds _ a0 a1 a2 (fun b0 b1 b2 => ih.2.2.2.2.2 b0 b1 b2), fun a0 a1 a2 => fS_B_holds _ _ a0 a1 a2 (fun b0 b1 b2 => ih.2.2.1 b0 b1 b2) (fun b0 b1 b2 => ih.2.1 b0 b1 b2), fun a0 a1 => fS_B_parameter _ a0 a1 (fun b0 b1 b2 => ih.2.2.2.2.2 b0 b1 b2), fun a0 a1 => fS_B_valueOf _ a0 a1 (fun b0 b1 => ih.2.2.2.1 b0 b1), fun a0 a1 a2 => fS_B_worth _ _ _ _ a0 a1 a2 (fun b0 b1 => ih.2.2.2.2.1 b0 b1) (fun b0 b1 b2 => ih.2.2.2.2.2 b0 b1 b2) (fun b0 b1 b2 => ih.2.2.1 b0 b1 b2) (fun b0 b1 b2 => ih.1 b0 b1 b2)⟩
theorem fS_F_chainValue (a0 : Int32) (a1 : Int32) (a2 : TS) : FS fs2 a2 (F_chainValue a0 a1 a2) := (fS_G_chainValue 1900).1 a0 a1 a2
theorem fS_F_finds (a0 : Int32) (a1 : Int32) (a2 : TS) : FS fs2 a2 (F_finds a0 a1 a2) := (fS_G_chainValue 1900).2.1 a0 a1 a2
theorem fS_F_holds (a0 : Int32) (a1 : Int32) (a2 : TS) : FS fs2 a2 (F_holds a0 a1 a2) := (fS_G_chainValue 1900).2.2.1 a0 a1 a2
theorem fS_F_parameter (a0 : Int32) (a1 : TS) : FS fs2 a1 (F_parameter a0 a1) := (fS_G_chainValue 1900).2.2.2.1 a0 a1
theorem fS_F_valueOf (a0 : Int32) (a1 : TS) : FS fs2 a1 (F_valueOf a0 a1) := (fS_G_chainValue 1900).2.2.2.2.1 a0 a1
theorem fS_F_worth (a0 : Int32) (a1 : Int32) (a2 : TS) : FS fs2 a2 (F_worth a0 a1 a2) := (fS_G_chainValue 1900).2.2.2.2.2 a0 a1 a2
theorem fS_L_act_7   : ∀ (n : Nat) (x1 : Int32) (x2 : Int32) (σ : TS), FS fs3 σ (L_act_7  n x1 x2 σ)
  | 0, _, _, _ => FS.none
  | n + 1, x1, x2, σ => by
    rw [L_act_7]
    exact FS.ite (FS.ite (FS.ite (FS.some (Ft.rf _ _))
        (FS.ob (Ft.rf _ _) (fS_F_isBad _ ) (le_fs0_fs3) fun r6 s5 h_s5 =>
         FS.ite (FS.ite (FS.ob h_s5 (fS_F_worth  _ _ _) (le_fs2_fs3) fun r11 s10 h_s10 =>
           FS.ob h_s10 (fS_F_isBad _ ) (le_fs0_fs3) fun r15 s14 h_s14 =>
           FS.ite (FS.ite (FS.nmV fun v19 =>
             FS.ite (FS.ite (FS.ite (FS.nmT (Ft.p_tsA h_s14 rfl) fun s38 h_s38 =>
                FS.nmV fun v39 =>
                FS.call h_s38 (fS_L_act_7  _ _ _ _) (FtR fs3))
               (FS.none))
              (FS.ite (FS.ite (FS.nmV fun v23 =>
                 FS.ite (FS.nmV fun v24 =>
                  FS.call h_s14 (fS_L_act_7  _ _ _ _) (FtR fs3))
                 (FS.ite (FS.ite (FS.ite (FS.ite (FS.ite (FS.nmT (Ft.p_tsA h_s14 rfl) fun s29 h_s29 =>
                       FS.nmV fun v30 =>
                       FS.call h_s29 (fS_L_act_7  _ _ _ _) (FtR fs3))
                      (FS.none))
                     (FS.ite (FS.nmT (Ft.p_tsA h_s14 rfl) fun s32 h_s32 =>
                       FS.nmV fun v33 =>
                       FS.call h_s32 (fS_L_act_7  _ _ _ _) (FtR fs3))
                      (FS.none)))
                    (FS.none))
                   (FS.nmV fun v26 =>
                    FS.call h_s14 (fS_L_act_7  _ _ _ _) (FtR fs3)))
                  (FS.none)))
                (FS.none))
               (FS.none)))
             (FS.none))
            (FS.none))
           (FS.some h_s14))
          (FS.none))
         (FS.some h_s5)))
       (FS.none))
      (FS.none)
theorem fS_F_act (x1 : Int32) (σ : TS)  : FS fs3 σ (F_act x1 σ) := by
  unfold F_act
  exact FS.ite (FS.nmV fun v2 =>
     FS.obS (Ft.rf _ _) (fS_L_act_7  _ _ _ _) (FtR fs3) (fun r48 s45 h_s45 => FS.some h_s45) fun q44 s45 h_s45 =>
     FS.some h_s45)
    (FS.none)
theorem fS_F_addEquation (x1 : Int32) (x2 : Int32) (σ : TS)  : FS fs4 σ (F_addEquation x1 x2 σ) := by
  unfold F_addEquation
  exact FS.ob (Ft.rf _ _) (fS_F_isBad _ ) (le_fs0_fs4) fun r2 s1 h_s1 =>
    FS.ite (FS.ite (FS.ob h_s1 (fS_F_bad _ _ _ ) (le_fs1_fs4) fun r11 s10 h_s10 =>
      FS.some h_s10)
     (FS.ite (FS.nmT (Ft.p_tsA h_s1 rfl) fun s6 h_s6 =>
       FS.ite (FS.nmT (Ft.p_tsA h_s6 rfl) fun s8 h_s8 =>
        FS.nmT (Ft.p_tsI h_s8 rfl) fun s9 h_s9 =>
        FS.some h_s9)
       (FS.none))
      (FS.none)))
    (FS.some h_s1)
theorem fS_F_isVariable (x1 : Int32) (σ : TS)  : FS fs0 σ (F_isVariable x1 σ) := by
  unfold F_isVariable
  exact FS.ite (FS.some (Ft.rf _ _))
    (FS.ite (FS.some (Ft.rf _ _))
     (FS.some (Ft.rf _ _)))
theorem fS_F_alias (x1 : Int32) (x2 : Int32) (σ : TS)  : FS fs0 σ (F_alias x1 x2 σ) := by
  unfold F_alias
  exact FS.ite (FS.some (Ft.rf _ _))
    (FS.ob (Ft.rf _ _) (fS_F_isVariable _ _ ) (FtR fs0) fun r3 s2 h_s2 =>
     FS.ite (FS.some h_s2)
     (FS.ite (FS.some h_s2)
      (FS.ite (FS.ite (FS.ite (FS.some h_s2)
         (FS.none))
        (FS.ite (FS.ite (FS.some h_s2)
          (FS.none))
         (FS.ite (FS.ite (FS.ite (FS.ite (FS.ite (FS.ite (FS.ite (FS.some h_s2)
                (FS.none))
               (FS.none))
              (FS.some h_s2))
             (FS.none))
            (FS.none))
           (FS.some h_s2))
          (FS.none))))
       (FS.some h_s2))))
theorem fS_B_gather (cf_gather : Int32 → Int32 → TS → Option (Int32 × TS)) (x1 : Int32) (x2 : Int32) (σ : TS) (hcf_gather : ∀ (a0 : Int32) (a1 : Int32) (a2 : TS), FS fs5 a2 (cf_gather a0 a1 a2)) : FS fs5 σ (B_gather cf_gather x1 x2 σ) := by
  unfold B_gather
  exact FS.ite (FS.ite (FS.ite (FS.ite (FS.some (Ft.rf _ _))
       (FS.some (Ft.rf _ _)))
      (FS.none))
     (FS.ite (FS.some (Ft.rf _ _))
      (FS.ite (FS.ite (FS.ite (FS.ite (FS.nmT (Ft.p_tsI (Ft.rf _ _) rfl) fun s9 h_s9 =>
           FS.ite (FS.ite (FS.nmT (Ft.p_tsI h_s9 rfl) fun s15 h_s15 =>
             FS.nmT (Ft.p_tsI h_s15 rfl) fun s16 h_s16 =>
             FS.ite (FS.some h_s16)
             (FS.some h_s16))
            (FS.none))
           (FS.ite (FS.nmT (Ft.p_tsI h_s9 rfl) fun s11 h_s11 =>
             FS.nmT (Ft.p_tsI h_s11 rfl) fun s12 h_s12 =>
             FS.ite (FS.some h_s12)
             (FS.some h_s12))
            (FS.none)))
          (FS.some (Ft.rf _ _)))
         (FS.none))
        (FS.none))
       (FS.ite (FS.some (Ft.rf _ _))
        (FS.ite (FS.some (Ft.rf _ _))
         (FS.ite (FS.ite (FS.ob (Ft.rf _ _) (hcf_gather _ _ _) (FtR fs5) fun r25 s24 h_s24 =>
            FS.ite (FS.some h_s24)
            (FS.ite (FS.ob h_s24 (hcf_gather _ _ _) (FtR fs5) fun r30 s29 h_s29 =>
              FS.ite (FS.some h_s29)
              (FS.some h_s29))
             (FS.none)))
           (FS.none))
          (FS.ite (FS.ite (FS.ob (Ft.rf _ _) (hcf_gather _ _ _) (FtR fs5) fun r38 s37 h_s37 =>
             FS.ite (FS.some h_s37)
             (FS.ite (FS.ob h_s37 (hcf_gather _ _ _) (FtR fs5) fun r43 s42 h_s42 =>
               FS.ite (FS.some h_s42)
               (FS.some h_s42))
              (FS.none)))
            (FS.none))
           (FS.ite (FS.ite (FS.ob (Ft.rf _ _) (hcf_gather _ _ _) (FtR fs5) fun r51 s50 h_s50 =>
              FS.some h_s50)
             (FS.none))
            (FS.some (Ft.rf _ _))))))))))
    (FS.none)
theorem fS_G_gather : ∀ d : Nat, (∀ (a0 : Int32) (a1 : Int32) (a2 : TS), FS fs5 a2 ((G_gather d) a0 a1 a2)) := by
  intro d
  induction d with
  | zero => exact fun _ _ _ => FS.none
  | succ d ih => exact fun a0 a1 a2 => fS_B_gather _ a0 a1 a2 (fun b0 b1 b2 => ih b0 b1 b2)
theorem fS_F_gather (a0 : Int32) (a1 : Int32) (a2 : TS) : FS fs5 a2 (F_gather a0 a1 a2) := (fS_G_gather 300) a0 a1 a2
theorem fS_F_isAlias (x1 : Int32) (x2 : Int32) (σ : TS)  : FS fs5 σ (F_isAlias x1 x2 σ) := by
  unfold F_isAlias
  exact FS.nmT (Ft.p_tsI (Ft.rf _ _) rfl) fun s1 h_s1 =>
    FS.ob h_s1 (fS_F_gather  _ _ _) (FtR fs5) fun r3 s2 h_s2 =>
    FS.ite (FS.some h_s2)
    (FS.ob h_s2 (fS_F_gather  _ _ _) (FtR fs5) fun r7 s6 h_s6 =>
     FS.ite (FS.some h_s6)
     (FS.ite (FS.ite (FS.some h_s6)
       (FS.some h_s6))
      (FS.some h_s6)))
theorem fS_L_aliases_7   : ∀ (n : Nat) (x1 : Int32) (σ : TS), FS fs6 σ (L_aliases_7  n x1 σ)
  | 0, _, _ => FS.none
  | n + 1, x1, σ => by
    rw [L_aliases_7]
    exact FS.ite (FS.some (Ft.rf _ _))
      (FS.ite (FS.nmT (Ft.p_tsA (Ft.rf _ _) rfl) fun s3 h_s3 =>
        FS.ite (FS.nmT (Ft.p_tsA h_s3 rfl) fun s5 h_s5 =>
         FS.nmV fun v6 =>
         FS.call h_s5 (fS_L_aliases_7  _ _ _) (FtR fs6))
        (FS.none))
       (FS.none))
theorem fS_L_aliases_157   : ∀ (n : Nat) (x1 : Int32) (x5 : Int32) (x6 : Int32) (x7 : Int32) (x8 : Int32) (σ : TS), FS fs6 σ (L_aliases_157  n x1 x5 x6 x7 x8 σ)
  | 0, _, _, _, _, _, _ => FS.none
  | n + 1, x1, x5, x6, x7, x8, σ => by
    rw [L_aliases_157]
    exact FS.ite (FS.some (Ft.rf _ _))
      (FS.ite (FS.ite (FS.ite (FS.nmT (Ft.p_tsA (Ft.rf _ _) rfl) fun s31 h_s31 =>
          FS.ite (FS.ite (FS.nmT (Ft.p_tsA h_s31 rfl) fun s34 h_s34 =>
            FS.nmV fun v35 =>
            FS.call h_s34 (fS_L_aliases_157  _ _ _ _ _ _ _) (FtR fs6))
           (FS.none))
          (FS.none))
         (FS.none))
        (FS.nmV fun v36 =>
         FS.call (Ft.rf _ _) (fS_L_aliases_157  _ _ _ _ _ _ _) (FtR fs6)))
       (FS.none))
theorem fS_L_aliases_37   : ∀ (n : Nat) (x1 : Int32) (σ : TS), FS fs7 σ (L_aliases_37  n x1 σ)
  | 0, _, _ => FS.none
  | n + 1, x1, σ => by
    rw [L_aliases_37]
    exact FS.ite (FS.some (Ft.rf _ _))
      (FS.ite (FS.nmT (Ft.p_tsA (Ft.rf _ _) rfl) fun s12 h_s12 =>
        FS.ite (FS.ite (FS.ob h_s12 (fS_F_isAlias _ _ _ ) (le_fs5_fs7) fun r16 s15 h_s15 =>
          FS.ite (FS.nmV fun v49 =>
           FS.call h_s15 (fS_L_aliases_37  _ _ _) (FtR fs7))
          (FS.nmV fun v19 =>
           FS.ite (FS.nmV fun v21 =>
            FS.ite (FS.nmV fun v23 =>
             FS.ite (FS.nmV fun v47 =>
              FS.call h_s15 (fS_L_aliases_37  _ _ _) (FtR fs7))
             (FS.ite (FS.ite (FS.nmV fun v26 =>
                FS.nmV fun v27 =>
                FS.nmV fun v28 =>
                FS.ob h_s15 (fS_L_aliases_157  _ _ _ _ _ _ _) (le_fs6_fs7) fun q39 s40 h_s40 =>
                FS.ite (FS.nmT (Ft.p_tsA h_s40 rfl) fun s43 h_s43 =>
                 FS.nmT (Ft.p_tsI h_s43 rfl) fun s44 h_s44 =>
                 FS.nmV fun v45 =>
                 FS.call h_s44 (fS_L_aliases_37  _ _ _) (FtR fs7))
                (FS.none))
               (FS.none))
              (FS.none)))
            (FS.none))
           (FS.none)))
         (FS.none))
        (FS.none))
       (FS.none))
theorem fS_F_aliases (σ : TS)  : FS fs7 σ (F_aliases σ) := by
  unfold F_aliases
  exact FS.nmT (Ft.p_tsI (Ft.rf _ _) rfl) fun s1 h_s1 =>
    FS.ob h_s1 (fS_L_aliases_7  _ _ _) (le_fs6_fs7) fun q8 s9 h_s9 =>
    FS.ob h_s9 (fS_L_aliases_37  _ _ _) (FtR fs7) fun q52 s53 h_s53 =>
    FS.some h_s53
theorem fS_F_alike (x1 : Int64) (x3 : Int64) (σ : TS)  : FS fs0 σ (F_alike x1 x3 σ) := by
  unfold F_alike
  exact FS.ite (FS.some (Ft.rf _ _))
    (FS.ite (FS.some (Ft.rf _ _))
     (FS.ite (FS.some (Ft.rf _ _))
      (FS.ite (FS.some (Ft.rf _ _))
       (FS.ite (FS.some (Ft.rf _ _))
        (FS.some (Ft.rf _ _))))))
theorem fS_F_isWord (x1 : Int64) (σ : TS)  : FS fs0 σ (F_isWord x1 σ) := by
  unfold F_isWord
  exact FS.ite (FS.ite (FS.some (Ft.rf _ _))
     (FS.some (Ft.rf _ _)))
    (FS.some (Ft.rf _ _))
theorem fS_F_byteAt (x1 : Int32) (σ : TS)  : FS fs0 σ (F_byteAt x1 σ) := by
  unfold F_byteAt
  exact FS.ite (FS.some (Ft.rf _ _))
    (FS.ite (FS.some (Ft.rf _ _))
     (FS.none))
theorem fS_F_isWhite (x0 : Int32) (σ : TS)  : FS fs0 σ (F_isWhite x0 σ) := by
  unfold F_isWhite
  exact FS.ite (FS.some (Ft.rf _ _))
    (FS.ite (FS.some (Ft.rf _ _))
     (FS.ite (FS.some (Ft.rf _ _))
      (FS.ite (FS.some (Ft.rf _ _))
       (FS.some (Ft.rf _ _)))))
theorem fS_F_isLetter (x0 : Int32) (σ : TS)  : FS fs0 σ (F_isLetter x0 σ) := by
  unfold F_isLetter
  exact FS.ite (FS.some (Ft.rf _ _))
    (FS.ite (FS.some (Ft.rf _ _))
     (FS.some (Ft.rf _ _)))
theorem fS_F_isDigit (x0 : Int32) (σ : TS)  : FS fs0 σ (F_isDigit x0 σ) := by
  unfold F_isDigit
  exact FS.ite (FS.some (Ft.rf _ _))
    (FS.ite (FS.some (Ft.rf _ _))
     (FS.some (Ft.rf _ _)))
theorem fS_L_isLong_22   : ∀ (n : Nat) (x1 : Nat) (x2 : Int32) (x3 : Int32) (σ : TS), FS fs0 σ (L_isLong_22  n x1 x2 x3 σ)
  | 0, _, _, _, _ => FS.none
  | n + 1, x1, x2, x3, σ => by
    rw [L_isLong_22]
    exact FS.ite (FS.some (Ft.rf _ _))
      (FS.ob (Ft.rf _ _) (fS_F_byteAt _ _ ) (FtR fs0) fun r4 s3 h_s3 =>
       FS.ite (FS.ite (FS.nmV fun v8 =>
         FS.call h_s3 (fS_L_isLong_22  _ _ _ _ _) (FtR fs0))
        (FS.some h_s3))
       (FS.none))
theorem fS_F_isLong (x1 : Nat) (σ : TS)  : FS fs0 σ (F_isLong x1 σ) := by
  unfold F_isLong
  exact FS.ite (FS.nmV fun v2 =>
     FS.ite (FS.obS (Ft.rf _ _) (fS_L_isLong_22  _ _ _ _ _) (FtR fs0) (fun r15 s12 h_s12 => FS.some h_s12) fun q11 s12 h_s12 =>
      FS.some h_s12)
     (FS.some (Ft.rf _ _)))
    (FS.none)
theorem fS_L_readNumeral_7   : ∀ (n : Nat) (x1 : Int32) (x2 : Int64) (σ : TS), FS fs0 σ (L_readNumeral_7  n x1 x2 σ)
  | 0, _, _, _ => FS.none
  | n + 1, x1, x2, σ => by
    rw [L_readNumeral_7]
    exact FS.ob (Ft.rf _ _) (fS_F_byteAt _ _ ) (FtR fs0) fun r3 s2 h_s2 =>
      FS.ob h_s2 (fS_F_isDigit _ _ ) (FtR fs0) fun r7 s6 h_s6 =>
      FS.ite (FS.some h_s6)
      (FS.ite (FS.nmV fun v10 =>
        FS.call h_s6 (fS_L_readNumeral_7  _ _ _ _) (FtR fs0))
       (FS.ob h_s6 (fS_F_byteAt _ _ ) (FtR fs0) fun r12 s11 h_s11 =>
        FS.nmV fun v15 =>
        FS.nmV fun v16 =>
        FS.call h_s11 (fS_L_readNumeral_7  _ _ _ _) (FtR fs0)))
theorem fS_J_readNumeral_224 (x1 : Int32) (x5 : Int64) (y0 : Int32) (σ : TS)  : FS fs8 σ (J_readNumeral_224 x1 x5 y0 σ) := by
  unfold J_readNumeral_224
  exact FS.ite (FS.nmT (Ft.p_tsI (Ft.rf _ _) rfl) fun s28 h_s28 =>
     FS.ite (FS.nmT (Ft.p_tsI h_s28 rfl) fun s29 h_s29 =>
      FS.nmT (Ft.p_tsI h_s29 rfl) fun s30 h_s30 =>
      FS.some h_s30)
     (FS.nmT (Ft.p_tsI h_s28 rfl) fun s31 h_s31 =>
      FS.nmT (Ft.p_tsI h_s31 rfl) fun s32 h_s32 =>
      FS.some h_s32))
    (FS.nmT (Ft.p_tsI (Ft.rf _ _) rfl) fun s34 h_s34 =>
     FS.ite (FS.nmT (Ft.p_tsI h_s34 rfl) fun s35 h_s35 =>
      FS.nmT (Ft.p_tsI h_s35 rfl) fun s36 h_s36 =>
      FS.some h_s36)
     (FS.nmT (Ft.p_tsI h_s34 rfl) fun s37 h_s37 =>
      FS.nmT (Ft.p_tsI h_s37 rfl) fun s38 h_s38 =>
      FS.some h_s38))
theorem fS_J_readNumeral_223 (x1 : Int32) (x5 : Int64) (σ : TS)  : FS fs8 σ (J_readNumeral_223 x1 x5 σ) := by
  unfold J_readNumeral_223
  exact FS.call (Ft.rf _ _) (fS_J_readNumeral_224 _ _ _ _ ) (FtR fs8)
theorem fS_J_readNumeral_205 (x1 : Int32) (x4 : Int32) (x5 : Int64) (σ : TS)  : FS fs8 σ (J_readNumeral_205 x1 x4 x5 σ) := by
  unfold J_readNumeral_205
  exact FS.ite (FS.call (Ft.rf _ _) (fS_J_readNumeral_223 _ _ _ ) (FtR fs8))
    (FS.ite (FS.call (Ft.rf _ _) (fS_J_readNumeral_223 _ _ _ ) (FtR fs8))
     (FS.call (Ft.rf _ _) (fS_J_readNumeral_224 _ _ _ _ ) (FtR fs8)))
theorem fS_L_readNumeral_119   : ∀ (n : Nat) (x1 : Int32) (x4 : Int32) (x5 : Int64) (x7 : Int32) (x8 : Int64) (x10 : Int64) (σ : TS), FS fs0 σ (L_readNumeral_119  n x1 x4 x5 x7 x8 x10 σ)
  | 0, _, _, _, _, _, _, _ => FS.none
  | n + 1, x1, x4, x5, x7, x8, x10, σ => by
    rw [L_readNumeral_119]
    exact FS.ob (Ft.rf _ _) (fS_F_byteAt _ _ ) (FtR fs0) fun r54 s53 h_s53 =>
      FS.ob h_s53 (fS_F_isDigit _ _ ) (FtR fs0) fun r58 s57 h_s57 =>
      FS.ite (FS.some h_s57)
      (FS.ite (FS.nmV fun v61 =>
        FS.call h_s57 (fS_L_readNumeral_119  _ _ _ _ _ _ _ _) (FtR fs0))
       (FS.ob h_s57 (fS_F_byteAt _ _ ) (FtR fs0) fun r63 s62 h_s62 =>
        FS.nmV fun v66 =>
        FS.nmV fun v67 =>
        FS.nmV fun v68 =>
        FS.call h_s62 (fS_L_readNumeral_119  _ _ _ _ _ _ _ _) (FtR fs0)))
theorem fS_J_readNumeral_189 (x1 : Int32) (x5 : Int64) (x8 : Int64) (x10 : Int64) (y0 : Int32) (σ : TS)  : FS fs8 σ (J_readNumeral_189 x1 x5 x8 x10 y0 σ) := by
  unfold J_readNumeral_189
  exact FS.ite (FS.nmV fun v75 =>
     FS.call (Ft.rf _ _) (fS_J_readNumeral_205 _ _ _ _ ) (FtR fs8))
    (FS.none)
theorem fS_J_readNumeral_188 (x1 : Int32) (x5 : Int64) (x8 : Int64) (x10 : Int64) (σ : TS)  : FS fs8 σ (J_readNumeral_188 x1 x5 x8 x10 σ) := by
  unfold J_readNumeral_188
  exact FS.call (Ft.rf _ _) (fS_J_readNumeral_189 _ _ _ _ _ _ ) (FtR fs8)
theorem fS_J_readNumeral_64 (x1 : Int32) (x2 : Int64) (y0 : Int32) (σ : TS)  : FS fs9 σ (J_readNumeral_64 x1 x2 y0 σ) := by
  unfold J_readNumeral_64
  exact FS.nmT (Ft.p_tsI (Ft.rf _ _) rfl) fun s22 h_s22 =>
    FS.nmV fun v23 =>
    FS.ob h_s22 (fS_F_byteAt _ _ ) (le_fs0_fs9) fun r25 s24 h_s24 =>
    FS.ite (FS.ob h_s24 (fS_F_byteAt _ _ ) (le_fs0_fs9) fun r44 s43 h_s43 =>
     FS.ob h_s43 (fS_F_isDigit _ _ ) (le_fs0_fs9) fun r48 s47 h_s47 =>
     FS.ite (FS.call h_s47 (fS_J_readNumeral_205 _ _ _ _ ) (le_fs8_fs9))
     (FS.nmT (Ft.p_tsI h_s47 rfl) fun s51 h_s51 =>
      FS.nmV fun v52 =>
      FS.ob h_s51 (fS_L_readNumeral_119  _ _ _ _ _ _ _ _) (le_fs0_fs9) fun q71 s72 h_s72 =>
      FS.ite (FS.call h_s72 (fS_J_readNumeral_188 _ _ _ _ _ ) (le_fs8_fs9))
      (FS.ite (FS.call h_s72 (fS_J_readNumeral_188 _ _ _ _ _ ) (le_fs8_fs9))
       (FS.call h_s72 (fS_J_readNumeral_189 _ _ _ _ _ _ ) (le_fs8_fs9)))))
    (FS.call h_s24 (fS_J_readNumeral_205 _ _ _ _ ) (le_fs8_fs9))
theorem fS_F_readNumeral (σ : TS)  : FS fs9 σ (F_readNumeral σ) := by
  unfold F_readNumeral
  exact FS.nmV fun v1 =>
    FS.ob (Ft.rf _ _) (fS_L_readNumeral_7  _ _ _ _) (le_fs0_fs9) fun q19 s20 h_s20 =>
    FS.ite (FS.call h_s20 (fS_J_readNumeral_64 _ _ _ _ ) (FtR fs9))
    (FS.call h_s20 (fS_J_readNumeral_64 _ _ _ _ ) (FtR fs9))
theorem fS_J_readSign_78 (x1 : Int32) (x2 : Int32) (y0 : Int32) (σ : TS)  : FS fs10 σ (J_readSign_78 x1 x2 y0 σ) := by
  unfold J_readSign_78
  exact FS.ite (FS.ite (FS.some (Ft.rf _ _))
     (FS.ite (FS.some (Ft.rf _ _))
      (FS.ite (FS.some (Ft.rf _ _))
       (FS.ite (FS.some (Ft.rf _ _))
        (FS.ite (FS.some (Ft.rf _ _))
         (FS.ite (FS.some (Ft.rf _ _))
          (FS.ite (FS.some (Ft.rf _ _))
           (FS.ite (FS.some (Ft.rf _ _))
            (FS.ite (FS.some (Ft.rf _ _))
             (FS.ite (FS.some (Ft.rf _ _))
              (FS.ite (FS.some (Ft.rf _ _))
               (FS.ite (FS.some (Ft.rf _ _))
                (FS.ite (FS.some (Ft.rf _ _))
                 (FS.ite (FS.some (Ft.rf _ _))
                  (FS.ite (FS.some (Ft.rf _ _))
                   (FS.nmT (Ft.p_tsI (Ft.rf _ _) rfl) fun s8 h_s8 =>
                    FS.some h_s8))))))))))))))))
    (FS.nmT (Ft.p_tsI (Ft.rf _ _) rfl) fun s24 h_s24 =>
     FS.nmT (Ft.p_tsI h_s24 rfl) fun s25 h_s25 =>
     FS.some h_s25)
theorem fS_J_readSign_77 (x1 : Int32) (x2 : Int32) (σ : TS)  : FS fs10 σ (J_readSign_77 x1 x2 σ) := by
  unfold J_readSign_77
  exact FS.call (Ft.rf _ _) (fS_J_readSign_78 _ _ _ _ ) (FtR fs10)
theorem fS_J_readSign_73 (x1 : Int32) (x2 : Int32) (σ : TS)  : FS fs10 σ (J_readSign_73 x1 x2 σ) := by
  unfold J_readSign_73
  exact FS.call (Ft.rf _ _) (fS_J_readSign_78 _ _ _ _ ) (FtR fs10)
theorem fS_J_readSign_61 (x1 : Int32) (x2 : Int32) (σ : TS)  : FS fs10 σ (J_readSign_61 x1 x2 σ) := by
  unfold J_readSign_61
  exact FS.ite (FS.ite (FS.call (Ft.rf _ _) (fS_J_readSign_73 _ _ _ ) (FtR fs10))
     (FS.call (Ft.rf _ _) (fS_J_readSign_77 _ _ _ ) (FtR fs10)))
    (FS.call (Ft.rf _ _) (fS_J_readSign_77 _ _ _ ) (FtR fs10))
theorem fS_J_readSign_49 (x1 : Int32) (x2 : Int32) (σ : TS)  : FS fs10 σ (J_readSign_49 x1 x2 σ) := by
  unfold J_readSign_49
  exact FS.ite (FS.ite (FS.call (Ft.rf _ _) (fS_J_readSign_73 _ _ _ ) (FtR fs10))
     (FS.call (Ft.rf _ _) (fS_J_readSign_61 _ _ _ ) (FtR fs10)))
    (FS.call (Ft.rf _ _) (fS_J_readSign_61 _ _ _ ) (FtR fs10))
theorem fS_F_readSign (x1 : Int32) (σ : TS)  : FS fs10 σ (F_readSign x1 σ) := by
  unfold F_readSign
  exact FS.nmT (Ft.p_tsI (Ft.rf _ _) rfl) fun s1 h_s1 =>
    FS.ob h_s1 (fS_F_byteAt _ _ ) (le_fs0_fs10) fun r3 s2 h_s2 =>
    FS.nmT (Ft.p_tsI h_s2 rfl) fun s6 h_s6 =>
    FS.nmT (Ft.p_tsI h_s6 rfl) fun s7 h_s7 =>
    FS.ite (FS.ite (FS.call h_s7 (fS_J_readSign_73 _ _ _ ) (FtR fs10))
     (FS.ite (FS.call h_s7 (fS_J_readSign_73 _ _ _ ) (FtR fs10))
      (FS.call h_s7 (fS_J_readSign_49 _ _ _ ) (FtR fs10))))
    (FS.call h_s7 (fS_J_readSign_49 _ _ _ ) (FtR fs10))
theorem fS_L_next_0   : ∀ (n : Nat) (σ : TS), FS fs11 σ (L_next_0  n σ)
  | 0, _ => FS.none
  | n + 1, σ => by
    rw [L_next_0]
    exact FS.ite (FS.some (Ft.rf _ _))
      (FS.ob (Ft.rf _ _) (fS_F_byteAt _ _ ) (le_fs0_fs11) fun r2 s1 h_s1 =>
       FS.ob h_s1 (fS_F_isWhite _ _ ) (le_fs0_fs11) fun r6 s5 h_s5 =>
       FS.ite (FS.some h_s5)
       (FS.nmT (Ft.p_tsI h_s5 rfl) fun s9 h_s9 =>
        FS.call h_s9 (fS_L_next_0  _ _) (FtR fs11)))
theorem fS_J_next_321 (σ : TS)  : FS fs12 σ (J_next_321 σ) := by
  unfold J_next_321
  exact FS.nmT (Ft.p_tsI (Ft.rf _ _) rfl) fun s33 h_s33 =>
    FS.ite (FS.some h_s33)
    (FS.ite (FS.nmT (Ft.p_tsI h_s33 rfl) fun s34 h_s34 =>
      FS.some h_s34)
     (FS.some h_s33))
theorem fS_L_next_102   : ∀ (n : Nat) (x2 : Int32) (σ : TS), FS fs0 σ (L_next_102  n x2 σ)
  | 0, _, _ => FS.none
  | n + 1, x2, σ => by
    rw [L_next_102]
    exact FS.ob (Ft.rf _ _) (fS_F_byteAt _ _ ) (FtR fs0) fun r44 s43 h_s43 =>
      FS.ob h_s43 (fS_F_isLetter _ _ ) (FtR fs0) fun r48 s47 h_s47 =>
      FS.ite (FS.ob h_s47 (fS_F_byteAt _ _ ) (FtR fs0) fun r53 s52 h_s52 =>
       FS.ob h_s52 (fS_F_isDigit _ _ ) (FtR fs0) fun r57 s56 h_s56 =>
       FS.ite (FS.ob h_s56 (fS_F_byteAt _ _ ) (FtR fs0) fun r62 s61 h_s61 =>
        FS.ite (FS.nmV fun v65 =>
         FS.call h_s61 (fS_L_next_102  _ _ _) (FtR fs0))
        (FS.some h_s61))
       (FS.nmV fun v60 =>
        FS.call h_s56 (fS_L_next_102  _ _ _) (FtR fs0)))
      (FS.nmV fun v51 =>
       FS.call h_s47 (fS_L_next_102  _ _ _) (FtR fs0))
theorem fS_L_next_155   : ∀ (n : Nat) (x2 : Int32) (x3 : Int32) (σ : TS), FS fs13 σ (L_next_155  n x2 x3 σ)
  | 0, _, _, _ => FS.none
  | n + 1, x2, x3, σ => by
    rw [L_next_155]
    exact FS.ite (FS.some (Ft.rf _ _))
      (FS.ite (FS.some (Ft.rf _ _))
       (FS.ob (Ft.rf _ _) (fS_F_byteAt _ _ ) (le_fs0_fs13) fun r76 s75 h_s75 =>
        FS.nmT (Ft.p_tsL h_s75 rfl) fun s79 h_s79 =>
        FS.nmV fun v80 =>
        FS.call h_s79 (fS_L_next_155  _ _ _ _) (FtR fs13)))
theorem fS_J_next_294 (x2 : Int32) (σ : TS)  : FS fs14 σ (J_next_294 x2 σ) := by
  unfold J_next_294
  exact FS.nmT (Ft.p_tsI (Ft.rf _ _) rfl) fun s86 h_s86 =>
    FS.call h_s86 (fS_J_next_321 _ ) (le_fs12_fs14)
theorem fS_J_next_277 (x2 : Int32) (y1 : Int64) (σ : TS)  : FS fs15 σ (J_next_277 x2 y1 σ) := by
  unfold J_next_277
  exact FS.nmT (Ft.p_tsL (Ft.rf _ _) rfl) fun s104 h_s104 =>
    FS.ite (FS.nmT (Ft.p_tsI h_s104 rfl) fun s105 h_s105 =>
     FS.call h_s105 (fS_J_next_294 _ _ ) (le_fs14_fs15))
    (FS.call h_s104 (fS_J_next_294 _ _ ) (le_fs14_fs15))
theorem fS_J_next_195 (x2 : Int32) (σ : TS)  : FS fs15 σ (J_next_195 x2 σ) := by
  unfold J_next_195
  exact FS.ite (FS.call (Ft.rf _ _) (fS_J_next_294 _ _ ) (le_fs14_fs15))
    (FS.nmT (Ft.p_tsI (Ft.rf _ _) rfl) fun s87 h_s87 =>
     FS.ob h_s87 (fS_F_isLong _ _ ) (le_fs0_fs15) fun r89 s88 h_s88 =>
     FS.ite (FS.ob h_s88 (fS_F_isLong _ _ ) (le_fs0_fs15) fun r93 s92 h_s92 =>
      FS.ite (FS.ob h_s92 (fS_F_isLong _ _ ) (le_fs0_fs15) fun r97 s96 h_s96 =>
       FS.ite (FS.ob h_s96 (fS_F_isLong _ _ ) (le_fs0_fs15) fun r101 s100 h_s100 =>
        FS.ite (FS.call h_s100 (fS_J_next_277 _ _ _ ) (FtR fs15))
        (FS.call h_s100 (fS_J_next_277 _ _ _ ) (FtR fs15)))
       (FS.call h_s96 (fS_J_next_277 _ _ _ ) (FtR fs15)))
      (FS.call h_s92 (fS_J_next_277 _ _ _ ) (FtR fs15)))
     (FS.call h_s88 (fS_J_next_277 _ _ _ ) (FtR fs15)))
theorem fS_J_next_38 (σ : TS)  : FS fs16 σ (J_next_38 σ) := by
  unfold J_next_38
  exact FS.nmT (Ft.p_tsI (Ft.rf _ _) rfl) fun s15 h_s15 =>
    FS.nmT (Ft.p_tsI h_s15 rfl) fun s16 h_s16 =>
    FS.ite (FS.nmT (Ft.p_tsI h_s16 rfl) fun s115 h_s115 =>
     FS.nmT (Ft.p_tsI h_s115 rfl) fun s116 h_s116 =>
     FS.some h_s116)
    (FS.ob h_s16 (fS_F_byteAt _ _ ) (le_fs0_fs16) fun r18 s17 h_s17 =>
     FS.ob h_s17 (fS_F_isLetter _ _ ) (le_fs0_fs16) fun r22 s21 h_s21 =>
     FS.ite (FS.ob h_s21 (fS_F_isDigit _ _ ) (le_fs0_fs16) fun r26 s25 h_s25 =>
      FS.ite (FS.ob h_s25 (fS_F_readSign _ _ ) (le_fs10_fs16) fun r30 s29 h_s29 =>
       FS.call h_s29 (fS_J_next_321 _ ) (le_fs12_fs16))
      (FS.ob h_s25 (fS_F_readNumeral _ ) (le_fs9_fs16) fun r38 s37 h_s37 =>
       FS.call h_s37 (fS_J_next_321 _ ) (le_fs12_fs16)))
     (FS.nmV fun v42 =>
      FS.ob h_s21 (fS_L_next_102  _ _ _) (le_fs0_fs16) fun q69 s70 h_s70 =>
      FS.nmT (Ft.p_tsI h_s70 rfl) fun s72 h_s72 =>
      FS.nmT (Ft.p_tsL h_s72 rfl) fun s73 h_s73 =>
      FS.nmV fun v74 =>
      FS.ob h_s73 (fS_L_next_155  _ _ _ _) (le_fs13_fs16) fun q83 s84 h_s84 =>
      FS.call h_s84 (fS_J_next_195 _ _ ) (le_fs15_fs16)))
theorem fS_F_next (σ : TS)  : FS fs16 σ (F_next σ) := by
  unfold F_next
  exact FS.ob (Ft.rf _ _) (fS_L_next_0  _ _) (le_fs11_fs16) fun q12 s13 h_s13 =>
    FS.call h_s13 (fS_J_next_38 _ ) (FtR fs16)
theorem fS_F_node (x1 : Int32) (x2 : Int32) (x3 : Int32) (x4 : Int32) (σ : TS)  : FS fs17 σ (F_node x1 x2 x3 x4 σ) := by
  unfold F_node
  exact FS.ite (FS.some (Ft.rf _ _))
    (FS.ite (FS.nmT (Ft.p_tsA (Ft.rf _ _) rfl) fun s2 h_s2 =>
      FS.ite (FS.nmT (Ft.p_tsA h_s2 rfl) fun s4 h_s4 =>
       FS.ite (FS.nmT (Ft.p_tsA h_s4 rfl) fun s6 h_s6 =>
        FS.ite (FS.nmT (Ft.p_tsA h_s6 rfl) fun s8 h_s8 =>
         FS.nmT (Ft.p_tsI h_s8 rfl) fun s9 h_s9 =>
         FS.some h_s9)
        (FS.none))
       (FS.none))
      (FS.none))
     (FS.none))
theorem fS_F_isSign (x1 : Int32) (σ : TS)  : FS fs0 σ (F_isSign x1 σ) := by
  unfold F_isSign
  exact FS.ite (FS.ite (FS.some (Ft.rf _ _))
     (FS.some (Ft.rf _ _)))
    (FS.some (Ft.rf _ _))
theorem fS_F_deeper (σ : TS)  : FS fs18 σ (F_deeper σ) := by
  unfold F_deeper
  exact FS.ite (FS.ob (Ft.rf _ _) (fS_F_bad _ _ _ ) (le_fs1_fs18) fun r3 s2 h_s2 =>
     FS.nmT (Ft.p_tsI h_s2 rfl) fun s6 h_s6 =>
     FS.some h_s6)
    (FS.nmT (Ft.p_tsI (Ft.rf _ _) rfl) fun s1 h_s1 =>
     FS.some h_s1)
theorem fS_F_cantStand (σ : TS)  : FS fs1 σ (F_cantStand σ) := by
  unfold F_cantStand
  exact FS.ite (FS.ob (Ft.rf _ _) (fS_F_bad _ _ _ ) (FtR fs1) fun r6 s5 h_s5 =>
     FS.some h_s5)
    (FS.ob (Ft.rf _ _) (fS_F_bad _ _ _ ) (FtR fs1) fun r2 s1 h_s1 =>
     FS.some h_s1)
theorem fS_F_pass (x1 : Int32) (σ : TS)  : FS fs19 σ (F_pass x1 σ) := by
  unfold F_pass
  exact FS.ob (Ft.rf _ _) (fS_F_isBad _ ) (le_fs0_fs19) fun r2 s1 h_s1 =>
    FS.ite (FS.ob h_s1 (fS_F_isSign _ _ ) (le_fs0_fs19) fun r6 s5 h_s5 =>
     FS.ite (FS.ob h_s5 (fS_F_cantStand _ ) (le_fs1_fs19) fun r14 s13 h_s13 =>
      FS.some h_s13)
     (FS.ob h_s5 (fS_F_next _ ) (le_fs16_fs19) fun r10 s9 h_s9 =>
      FS.some h_s9))
    (FS.some h_s1)
theorem fS_F_sampleNumber (x1 : Int32) (σ : TS)  : FS fs19 σ (F_sampleNumber x1 σ) := by
  unfold F_sampleNumber
  exact FS.ob (Ft.rf _ _) (fS_F_isBad _ ) (le_fs0_fs19) fun r2 s1 h_s1 =>
    FS.ite (FS.ite (FS.ite (FS.nmV fun v9 =>
       FS.ob h_s1 (fS_F_next _ ) (le_fs16_fs19) fun r11 s10 h_s10 =>
       FS.some h_s10)
      (FS.ob h_s1 (fS_F_cantStand _ ) (le_fs1_fs19) fun r15 s14 h_s14 =>
       FS.some h_s14))
     (FS.ob h_s1 (fS_F_cantStand _ ) (le_fs1_fs19) fun r6 s5 h_s5 =>
      FS.some h_s5))
    (FS.some h_s1)
theorem fS_J_sample_24 (σ : TS)  : FS fs20 σ (J_sample_24 σ) := by
  unfold J_sample_24
  exact FS.ob (Ft.rf _ _) (fS_F_pass _ _ ) (le_fs19_fs20) fun r10 s9 h_s9 =>
    FS.ob h_s9 (fS_F_sampleNumber _ _ ) (le_fs19_fs20) fun r14 s13 h_s13 =>
    FS.ob h_s13 (fS_F_pass _ _ ) (le_fs19_fs20) fun r18 s17 h_s17 =>
    FS.ob h_s17 (fS_F_sampleNumber _ _ ) (le_fs19_fs20) fun r22 s21 h_s21 =>
    FS.ob h_s21 (fS_F_pass _ _ ) (le_fs19_fs20) fun r26 s25 h_s25 =>
    FS.nmT (Ft.p_tsI h_s25 rfl) fun s29 h_s29 =>
    FS.ob h_s29 (fS_F_node _ _ _ _ _ ) (le_fs17_fs20) fun r31 s30 h_s30 =>
    FS.some h_s30
theorem fS_F_sample (σ : TS)  : FS fs20 σ (F_sample σ) := by
  unfold F_sample
  exact FS.ob (Ft.rf _ _) (fS_F_next _ ) (le_fs16_fs20) fun r2 s1 h_s1 =>
    FS.ob h_s1 (fS_F_isBad _ ) (le_fs0_fs20) fun r6 s5 h_s5 =>
    FS.ite (FS.ob h_s5 (fS_F_isSign _ _ ) (le_fs0_fs20) fun r35 s34 h_s34 =>
     FS.ite (FS.call h_s34 (fS_J_sample_24 _ ) (FtR fs20))
     (FS.ob h_s34 (fS_F_deeper _ ) (le_fs18_fs20) fun r39 s38 h_s38 =>
      FS.call h_s38 (fS_J_sample_24 _ ) (FtR fs20)))
    (FS.call h_s5 (fS_J_sample_24 _ ) (FtR fs20))
theorem fS_F_isRelation (σ : TS)  : FS fs0 σ (F_isRelation σ) := by
  unfold F_isRelation
  exact FS.ite (FS.ite (FS.some (Ft.rf _ _))
     (FS.ite (FS.some (Ft.rf _ _))
      (FS.ite (FS.some (Ft.rf _ _))
       (FS.ite (FS.some (Ft.rf _ _))
        (FS.ite (FS.some (Ft.rf _ _))
         (FS.ite (FS.some (Ft.rf _ _))
          (FS.some (Ft.rf _ _))))))))
    (FS.some (Ft.rf _ _))
theorem fS_L_isGroup_24   : ∀ (n : Nat) (x1 : Int32) (x2 : Int32) (x3 : Int32) (x4 : Int32) (x5 : Int32) (σ : TS), FS fs16 σ (L_isGroup_24  n x1 x2 x3 x4 x5 σ)
  | 0, _, _, _, _, _, _ => FS.none
  | n + 1, x1, x2, x3, x4, x5, σ => by
    rw [L_isGroup_24]
    exact FS.ite (FS.some (Ft.rf _ _))
      (FS.ite (FS.some (Ft.rf _ _))
       (FS.ite (FS.some (Ft.rf _ _))
        (FS.ob (Ft.rf _ _) (fS_F_next _ ) (FtR fs16) fun r6 s5 h_s5 =>
         FS.ob h_s5 (fS_F_isSign _ _ ) (le_fs0_fs16) fun r10 s9 h_s9 =>
         FS.ite (FS.ob h_s9 (fS_F_isSign _ _ ) (le_fs0_fs16) fun r14 s13 h_s13 =>
          FS.ite (FS.call h_s13 (fS_L_isGroup_24  _ _ _ _ _ _ _) (FtR fs16))
          (FS.nmV fun v17 =>
           FS.call h_s13 (fS_L_isGroup_24  _ _ _ _ _ _ _) (FtR fs16)))
         (FS.nmV fun v19 =>
          FS.ob h_s9 (fS_F_isSign _ _ ) (le_fs0_fs16) fun r21 s20 h_s20 =>
          FS.ite (FS.call h_s20 (fS_L_isGroup_24  _ _ _ _ _ _ _) (FtR fs16))
          (FS.nmV fun v24 =>
           FS.call h_s20 (fS_L_isGroup_24  _ _ _ _ _ _ _) (FtR fs16))))))
theorem fS_J_isGroup_156 (x1 : Int32) (x2 : Int32) (x3 : Int32) (x4 : Int32) (x6 : Int32) (σ : TS)  : FS fs21 σ (J_isGroup_156 x1 x2 x3 x4 x6 σ) := by
  unfold J_isGroup_156
  exact FS.nmT (Ft.p_tsI (Ft.rf _ _) rfl) fun s33 h_s33 =>
    FS.nmT (Ft.p_tsI h_s33 rfl) fun s34 h_s34 =>
    FS.nmT (Ft.p_tsI h_s34 rfl) fun s35 h_s35 =>
    FS.nmT (Ft.p_tsI h_s35 rfl) fun s36 h_s36 =>
    FS.nmT (Ft.p_tsI h_s36 rfl) fun s37 h_s37 =>
    FS.nmT (Ft.p_tsI h_s37 rfl) fun s38 h_s38 =>
    FS.some h_s38
theorem fS_J_isGroup_154 (x1 : Int32) (x2 : Int32) (x3 : Int32) (x4 : Int32) (y0 : Int32) (σ : TS)  : FS fs21 σ (J_isGroup_154 x1 x2 x3 x4 y0 σ) := by
  unfold J_isGroup_154
  exact FS.call (Ft.rf _ _) (fS_J_isGroup_156 _ _ _ _ _ _ ) (FtR fs21)
theorem fS_J_isGroup_153 (x1 : Int32) (x2 : Int32) (x3 : Int32) (x4 : Int32) (σ : TS)  : FS fs21 σ (J_isGroup_153 x1 x2 x3 x4 σ) := by
  unfold J_isGroup_153
  exact FS.call (Ft.rf _ _) (fS_J_isGroup_154 _ _ _ _ _ _ ) (FtR fs21)
theorem fS_J_isGroup_95 (x1 : Int32) (x2 : Int32) (x3 : Int32) (x4 : Int32) (y0 : Int32) (σ : TS)  : FS fs16 σ (J_isGroup_95 x1 x2 x3 x4 y0 σ) := by
  unfold J_isGroup_95
  exact FS.ite (FS.call (Ft.rf _ _) (fS_J_isGroup_156 _ _ _ _ _ _ ) (le_fs21_fs16))
    (FS.ob (Ft.rf _ _) (fS_F_next _ ) (FtR fs16) fun r40 s39 h_s39 =>
     FS.ob h_s39 (fS_F_isRelation _ ) (le_fs0_fs16) fun r44 s43 h_s43 =>
     FS.ite (FS.ob h_s43 (fS_F_isSign _ _ ) (le_fs0_fs16) fun r48 s47 h_s47 =>
      FS.ite (FS.ob h_s47 (fS_F_isSign _ _ ) (le_fs0_fs16) fun r52 s51 h_s51 =>
       FS.ite (FS.ob h_s51 (fS_F_isSign _ _ ) (le_fs0_fs16) fun r56 s55 h_s55 =>
        FS.ite (FS.ob h_s55 (fS_F_isSign _ _ ) (le_fs0_fs16) fun r60 s59 h_s59 =>
         FS.ite (FS.call h_s59 (fS_J_isGroup_154 _ _ _ _ _ _ ) (le_fs21_fs16))
         (FS.call h_s59 (fS_J_isGroup_153 _ _ _ _ _ ) (le_fs21_fs16)))
        (FS.call h_s55 (fS_J_isGroup_153 _ _ _ _ _ ) (le_fs21_fs16)))
       (FS.call h_s51 (fS_J_isGroup_153 _ _ _ _ _ ) (le_fs21_fs16)))
      (FS.call h_s47 (fS_J_isGroup_153 _ _ _ _ _ ) (le_fs21_fs16)))
     (FS.call h_s43 (fS_J_isGroup_153 _ _ _ _ _ ) (le_fs21_fs16)))
theorem fS_J_isGroup_94 (x1 : Int32) (x2 : Int32) (x3 : Int32) (x4 : Int32) (σ : TS)  : FS fs16 σ (J_isGroup_94 x1 x2 x3 x4 σ) := by
  unfold J_isGroup_94
  exact FS.call (Ft.rf _ _) (fS_J_isGroup_95 _ _ _ _ _ _ ) (FtR fs16)
theorem fS_J_isGroup_75 (x1 : Int32) (x2 : Int32) (x3 : Int32) (x4 : Int32) (σ : TS)  : FS fs16 σ (J_isGroup_75 x1 x2 x3 x4 σ) := by
  unfold J_isGroup_75
  exact FS.ite (FS.call (Ft.rf _ _) (fS_J_isGroup_94 _ _ _ _ _ ) (FtR fs16))
    (FS.ite (FS.call (Ft.rf _ _) (fS_J_isGroup_94 _ _ _ _ _ ) (FtR fs16))
     (FS.call (Ft.rf _ _) (fS_J_isGroup_95 _ _ _ _ _ _ ) (FtR fs16)))
theorem fS_F_isGroup (σ : TS)  : FS fs16 σ (F_isGroup σ) := by
  unfold F_isGroup
  exact FS.nmV fun v1 =>
    FS.nmV fun v2 =>
    FS.nmV fun v3 =>
    FS.nmV fun v4 =>
    FS.ob (Ft.rf _ _) (fS_L_isGroup_24  _ _ _ _ _ _ _) (FtR fs16) fun q30 s31 h_s31 =>
    FS.call h_s31 (fS_J_isGroup_75 _ _ _ _ _ ) (FtR fs16)
theorem fS_F_passWord (x1 : Int64) (σ : TS)  : FS fs19 σ (F_passWord x1 σ) := by
  unfold F_passWord
  exact FS.ob (Ft.rf _ _) (fS_F_isBad _ ) (le_fs0_fs19) fun r2 s1 h_s1 =>
    FS.ite (FS.ob h_s1 (fS_F_isWord _ _ ) (le_fs0_fs19) fun r6 s5 h_s5 =>
     FS.ite (FS.ob h_s5 (fS_F_cantStand _ ) (le_fs1_fs19) fun r14 s13 h_s13 =>
      FS.some h_s13)
     (FS.ob h_s5 (fS_F_next _ ) (le_fs16_fs19) fun r10 s9 h_s9 =>
      FS.some h_s9))
    (FS.some h_s1)
theorem fS_L_isKey_13   : ∀ (n : Nat) (x1 : Int32) (σ : TS), FS fs0 σ (L_isKey_13  n x1 σ)
  | 0, _, _ => FS.none
  | n + 1, x1, σ => by
    rw [L_isKey_13]
    exact FS.ite (FS.some (Ft.rf _ _))
      (FS.ite (FS.ite (FS.some (Ft.rf _ _))
        (FS.nmV fun v2 =>
         FS.call (Ft.rf _ _) (fS_L_isKey_13  _ _ _) (FtR fs0)))
       (FS.none))
theorem fS_F_isKey (σ : TS)  : FS fs0 σ (F_isKey σ) := by
  unfold F_isKey
  exact FS.ite (FS.obS (Ft.rf _ _) (fS_L_isKey_13  _ _ _) (FtR fs0) (fun r9 s6 h_s6 => FS.some h_s6) fun q5 s6 h_s6 =>
     FS.some h_s6)
    (FS.some (Ft.rf _ _))
theorem fS_F_isName (σ : TS)  : FS fs0 σ (F_isName σ) := by
  unfold F_isName
  exact FS.ite (FS.ob (Ft.rf _ _) (fS_F_isKey _ ) (FtR fs0) fun r2 s1 h_s1 =>
     FS.ite (FS.some h_s1)
     (FS.some h_s1))
    (FS.some (Ft.rf _ _))
theorem fS_F_passName (σ : TS)  : FS fs19 σ (F_passName σ) := by
  unfold F_passName
  exact FS.ob (Ft.rf _ _) (fS_F_isBad _ ) (le_fs0_fs19) fun r2 s1 h_s1 =>
    FS.ite (FS.ob h_s1 (fS_F_isName _ ) (le_fs0_fs19) fun r6 s5 h_s5 =>
     FS.ite (FS.ob h_s5 (fS_F_cantStand _ ) (le_fs1_fs19) fun r15 s14 h_s14 =>
      FS.some h_s14)
     (FS.nmV fun v9 =>
      FS.ob h_s5 (fS_F_next _ ) (le_fs16_fs19) fun r11 s10 h_s10 =>
      FS.some h_s10))
    (FS.some h_s1)
theorem fS_J_newPart_20 (x1 : Int64) (σ : TS)  : FS fs22 σ (J_newPart_20 x1 σ) := by
  unfold J_newPart_20
  exact FS.ite (FS.nmT (Ft.p_tsB (Ft.rf _ _) rfl) fun s2 h_s2 =>
     FS.ite (FS.nmT (Ft.p_tsA h_s2 rfl) fun s4 h_s4 =>
      FS.ite (FS.nmT (Ft.p_tsA h_s4 rfl) fun s6 h_s6 =>
       FS.ite (FS.nmT (Ft.p_tsB h_s6 rfl) fun s8 h_s8 =>
        FS.ite (FS.nmT (Ft.p_tsA h_s8 rfl) fun s10 h_s10 =>
         FS.nmT (Ft.p_tsI h_s10 rfl) fun s11 h_s11 =>
         FS.some h_s11)
        (FS.none))
       (FS.none))
      (FS.none))
     (FS.none))
    (FS.none)
theorem fS_F_newPart (x1 : Int64) (σ : TS)  : FS fs22 σ (F_newPart x1 σ) := by
  unfold F_newPart
  exact FS.ite (FS.nmT (Ft.p_tsI (Ft.rf _ _) rfl) fun s12 h_s12 =>
     FS.call h_s12 (fS_J_newPart_20 _ _ ) (FtR fs22))
    (FS.call (Ft.rf _ _) (fS_J_newPart_20 _ _ ) (FtR fs22))
theorem fS_F_passWhole (x1 : Int32) (σ : TS)  : FS fs19 σ (F_passWhole x1 σ) := by
  unfold F_passWhole
  exact FS.ob (Ft.rf _ _) (fS_F_isBad _ ) (le_fs0_fs19) fun r2 s1 h_s1 =>
    FS.ite (FS.ite (FS.ite (FS.ob h_s1 (fS_F_cantStand _ ) (le_fs1_fs19) fun r11 s10 h_s10 =>
       FS.some h_s10)
      (FS.ite (FS.nmV fun v14 =>
        FS.ob h_s1 (fS_F_next _ ) (le_fs16_fs19) fun r16 s15 h_s15 =>
        FS.some h_s15)
       (FS.ob h_s1 (fS_F_cantStand _ ) (le_fs1_fs19) fun r20 s19 h_s19 =>
        FS.some h_s19)))
     (FS.ob h_s1 (fS_F_cantStand _ ) (le_fs1_fs19) fun r6 s5 h_s5 =>
      FS.some h_s5))
    (FS.some h_s1)
theorem fS_L_isFor_2   : ∀ (n : Nat) (x1 : Int64) (x3 : Int32) (σ : TS), FS fs0 σ (L_isFor_2  n x1 x3 σ)
  | 0, _, _, _ => FS.none
  | n + 1, x1, x3, σ => by
    rw [L_isFor_2]
    exact FS.ite (FS.some (Ft.rf _ _))
      (FS.ite (FS.ite (FS.some (Ft.rf _ _))
        (FS.nmV fun v2 =>
         FS.call (Ft.rf _ _) (fS_L_isFor_2  _ _ _ _) (FtR fs0)))
       (FS.none))
theorem fS_F_isFor (x1 : Int64) (σ : TS)  : FS fs0 σ (F_isFor x1 σ) := by
  unfold F_isFor
  exact FS.obS (Ft.rf _ _) (fS_L_isFor_2  _ _ _ _) (FtR fs0) (fun r9 s6 h_s6 => FS.some h_s6) fun q5 s6 h_s6 =>
    FS.some h_s6
theorem fS_J_index_123 (x1 : Int32) (y0 : Int32) (σ : TS)  : FS fs23 σ (J_index_123 x1 y0 σ) := by
  unfold J_index_123
  exact FS.ob (Ft.rf _ _) (fS_F_next _ ) (le_fs16_fs23) fun r50 s49 h_s49 =>
    FS.ob h_s49 (fS_F_passWhole _ _ ) (le_fs19_fs23) fun r54 s53 h_s53 =>
    FS.ite (FS.ite (FS.nmT (Ft.p_tsA h_s53 rfl) fun s58 h_s58 =>
      FS.ob h_s58 (fS_F_pass _ _ ) (le_fs19_fs23) fun r60 s59 h_s59 =>
      FS.some h_s59)
     (FS.none))
    (FS.ite (FS.nmT (Ft.p_tsA h_s53 rfl) fun s64 h_s64 =>
      FS.ob h_s64 (fS_F_pass _ _ ) (le_fs19_fs23) fun r66 s65 h_s65 =>
      FS.some h_s65)
     (FS.none))
theorem fS_J_index_109 (x1 : Int32) (σ : TS)  : FS fs23 σ (J_index_109 x1 σ) := by
  unfold J_index_109
  exact FS.ite (FS.call (Ft.rf _ _) (fS_J_index_123 _ _ _ ) (FtR fs23))
    (FS.call (Ft.rf _ _) (fS_J_index_123 _ _ _ ) (FtR fs23))
theorem fS_F_index (x1 : Int32) (σ : TS)  : FS fs24 σ (F_index x1 σ) := by
  unfold F_index
  exact FS.ob (Ft.rf _ _) (fS_F_isBad _ ) (le_fs0_fs24) fun r2 s1 h_s1 =>
    FS.ite (FS.ob h_s1 (fS_F_isSign _ _ ) (le_fs0_fs24) fun r6 s5 h_s5 =>
     FS.ite (FS.some h_s5)
     (FS.ob h_s5 (fS_F_next _ ) (le_fs16_fs24) fun r10 s9 h_s9 =>
      FS.ite (FS.ite (FS.nmT (Ft.p_tsA h_s9 rfl) fun s84 h_s84 =>
        FS.ob h_s84 (fS_F_passWhole _ _ ) (le_fs19_fs24) fun r86 s85 h_s85 =>
        FS.ite (FS.nmT (Ft.p_tsA h_s85 rfl) fun s90 h_s90 =>
         FS.ob h_s90 (fS_F_pass _ _ ) (le_fs19_fs24) fun r92 s91 h_s91 =>
         FS.some h_s91)
        (FS.none))
       (FS.none))
      (FS.ob h_s9 (fS_F_isName _ ) (le_fs0_fs24) fun r14 s13 h_s13 =>
       FS.ite (FS.ob h_s13 (fS_F_cantStand _ ) (le_fs1_fs24) fun r18 s17 h_s17 =>
        FS.ob h_s17 (fS_F_pass _ _ ) (le_fs19_fs24) fun r22 s21 h_s21 =>
        FS.some h_s21)
       (FS.ob h_s13 (fS_F_isFor _ _ ) (le_fs0_fs24) fun r26 s25 h_s25 =>
        FS.ite (FS.ob h_s25 (fS_F_cantStand _ ) (le_fs1_fs24) fun r30 s29 h_s29 =>
         FS.ob h_s29 (fS_F_pass _ _ ) (le_fs19_fs24) fun r34 s33 h_s33 =>
         FS.some h_s33)
        (FS.ite (FS.nmT (Ft.p_tsA h_s25 rfl) fun s38 h_s38 =>
          FS.ite (FS.nmT (Ft.p_tsB h_s38 rfl) fun s40 h_s40 =>
           FS.ob h_s40 (fS_F_next _ ) (le_fs16_fs24) fun r42 s41 h_s41 =>
           FS.ob h_s41 (fS_F_isSign _ _ ) (le_fs0_fs24) fun r46 s45 h_s45 =>
           FS.ite (FS.ob h_s45 (fS_F_isSign _ _ ) (le_fs0_fs24) fun r72 s71 h_s71 =>
            FS.ite (FS.ob h_s71 (fS_F_pass _ _ ) (le_fs19_fs24) fun r76 s75 h_s75 =>
             FS.some h_s75)
            (FS.call h_s71 (fS_J_index_109 _ _ ) (le_fs23_fs24)))
           (FS.call h_s45 (fS_J_index_109 _ _ ) (le_fs23_fs24)))
          (FS.none))
         (FS.none))))))
    (FS.some h_s1)
theorem fS_L_refFrom_15   : ∀ (n : Nat) (x3 : Int32) (x4 : Int32) (σ : TS), FS fs25 σ (L_refFrom_15  n x3 x4 σ)
  | 0, _, _, _ => FS.none
  | n + 1, x3, x4, σ => by
    rw [L_refFrom_15]
    exact FS.ob (Ft.rf _ _) (fS_F_isBad _ ) (le_fs0_fs25) fun r10 s9 h_s9 =>
      FS.ite (FS.ob h_s9 (fS_F_isSign _ _ ) (le_fs0_fs25) fun r14 s13 h_s13 =>
       FS.ite (FS.some h_s13)
       (FS.ob h_s13 (fS_F_next _ ) (le_fs16_fs25) fun r18 s17 h_s17 =>
        FS.ob h_s17 (fS_F_passName _ ) (le_fs19_fs25) fun r22 s21 h_s21 =>
        FS.ob h_s21 (fS_F_newPart _ _ ) (le_fs22_fs25) fun r26 s25 h_s25 =>
        FS.ite (FS.nmT (Ft.p_tsA h_s25 rfl) fun s30 h_s30 =>
         FS.ob h_s30 (fS_F_index _ _ ) (le_fs24_fs25) fun r32 s31 h_s31 =>
         FS.call h_s31 (fS_L_refFrom_15  _ _ _ _) (FtR fs25))
        (FS.none)))
      (FS.some h_s9)
theorem fS_F_refFrom (x1 : Int64) (σ : TS)  : FS fs25 σ (F_refFrom x1 σ) := by
  unfold F_refFrom
  exact FS.ob (Ft.rf _ _) (fS_F_newPart _ _ ) (le_fs22_fs25) fun r2 s1 h_s1 =>
    FS.ob h_s1 (fS_F_index _ _ ) (le_fs24_fs25) fun r6 s5 h_s5 =>
    FS.ob h_s5 (fS_L_refFrom_15  _ _ _ _) (FtR fs25) fun q37 s38 h_s38 =>
    FS.some h_s38
theorem fS_F_ref (σ : TS)  : FS fs25 σ (F_ref σ) := by
  unfold F_ref
  exact FS.ob (Ft.rf _ _) (fS_F_passName _ ) (le_fs19_fs25) fun r2 s1 h_s1 =>
    FS.ob h_s1 (fS_F_isBad _ ) (le_fs0_fs25) fun r6 s5 h_s5 =>
    FS.ite (FS.ob h_s5 (fS_F_refFrom _ _ ) (FtR fs25) fun r10 s9 h_s9 =>
     FS.some h_s9)
    (FS.some h_s5)
theorem fS_L_function_2   : ∀ (n : Nat) (x1 : Int64) (x3 : Int32) (σ : TS), FS fs0 σ (L_function_2  n x1 x3 σ)
  | 0, _, _, _ => FS.none
  | n + 1, x1, x3, σ => by
    rw [L_function_2]
    exact FS.ite (FS.some (Ft.rf _ _))
      (FS.ite (FS.ite (FS.some (Ft.rf _ _))
        (FS.nmV fun v2 =>
         FS.call (Ft.rf _ _) (fS_L_function_2  _ _ _ _) (FtR fs0)))
       (FS.none))
theorem fS_F_function (x1 : Int64) (σ : TS)  : FS fs0 σ (F_function x1 σ) := by
  unfold F_function
  exact FS.obS (Ft.rf _ _) (fS_L_function_2  _ _ _ _) (FtR fs0) (fun r9 s6 h_s6 => FS.some h_s6) fun q5 s6 h_s6 =>
    FS.some h_s6
theorem fS_L_formal_2   : ∀ (n : Nat) (x1 : Int64) (x3 : Int32) (σ : TS), FS fs0 σ (L_formal_2  n x1 x3 σ)
  | 0, _, _, _ => FS.none
  | n + 1, x1, x3, σ => by
    rw [L_formal_2]
    exact FS.ite (FS.some (Ft.rf _ _))
      (FS.ite (FS.ite (FS.some (Ft.rf _ _))
        (FS.nmV fun v2 =>
         FS.call (Ft.rf _ _) (fS_L_formal_2  _ _ _ _) (FtR fs0)))
       (FS.none))
theorem fS_F_formal (x1 : Int64) (σ : TS)  : FS fs0 σ (F_formal x1 σ) := by
  unfold F_formal
  exact FS.obS (Ft.rf _ _) (fS_L_formal_2  _ _ _ _) (FtR fs0) (fun r9 s6 h_s6 => FS.some h_s6) fun q5 s6 h_s6 =>
    FS.some h_s6
theorem fS_L_ands_5 (cf_test : TS → Option (Int32 × TS)) (hcf_test : ∀ (a0 : TS), FS fs26 a0 (cf_test a0)) : ∀ (n : Nat) (x1 : Int32) (σ : TS), FS fs26 σ (L_ands_5 cf_test n x1 σ)
  | 0, _, _ => FS.none
  | n + 1, x1, σ => by
    rw [L_ands_5]
    exact FS.ob (Ft.rf _ _) (fS_F_isBad _ ) (le_fs0_fs26) fun r6 s5 h_s5 =>
      FS.ite (FS.ob h_s5 (fS_F_isWord _ _ ) (le_fs0_fs26) fun r10 s9 h_s9 =>
       FS.ite (FS.some h_s9)
       (FS.ob h_s9 (fS_F_next _ ) (le_fs16_fs26) fun r14 s13 h_s13 =>
        FS.ob h_s13 (hcf_test _) (FtR fs26) fun r18 s17 h_s17 =>
        FS.ob h_s17 (fS_F_node _ _ _ _ _ ) (le_fs17_fs26) fun r22 s21 h_s21 =>
        FS.call h_s21 (fS_L_ands_5 _ hcf_test _ _ _) (FtR fs26)))
      (FS.some h_s5)
theorem fS_B_ands (cf_test : TS → Option (Int32 × TS)) (σ : TS) (hcf_test : ∀ (a0 : TS), FS fs26 a0 (cf_test a0)) : FS fs26 σ (B_ands cf_test σ) := by
  unfold B_ands
  exact FS.ob (Ft.rf _ _) (hcf_test _) (FtR fs26) fun r2 s1 h_s1 =>
    FS.ob h_s1 (fS_L_ands_5 _ hcf_test _ _ _) (FtR fs26) fun q27 s28 h_s28 =>
    FS.some h_s28
theorem fS_L_call_37 (cf_expression : TS → Option (Int32 × TS)) (hcf_expression : ∀ (a0 : TS), FS fs26 a0 (cf_expression a0)) : ∀ (n : Nat) (x3 : Int32) (x4 : Int32) (x5 : Int32) (x6 : Int32) (x7 : Int32) (σ : TS), FS fs26 σ (L_call_37 cf_expression n x3 x4 x5 x6 x7 σ)
  | 0, _, _, _, _, _, _ => FS.none
  | n + 1, x3, x4, x5, x6, x7, σ => by
    rw [L_call_37]
    exact FS.ob (Ft.rf _ _) (fS_F_isBad _ ) (le_fs0_fs26) fun r14 s13 h_s13 =>
      FS.ite (FS.ob h_s13 (hcf_expression _) (FtR fs26) fun r18 s17 h_s17 =>
       FS.ob h_s17 (fS_F_node _ _ _ _ _ ) (le_fs17_fs26) fun r22 s21 h_s21 =>
       FS.ite (FS.nmV fun v37 =>
        FS.ob h_s21 (fS_F_isSign _ _ ) (le_fs0_fs26) fun r39 s38 h_s38 =>
        FS.ite (FS.some h_s38)
        (FS.ob h_s38 (fS_F_next _ ) (le_fs16_fs26) fun r43 s42 h_s42 =>
         FS.call h_s42 (fS_L_call_37 _ hcf_expression _ _ _ _ _ _ _) (FtR fs26)))
       (FS.ite (FS.nmT (Ft.p_tsA h_s21 rfl) fun s26 h_s26 =>
         FS.nmV fun v27 =>
         FS.ob h_s26 (fS_F_isSign _ _ ) (le_fs0_fs26) fun r29 s28 h_s28 =>
         FS.ite (FS.some h_s28)
         (FS.ob h_s28 (fS_F_next _ ) (le_fs16_fs26) fun r33 s32 h_s32 =>
          FS.call h_s32 (fS_L_call_37 _ hcf_expression _ _ _ _ _ _ _) (FtR fs26)))
        (FS.none)))
      (FS.some h_s13)
theorem fS_J_call_105 (cf_expression : TS → Option (Int32 × TS)) (x3 : Int32) (x4 : Int32) (x5 : Int32) (x7 : Int32) (σ : TS) (hcf_expression : ∀ (a0 : TS), FS fs26 a0 (cf_expression a0)) : FS fs26 σ (J_call_105 cf_expression x3 x4 x5 x7 σ) := by
  unfold J_call_105
  exact FS.ob (Ft.rf _ _) (fS_F_pass _ _ ) (le_fs19_fs26) fun r53 s52 h_s52 =>
    FS.nmT (Ft.p_tsI h_s52 rfl) fun s56 h_s56 =>
    FS.ob h_s56 (fS_F_isBad _ ) (le_fs0_fs26) fun r58 s57 h_s57 =>
    FS.ite (FS.ite (FS.ite (FS.ob h_s57 (fS_F_node _ _ _ _ _ ) (le_fs17_fs26) fun r67 s66 h_s66 =>
       FS.some h_s66)
      (FS.ob h_s57 (fS_F_bad _ _ _ ) (le_fs1_fs26) fun r71 s70 h_s70 =>
       FS.ob h_s70 (fS_F_node _ _ _ _ _ ) (le_fs17_fs26) fun r75 s74 h_s74 =>
       FS.some h_s74))
     (FS.none))
    (FS.ob h_s57 (fS_F_node _ _ _ _ _ ) (le_fs17_fs26) fun r62 s61 h_s61 =>
     FS.some h_s61)
theorem fS_B_call (cf_expression : TS → Option (Int32 × TS)) (x1 : Int64) (x3 : Int32) (σ : TS) (hcf_expression : ∀ (a0 : TS), FS fs26 a0 (cf_expression a0)) : FS fs26 σ (B_call cf_expression x1 x3 σ) := by
  unfold B_call
  exact FS.ob (Ft.rf _ _) (fS_F_function _ _ ) (le_fs0_fs26) fun r2 s1 h_s1 =>
    FS.ite (FS.ob h_s1 (fS_F_deeper _ ) (le_fs18_fs26) fun r6 s5 h_s5 =>
     FS.ob h_s5 (fS_F_next _ ) (le_fs16_fs26) fun r10 s9 h_s9 =>
     FS.ob h_s9 (fS_L_call_37 _ hcf_expression _ _ _ _ _ _ _) (FtR fs26) fun q49 s50 h_s50 =>
     FS.call h_s50 (fS_J_call_105 _ _ _ _ _ _ hcf_expression ) (FtR fs26))
    (FS.ob h_s1 (fS_F_bad _ _ _ ) (le_fs1_fs26) fun r82 s81 h_s81 =>
     FS.some h_s81)
theorem fS_L_condition_5 (cf_ands : TS → Option (Int32 × TS)) (hcf_ands : ∀ (a0 : TS), FS fs26 a0 (cf_ands a0)) : ∀ (n : Nat) (x1 : Int32) (σ : TS), FS fs26 σ (L_condition_5 cf_ands n x1 σ)
  | 0, _, _ => FS.none
  | n + 1, x1, σ => by
    rw [L_condition_5]
    exact FS.ob (Ft.rf _ _) (fS_F_isBad _ ) (le_fs0_fs26) fun r6 s5 h_s5 =>
      FS.ite (FS.ob h_s5 (fS_F_isWord _ _ ) (le_fs0_fs26) fun r10 s9 h_s9 =>
       FS.ite (FS.some h_s9)
       (FS.ob h_s9 (fS_F_next _ ) (le_fs16_fs26) fun r14 s13 h_s13 =>
        FS.ob h_s13 (hcf_ands _) (FtR fs26) fun r18 s17 h_s17 =>
        FS.ob h_s17 (fS_F_node _ _ _ _ _ ) (le_fs17_fs26) fun r22 s21 h_s21 =>
        FS.call h_s21 (fS_L_condition_5 _ hcf_ands _ _ _) (FtR fs26)))
      (FS.some h_s5)
theorem fS_B_condition (cf_ands : TS → Option (Int32 × TS)) (σ : TS) (hcf_ands : ∀ (a0 : TS), FS fs26 a0 (cf_ands a0)) : FS fs26 σ (B_condition cf_ands σ) := by
  unfold B_condition
  exact FS.ob (Ft.rf _ _) (hcf_ands _) (FtR fs26) fun r2 s1 h_s1 =>
    FS.ob h_s1 (fS_L_condition_5 _ hcf_ands _ _ _) (FtR fs26) fun q27 s28 h_s28 =>
    FS.some h_s28
theorem fS_B_expression (cf_condition : TS → Option (Int32 × TS)) (cf_expression : TS → Option (Int32 × TS)) (cf_sum : TS → Option (Int32 × TS)) (σ : TS) (hcf_condition : ∀ (a0 : TS), FS fs26 a0 (cf_condition a0)) (hcf_expression : ∀ (a0 : TS), FS fs26 a0 (cf_expression a0)) (hcf_sum : ∀ (a0 : TS), FS fs26 a0 (cf_sum a0)) : FS fs26 σ (B_expression cf_condition cf_expression cf_sum σ) := by
  unfold B_expression
  exact FS.ob (Ft.rf _ _) (fS_F_isBad _ ) (le_fs0_fs26) fun r2 s1 h_s1 =>
    FS.ite (FS.ob h_s1 (fS_F_isWord _ _ ) (le_fs0_fs26) fun r6 s5 h_s5 =>
     FS.ite (FS.ob h_s5 (hcf_sum _) (FtR fs26) fun r10 s9 h_s9 =>
      FS.some h_s9)
     (FS.ite (FS.ob h_s5 (fS_F_deeper _ ) (le_fs18_fs26) fun r19 s18 h_s18 =>
       FS.ob h_s18 (fS_F_next _ ) (le_fs16_fs26) fun r23 s22 h_s22 =>
       FS.ob h_s22 (hcf_condition _) (FtR fs26) fun r27 s26 h_s26 =>
       FS.ob h_s26 (fS_F_passWord _ _ ) (le_fs19_fs26) fun r31 s30 h_s30 =>
       FS.ob h_s30 (hcf_expression _) (FtR fs26) fun r35 s34 h_s34 =>
       FS.ob h_s34 (fS_F_passWord _ _ ) (le_fs19_fs26) fun r39 s38 h_s38 =>
       FS.ob h_s38 (hcf_expression _) (FtR fs26) fun r43 s42 h_s42 =>
       FS.nmT (Ft.p_tsI h_s42 rfl) fun s46 h_s46 =>
       FS.ob h_s46 (fS_F_node _ _ _ _ _ ) (le_fs17_fs26) fun r48 s47 h_s47 =>
       FS.some h_s47)
      (FS.ob h_s5 (hcf_sum _) (FtR fs26) fun r15 s14 h_s14 =>
       FS.some h_s14)))
    (FS.some h_s1)
theorem fS_J_factor_330 (cf_expression : TS → Option (Int32 × TS)) (cf_opened : Int32 → Int32 → TS → Option (Int32 × TS)) (cf_call : Int64 → Int32 → TS → Option (Int32 × TS)) (σ : TS) (hcf_expression : ∀ (a0 : TS), FS fs26 a0 (cf_expression a0)) (hcf_opened : ∀ (a0 : Int32) (a1 : Int32) (a2 : TS), FS fs26 a2 (cf_opened a0 a1 a2)) (hcf_call : ∀ (a0 : Int64) (a1 : Int32) (a2 : TS), FS fs26 a2 (cf_call a0 a1 a2)) : FS fs26 σ (J_factor_330 cf_expression cf_opened cf_call σ) := by
  unfold J_factor_330
  exact FS.ob (Ft.rf _ _) (fS_F_isKey _ ) (le_fs0_fs26) fun r36 s35 h_s35 =>
    FS.ite (FS.nmV fun v39 =>
     FS.nmV fun v40 =>
     FS.ob h_s35 (fS_F_next _ ) (le_fs16_fs26) fun r42 s41 h_s41 =>
     FS.ob h_s41 (fS_F_isSign _ _ ) (le_fs0_fs26) fun r46 s45 h_s45 =>
     FS.ite (FS.ite (FS.ob h_s45 (fS_F_isFor _ _ ) (le_fs0_fs26) fun r51 s50 h_s50 =>
       FS.ite (FS.ob h_s50 (fS_F_refFrom _ _ ) (le_fs25_fs26) fun r55 s54 h_s54 =>
        FS.ob h_s54 (fS_F_node _ _ _ _ _ ) (le_fs17_fs26) fun r59 s58 h_s58 =>
        FS.some h_s58)
       (FS.ob h_s50 (fS_F_isSign _ _ ) (le_fs0_fs26) fun r63 s62 h_s62 =>
        FS.ite (FS.ob h_s62 (fS_F_isSign _ _ ) (le_fs0_fs26) fun r75 s74 h_s74 =>
         FS.ite (FS.ob h_s74 (fS_F_newPart _ _ ) (le_fs22_fs26) fun r87 s86 h_s86 =>
          FS.ob h_s86 (fS_F_node _ _ _ _ _ ) (le_fs17_fs26) fun r91 s90 h_s90 =>
          FS.some h_s90)
         (FS.ob h_s74 (fS_F_refFrom _ _ ) (le_fs25_fs26) fun r79 s78 h_s78 =>
          FS.ob h_s78 (fS_F_node _ _ _ _ _ ) (le_fs17_fs26) fun r83 s82 h_s82 =>
          FS.some h_s82))
        (FS.ob h_s62 (fS_F_refFrom _ _ ) (le_fs25_fs26) fun r67 s66 h_s66 =>
         FS.ob h_s66 (fS_F_node _ _ _ _ _ ) (le_fs17_fs26) fun r71 s70 h_s70 =>
         FS.some h_s70)))
      (FS.ob h_s45 (fS_F_formal _ _ ) (le_fs0_fs26) fun r98 s97 h_s97 =>
       FS.ite (FS.ob h_s97 (fS_F_node _ _ _ _ _ ) (le_fs17_fs26) fun r102 s101 h_s101 =>
        FS.some h_s101)
       (FS.ob h_s97 (fS_F_bad _ _ _ ) (le_fs1_fs26) fun r106 s105 h_s105 =>
        FS.ob h_s105 (fS_F_node _ _ _ _ _ ) (le_fs17_fs26) fun r110 s109 h_s109 =>
        FS.some h_s109)))
     (FS.ob h_s45 (hcf_call _ _ _) (FtR fs26) fun r116 s115 h_s115 =>
      FS.some h_s115))
    (FS.ob h_s35 (fS_F_cantStand _ ) (le_fs1_fs26) fun r121 s120 h_s120 =>
     FS.some h_s120)
theorem fS_J_factor_294 (cf_expression : TS → Option (Int32 × TS)) (cf_opened : Int32 → Int32 → TS → Option (Int32 × TS)) (cf_call : Int64 → Int32 → TS → Option (Int32 × TS)) (x1 : Int32) (σ : TS) (hcf_expression : ∀ (a0 : TS), FS fs26 a0 (cf_expression a0)) (hcf_opened : ∀ (a0 : Int32) (a1 : Int32) (a2 : TS), FS fs26 a2 (cf_opened a0 a1 a2)) (hcf_call : ∀ (a0 : Int64) (a1 : Int32) (a2 : TS), FS fs26 a2 (cf_call a0 a1 a2)) : FS fs26 σ (J_factor_294 cf_expression cf_opened cf_call x1 σ) := by
  unfold J_factor_294
  exact FS.ob (Ft.rf _ _) (fS_F_pass _ _ ) (le_fs19_fs26) fun r142 s141 h_s141 =>
    FS.ob h_s141 (fS_F_ref _ ) (le_fs25_fs26) fun r146 s145 h_s145 =>
    FS.ob h_s145 (fS_F_pass _ _ ) (le_fs19_fs26) fun r150 s149 h_s149 =>
    FS.nmT (Ft.p_tsI h_s149 rfl) fun s153 h_s153 =>
    FS.ob h_s153 (fS_F_node _ _ _ _ _ ) (le_fs17_fs26) fun r155 s154 h_s154 =>
    FS.some h_s154
theorem fS_J_factor_269 (cf_expression : TS → Option (Int32 × TS)) (cf_opened : Int32 → Int32 → TS → Option (Int32 × TS)) (cf_call : Int64 → Int32 → TS → Option (Int32 × TS)) (y0 : Int32) (σ : TS) (hcf_expression : ∀ (a0 : TS), FS fs26 a0 (cf_expression a0)) (hcf_opened : ∀ (a0 : Int32) (a1 : Int32) (a2 : TS), FS fs26 a2 (cf_opened a0 a1 a2)) (hcf_call : ∀ (a0 : Int64) (a1 : Int32) (a2 : TS), FS fs26 a2 (cf_call a0 a1 a2)) : FS fs26 σ (J_factor_269 cf_expression cf_opened cf_call y0 σ) := by
  unfold J_factor_269
  exact FS.ob (Ft.rf _ _) (fS_F_next _ ) (le_fs16_fs26) fun r134 s133 h_s133 =>
    FS.ob h_s133 (fS_F_isBad _ ) (le_fs0_fs26) fun r138 s137 h_s137 =>
    FS.ite (FS.ob h_s137 (fS_F_isSign _ _ ) (le_fs0_fs26) fun r159 s158 h_s158 =>
     FS.ite (FS.call h_s158 (fS_J_factor_294 _ _ _ _ _ hcf_expression hcf_opened hcf_call ) (FtR fs26))
     (FS.ob h_s158 (fS_F_deeper _ ) (le_fs18_fs26) fun r163 s162 h_s162 =>
      FS.call h_s162 (fS_J_factor_294 _ _ _ _ _ hcf_expression hcf_opened hcf_call ) (FtR fs26)))
    (FS.call h_s137 (fS_J_factor_294 _ _ _ _ _ hcf_expression hcf_opened hcf_call ) (FtR fs26))
theorem fS_J_factor_254 (cf_expression : TS → Option (Int32 × TS)) (cf_opened : Int32 → Int32 → TS → Option (Int32 × TS)) (cf_call : Int64 → Int32 → TS → Option (Int32 × TS)) (σ : TS) (hcf_expression : ∀ (a0 : TS), FS fs26 a0 (cf_expression a0)) (hcf_opened : ∀ (a0 : Int32) (a1 : Int32) (a2 : TS), FS fs26 a2 (cf_opened a0 a1 a2)) (hcf_call : ∀ (a0 : Int64) (a1 : Int32) (a2 : TS), FS fs26 a2 (cf_call a0 a1 a2)) : FS fs26 σ (J_factor_254 cf_expression cf_opened cf_call σ) := by
  unfold J_factor_254
  exact FS.ob (Ft.rf _ _) (fS_F_isWord _ _ ) (le_fs0_fs26) fun r130 s129 h_s129 =>
    FS.ite (FS.call h_s129 (fS_J_factor_269 _ _ _ _ _ hcf_expression hcf_opened hcf_call ) (FtR fs26))
    (FS.call h_s129 (fS_J_factor_269 _ _ _ _ _ hcf_expression hcf_opened hcf_call ) (FtR fs26))
theorem fS_J_factor_227 (cf_expression : TS → Option (Int32 × TS)) (cf_opened : Int32 → Int32 → TS → Option (Int32 × TS)) (cf_call : Int64 → Int32 → TS → Option (Int32 × TS)) (σ : TS) (hcf_expression : ∀ (a0 : TS), FS fs26 a0 (cf_expression a0)) (hcf_opened : ∀ (a0 : Int32) (a1 : Int32) (a2 : TS), FS fs26 a2 (cf_opened a0 a1 a2)) (hcf_call : ∀ (a0 : Int64) (a1 : Int32) (a2 : TS), FS fs26 a2 (cf_call a0 a1 a2)) : FS fs26 σ (J_factor_227 cf_expression cf_opened cf_call σ) := by
  unfold J_factor_227
  exact FS.ite (FS.ob (Ft.rf _ _) (fS_F_isWord _ _ ) (le_fs0_fs26) fun r126 s125 h_s125 =>
     FS.ite (FS.ob h_s125 (fS_F_isWord _ _ ) (le_fs0_fs26) fun r170 s169 h_s169 =>
      FS.ite (FS.call h_s169 (fS_J_factor_330 _ _ _ _ hcf_expression hcf_opened hcf_call ) (FtR fs26))
      (FS.call h_s169 (fS_J_factor_254 _ _ _ _ hcf_expression hcf_opened hcf_call ) (FtR fs26)))
     (FS.call h_s125 (fS_J_factor_254 _ _ _ _ hcf_expression hcf_opened hcf_call ) (FtR fs26)))
    (FS.call (Ft.rf _ _) (fS_J_factor_330 _ _ _ _ hcf_expression hcf_opened hcf_call ) (FtR fs26))
theorem fS_B_factor (cf_expression : TS → Option (Int32 × TS)) (cf_opened : Int32 → Int32 → TS → Option (Int32 × TS)) (cf_call : Int64 → Int32 → TS → Option (Int32 × TS)) (σ : TS) (hcf_expression : ∀ (a0 : TS), FS fs26 a0 (cf_expression a0)) (hcf_opened : ∀ (a0 : Int32) (a1 : Int32) (a2 : TS), FS fs26 a2 (cf_opened a0 a1 a2)) (hcf_call : ∀ (a0 : Int64) (a1 : Int32) (a2 : TS), FS fs26 a2 (cf_call a0 a1 a2)) : FS fs26 σ (B_factor cf_expression cf_opened cf_call σ) := by
  unfold B_factor
  exact FS.ob (Ft.rf _ _) (fS_F_isBad _ ) (le_fs0_fs26) fun r2 s1 h_s1 =>
    FS.ite (FS.ite (FS.nmV fun v243 =>
      FS.ob h_s1 (fS_F_next _ ) (le_fs16_fs26) fun r245 s244 h_s244 =>
      FS.ob h_s244 (fS_F_node _ _ _ _ _ ) (le_fs17_fs26) fun r249 s248 h_s248 =>
      FS.some h_s248)
     (FS.ob h_s1 (fS_F_isSign _ _ ) (le_fs0_fs26) fun r6 s5 h_s5 =>
      FS.ite (FS.ite (FS.ob h_s5 (fS_F_isWord _ _ ) (le_fs0_fs26) fun r10 s9 h_s9 =>
        FS.ite (FS.ob h_s9 (fS_F_isWord _ _ ) (le_fs0_fs26) fun r14 s13 h_s13 =>
         FS.ite (FS.ob h_s13 (fS_F_isWord _ _ ) (le_fs0_fs26) fun r18 s17 h_s17 =>
          FS.ite (FS.ob h_s17 (fS_F_isWord _ _ ) (le_fs0_fs26) fun r22 s21 h_s21 =>
           FS.ite (FS.ob h_s21 (fS_F_isWord _ _ ) (le_fs0_fs26) fun r26 s25 h_s25 =>
            FS.ite (FS.ob h_s25 (fS_F_isWord _ _ ) (le_fs0_fs26) fun r30 s29 h_s29 =>
             FS.ite (FS.ite (FS.ob h_s29 (fS_F_isWord _ _ ) (le_fs0_fs26) fun r177 s176 h_s176 =>
               FS.ite (FS.call h_s176 (fS_J_factor_227 _ _ _ _ hcf_expression hcf_opened hcf_call ) (FtR fs26))
               (FS.ob h_s176 (fS_F_next _ ) (le_fs16_fs26) fun r181 s180 h_s180 =>
                FS.ob h_s180 (fS_F_node _ _ _ _ _ ) (le_fs17_fs26) fun r185 s184 h_s184 =>
                FS.some h_s184))
              (FS.call h_s29 (fS_J_factor_227 _ _ _ _ hcf_expression hcf_opened hcf_call ) (FtR fs26)))
             (FS.ob h_s29 (hcf_opened _ _ _) (FtR fs26) fun r191 s190 h_s190 =>
              FS.some h_s190))
            (FS.ob h_s25 (hcf_opened _ _ _) (FtR fs26) fun r196 s195 h_s195 =>
             FS.some h_s195))
           (FS.ob h_s21 (hcf_opened _ _ _) (FtR fs26) fun r201 s200 h_s200 =>
            FS.some h_s200))
          (FS.ob h_s17 (hcf_opened _ _ _) (FtR fs26) fun r206 s205 h_s205 =>
           FS.some h_s205))
         (FS.ob h_s13 (hcf_opened _ _ _) (FtR fs26) fun r211 s210 h_s210 =>
          FS.some h_s210))
        (FS.ob h_s9 (hcf_opened _ _ _) (FtR fs26) fun r216 s215 h_s215 =>
         FS.some h_s215))
       (FS.ob h_s5 (fS_F_cantStand _ ) (le_fs1_fs26) fun r221 s220 h_s220 =>
        FS.some h_s220))
      (FS.ob h_s5 (fS_F_deeper _ ) (le_fs18_fs26) fun r226 s225 h_s225 =>
       FS.ob h_s225 (fS_F_next _ ) (le_fs16_fs26) fun r230 s229 h_s229 =>
       FS.ob h_s229 (hcf_expression _) (FtR fs26) fun r234 s233 h_s233 =>
       FS.ob h_s233 (fS_F_pass _ _ ) (le_fs19_fs26) fun r238 s237 h_s237 =>
       FS.nmT (Ft.p_tsI h_s237 rfl) fun s241 h_s241 =>
       FS.some h_s241)))
    (FS.some h_s1)
theorem fS_J_opened_55 (cf_expression : TS → Option (Int32 × TS)) (x1 : Int32) (x3 : Int32) (x4 : Int32) (σ : TS) (hcf_expression : ∀ (a0 : TS), FS fs26 a0 (cf_expression a0)) : FS fs26 σ (J_opened_55 cf_expression x1 x3 x4 σ) := by
  unfold J_opened_55
  exact FS.ob (Ft.rf _ _) (fS_F_pass _ _ ) (le_fs19_fs26) fun r18 s17 h_s17 =>
    FS.nmT (Ft.p_tsI h_s17 rfl) fun s21 h_s21 =>
    FS.ob h_s21 (fS_F_node _ _ _ _ _ ) (le_fs17_fs26) fun r23 s22 h_s22 =>
    FS.some h_s22
theorem fS_J_opened_24 (cf_expression : TS → Option (Int32 × TS)) (x1 : Int32) (x2 : Int32) (σ : TS) (hcf_expression : ∀ (a0 : TS), FS fs26 a0 (cf_expression a0)) : FS fs26 σ (J_opened_24 cf_expression x1 x2 σ) := by
  unfold J_opened_24
  exact FS.ob (Ft.rf _ _) (fS_F_pass _ _ ) (le_fs19_fs26) fun r10 s9 h_s9 =>
    FS.ob h_s9 (hcf_expression _) (FtR fs26) fun r14 s13 h_s13 =>
    FS.ite (FS.ob h_s13 (fS_F_pass _ _ ) (le_fs19_fs26) fun r27 s26 h_s26 =>
     FS.ob h_s26 (hcf_expression _) (FtR fs26) fun r31 s30 h_s30 =>
     FS.call h_s30 (fS_J_opened_55 _ _ _ _ _ hcf_expression ) (FtR fs26))
    (FS.call h_s13 (fS_J_opened_55 _ _ _ _ _ hcf_expression ) (FtR fs26))
theorem fS_B_opened (cf_expression : TS → Option (Int32 × TS)) (x1 : Int32) (x2 : Int32) (σ : TS) (hcf_expression : ∀ (a0 : TS), FS fs26 a0 (cf_expression a0)) : FS fs26 σ (B_opened cf_expression x1 x2 σ) := by
  unfold B_opened
  exact FS.ob (Ft.rf _ _) (fS_F_next _ ) (le_fs16_fs26) fun r2 s1 h_s1 =>
    FS.ob h_s1 (fS_F_isBad _ ) (le_fs0_fs26) fun r6 s5 h_s5 =>
    FS.ite (FS.ob h_s5 (fS_F_isSign _ _ ) (le_fs0_fs26) fun r36 s35 h_s35 =>
     FS.ite (FS.call h_s35 (fS_J_opened_24 _ _ _ _ hcf_expression ) (FtR fs26))
     (FS.ob h_s35 (fS_F_deeper _ ) (le_fs18_fs26) fun r40 s39 h_s39 =>
      FS.call h_s39 (fS_J_opened_24 _ _ _ _ hcf_expression ) (FtR fs26)))
    (FS.call h_s5 (fS_J_opened_24 _ _ _ _ hcf_expression ) (FtR fs26))
theorem fS_J_sum_68_43 (cf_term : TS → Option (Int32 × TS)) (rec : Int32 → TS → Option (Int32 × TS)) (x2 : Int32) (σ : TS) (hcf_term : ∀ (a0 : TS), FS fs26 a0 (cf_term a0)) (hrec : ∀ (a0 : Int32) (a1 : TS), FS fs26 a1 (rec a0 a1)) : FS fs26 σ (J_sum_68_43 cf_term rec x2 σ) := by
  unfold J_sum_68_43
  exact FS.ite (FS.ob (Ft.rf _ _) (fS_F_next _ ) (le_fs16_fs26) fun r34 s33 h_s33 =>
     FS.ob h_s33 (hcf_term _) (FtR fs26) fun r38 s37 h_s37 =>
     FS.ob h_s37 (fS_F_node _ _ _ _ _ ) (le_fs17_fs26) fun r42 s41 h_s41 =>
     FS.call h_s41 (hrec _ _) (FtR fs26))
    (FS.ob (Ft.rf _ _) (fS_F_next _ ) (le_fs16_fs26) fun r22 s21 h_s21 =>
     FS.ob h_s21 (hcf_term _) (FtR fs26) fun r26 s25 h_s25 =>
     FS.ob h_s25 (fS_F_node _ _ _ _ _ ) (le_fs17_fs26) fun r30 s29 h_s29 =>
     FS.call h_s29 (hrec _ _) (FtR fs26))
theorem fS_L_sum_43 (cf_term : TS → Option (Int32 × TS)) (hcf_term : ∀ (a0 : TS), FS fs26 a0 (cf_term a0)) : ∀ (n : Nat) (x2 : Int32) (σ : TS), FS fs26 σ (L_sum_43 cf_term n x2 σ)
  | 0, _, _ => FS.none
  | n + 1, x2, σ => by
    rw [L_sum_43]
    exact FS.ob (Ft.rf _ _) (fS_F_isBad _ ) (le_fs0_fs26) fun r14 s13 h_s13 =>
      FS.ite (FS.ob h_s13 (fS_F_isSign _ _ ) (le_fs0_fs26) fun r18 s17 h_s17 =>
       FS.ite (FS.ob h_s17 (fS_F_isSign _ _ ) (le_fs0_fs26) fun r47 s46 h_s46 =>
        FS.ite (FS.some h_s46)
        (FS.call h_s46 (fS_J_sum_68_43 _ _ _ _ hcf_term (fun a0 a1 => fS_L_sum_43 cf_term hcf_term _ a0 a1) ) (FtR fs26)))
       (FS.call h_s17 (fS_J_sum_68_43 _ _ _ _ hcf_term (fun a0 a1 => fS_L_sum_43 cf_term hcf_term _ a0 a1) ) (FtR fs26)))
      (FS.some h_s13)
theorem fS_J_sum_24 (cf_term : TS → Option (Int32 × TS)) (x1 : Int32) (σ : TS) (hcf_term : ∀ (a0 : TS), FS fs26 a0 (cf_term a0)) : FS fs26 σ (J_sum_24 cf_term x1 σ) := by
  unfold J_sum_24
  exact FS.ob (Ft.rf _ _) (hcf_term _) (FtR fs26) fun r10 s9 h_s9 =>
    FS.ite (FS.ob h_s9 (fS_L_sum_43 _ hcf_term _ _ _) (FtR fs26) fun q53 s54 h_s54 =>
     FS.some h_s54)
    (FS.ob h_s9 (fS_F_node _ _ _ _ _ ) (le_fs17_fs26) fun r58 s57 h_s57 =>
     FS.ob h_s57 (fS_L_sum_43 _ hcf_term _ _ _) (FtR fs26) fun q61 s62 h_s62 =>
     FS.some h_s62)
theorem fS_B_sum (cf_term : TS → Option (Int32 × TS)) (σ : TS) (hcf_term : ∀ (a0 : TS), FS fs26 a0 (cf_term a0)) : FS fs26 σ (B_sum cf_term σ) := by
  unfold B_sum
  exact FS.ob (Ft.rf _ _) (fS_F_isBad _ ) (le_fs0_fs26) fun r2 s1 h_s1 =>
    FS.ite (FS.ob h_s1 (fS_F_isSign _ _ ) (le_fs0_fs26) fun r6 s5 h_s5 =>
     FS.ite (FS.call h_s5 (fS_J_sum_24 _ _ _ hcf_term ) (FtR fs26))
     (FS.ob h_s5 (fS_F_next _ ) (le_fs16_fs26) fun r67 s66 h_s66 =>
      FS.call h_s66 (fS_J_sum_24 _ _ _ hcf_term ) (FtR fs26)))
    (FS.some h_s1)
theorem fS_J_term_30_5 (cf_factor : TS → Option (Int32 × TS)) (rec : Int32 → TS → Option (Int32 × TS)) (x1 : Int32) (σ : TS) (hcf_factor : ∀ (a0 : TS), FS fs26 a0 (cf_factor a0)) (hrec : ∀ (a0 : Int32) (a1 : TS), FS fs26 a1 (rec a0 a1)) : FS fs26 σ (J_term_30_5 cf_factor rec x1 σ) := by
  unfold J_term_30_5
  exact FS.ite (FS.ob (Ft.rf _ _) (fS_F_next _ ) (le_fs16_fs26) fun r26 s25 h_s25 =>
     FS.ob h_s25 (hcf_factor _) (FtR fs26) fun r30 s29 h_s29 =>
     FS.ob h_s29 (fS_F_node _ _ _ _ _ ) (le_fs17_fs26) fun r34 s33 h_s33 =>
     FS.call h_s33 (hrec _ _) (FtR fs26))
    (FS.ob (Ft.rf _ _) (fS_F_next _ ) (le_fs16_fs26) fun r14 s13 h_s13 =>
     FS.ob h_s13 (hcf_factor _) (FtR fs26) fun r18 s17 h_s17 =>
     FS.ob h_s17 (fS_F_node _ _ _ _ _ ) (le_fs17_fs26) fun r22 s21 h_s21 =>
     FS.call h_s21 (hrec _ _) (FtR fs26))
theorem fS_L_term_5 (cf_factor : TS → Option (Int32 × TS)) (hcf_factor : ∀ (a0 : TS), FS fs26 a0 (cf_factor a0)) : ∀ (n : Nat) (x1 : Int32) (σ : TS), FS fs26 σ (L_term_5 cf_factor n x1 σ)
  | 0, _, _ => FS.none
  | n + 1, x1, σ => by
    rw [L_term_5]
    exact FS.ob (Ft.rf _ _) (fS_F_isBad _ ) (le_fs0_fs26) fun r6 s5 h_s5 =>
      FS.ite (FS.ob h_s5 (fS_F_isSign _ _ ) (le_fs0_fs26) fun r10 s9 h_s9 =>
       FS.ite (FS.ob h_s9 (fS_F_isSign _ _ ) (le_fs0_fs26) fun r39 s38 h_s38 =>
        FS.ite (FS.some h_s38)
        (FS.call h_s38 (fS_J_term_30_5 _ _ _ _ hcf_factor (fun a0 a1 => fS_L_term_5 cf_factor hcf_factor _ a0 a1) ) (FtR fs26)))
       (FS.call h_s9 (fS_J_term_30_5 _ _ _ _ hcf_factor (fun a0 a1 => fS_L_term_5 cf_factor hcf_factor _ a0 a1) ) (FtR fs26)))
      (FS.some h_s5)
theorem fS_B_term (cf_factor : TS → Option (Int32 × TS)) (σ : TS) (hcf_factor : ∀ (a0 : TS), FS fs26 a0 (cf_factor a0)) : FS fs26 σ (B_term cf_factor σ) := by
  unfold B_term
  exact FS.ob (Ft.rf _ _) (hcf_factor _) (FtR fs26) fun r2 s1 h_s1 =>
    FS.ob h_s1 (fS_L_term_5 _ hcf_factor _ _ _) (FtR fs26) fun q45 s46 h_s46 =>
    FS.some h_s46
theorem fS_J_test_98 (cf_test : TS → Option (Int32 × TS)) (cf_condition : TS → Option (Int32 × TS)) (cf_sum : TS → Option (Int32 × TS)) (σ : TS) (hcf_test : ∀ (a0 : TS), FS fs26 a0 (cf_test a0)) (hcf_condition : ∀ (a0 : TS), FS fs26 a0 (cf_condition a0)) (hcf_sum : ∀ (a0 : TS), FS fs26 a0 (cf_sum a0)) : FS fs26 σ (J_test_98 cf_test cf_condition cf_sum σ) := by
  unfold J_test_98
  exact FS.ob (Ft.rf _ _) (hcf_sum _) (FtR fs26) fun r18 s17 h_s17 =>
    FS.ob h_s17 (fS_F_isBad _ ) (le_fs0_fs26) fun r22 s21 h_s21 =>
    FS.ite (FS.ob h_s21 (fS_F_isRelation _ ) (le_fs0_fs26) fun r26 s25 h_s25 =>
     FS.ite (FS.ob h_s25 (fS_F_cantStand _ ) (le_fs1_fs26) fun r43 s42 h_s42 =>
      FS.some h_s42)
     (FS.nmV fun v29 =>
      FS.ob h_s25 (fS_F_next _ ) (le_fs16_fs26) fun r31 s30 h_s30 =>
      FS.ob h_s30 (hcf_sum _) (FtR fs26) fun r35 s34 h_s34 =>
      FS.ob h_s34 (fS_F_node _ _ _ _ _ ) (le_fs17_fs26) fun r39 s38 h_s38 =>
      FS.some h_s38))
    (FS.some h_s21)
theorem fS_B_test (cf_test : TS → Option (Int32 × TS)) (cf_condition : TS → Option (Int32 × TS)) (cf_sum : TS → Option (Int32 × TS)) (σ : TS) (hcf_test : ∀ (a0 : TS), FS fs26 a0 (cf_test a0)) (hcf_condition : ∀ (a0 : TS), FS fs26 a0 (cf_condition a0)) (hcf_sum : ∀ (a0 : TS), FS fs26 a0 (cf_sum a0)) : FS fs26 σ (B_test cf_test cf_condition cf_sum σ) := by
  unfold B_test
  exact FS.ob (Ft.rf _ _) (fS_F_isBad _ ) (le_fs0_fs26) fun r2 s1 h_s1 =>
    FS.ite (FS.ob h_s1 (fS_F_isWord _ _ ) (le_fs0_fs26) fun r6 s5 h_s5 =>
     FS.ite (FS.ob h_s5 (fS_F_isWord _ _ ) (le_fs0_fs26) fun r10 s9 h_s9 =>
      FS.ite (FS.ob h_s9 (fS_F_isSign _ _ ) (le_fs0_fs26) fun r14 s13 h_s13 =>
       FS.ite (FS.call h_s13 (fS_J_test_98 _ _ _ _ hcf_test hcf_condition hcf_sum ) (FtR fs26))
       (FS.ob h_s13 (fS_F_isGroup _ ) (le_fs16_fs26) fun r49 s48 h_s48 =>
        FS.ite (FS.call h_s48 (fS_J_test_98 _ _ _ _ hcf_test hcf_condition hcf_sum ) (FtR fs26))
        (FS.ob h_s48 (fS_F_deeper _ ) (le_fs18_fs26) fun r53 s52 h_s52 =>
         FS.ob h_s52 (fS_F_next _ ) (le_fs16_fs26) fun r57 s56 h_s56 =>
         FS.ob h_s56 (hcf_condition _) (FtR fs26) fun r61 s60 h_s60 =>
         FS.ob h_s60 (fS_F_pass _ _ ) (le_fs19_fs26) fun r65 s64 h_s64 =>
         FS.nmT (Ft.p_tsI h_s64 rfl) fun s68 h_s68 =>
         FS.some h_s68)))
      (FS.ob h_s9 (fS_F_sample _ ) (le_fs20_fs26) fun r72 s71 h_s71 =>
       FS.some h_s71))
     (FS.ob h_s5 (fS_F_next _ ) (le_fs16_fs26) fun r77 s76 h_s76 =>
      FS.ob h_s76 (hcf_test _) (FtR fs26) fun r81 s80 h_s80 =>
      FS.ob h_s80 (fS_F_node _ _ _ _ _ ) (le_fs17_fs26) fun r85 s84 h_s84 =>
      FS.some h_s84))
    (FS.some h_s1)
theorem fS_G_ands : ∀ d : Nat, (∀ (a0 : TS), FS fs26 a0 ((G_ands d).1 a0)) ∧ (∀ (a0 : Int64) (a1 : Int32) (a2 : TS), FS fs26 a2 ((G_ands d).2.1 a0 a1 a2)) ∧ (∀ (a0 : TS), FS fs26 a0 ((G_ands d).2.2.1 a0)) ∧ (∀ (a0 : TS), FS fs26 a0 ((G_ands d).2.2.2.1 a0)) ∧ (∀ (a0 : TS), FS fs26 a0 ((G_ands d).2.2.2.2.1 a0)) ∧ (∀ (a0 : Int32) (a1 : Int32) (a2 : TS), FS fs26 a2 ((G_ands d).2.2.2.2.2.1 a0 a1 a2)) ∧ (∀ (a0 : TS), FS fs26 a0 ((G_ands d).2.2.2.2.2.2.1 a0)) ∧ (∀ (a0 : TS), FS fs26 a0 ((G_ands d).2.2.2.2.2.2.2.1 a0)) ∧ (∀ (a0 : TS), FS fs26 a0 ((G_ands d).2.2.2.2.2.2.2.2 a0)) := by
  intro d
  induction d with
  | zero => exact ⟨fun _ => FS.none, fun _ _ _ => FS.none, fun _ => FS.none, fun _ => FS.none, fun _ => FS.none, fun _ _ _ => FS.none, fun _ => FS.none, fun _ => FS.none, fun _ => FS.none⟩
  | succ d ih => exact ⟨fun a0 => fS_B_ands _ a0 (fun b0 => ih.2.2.2.2.2.2.2.2 b0), fun a0 a1 a2 => fS_B_call _ a0 a1 a2 (fun b0 => ih.2.2.2.1 b0), fun a0 => fS_B_condition _ a0 (fun b0 => ih.1 b0), fun a0 => fS_B_expression _ _ _ a0 (fun b0 => ih.2.2.1 b0) (fun b0 => ih.2.2.2.1 b0) (fun b0 => ih.2.2.2.2.2.2.1 b0), fun a0 => fS_B_factor _ _ _ a0 (fun b0 => ih.2.2.2.1 b0) (fun b0 b1 b2 => ih.2.2.2.2.2.1 b0 b1 b2) (fun b0 b1 b2 => ih.2.1 b0 b1 b2), fun a0 a1 a2 => fS_B_opened _ a0 a1 a2 (fun b0 => ih.2.2.2.1 b0), fun a0 => fS_B_sum _ a0 (fun b0 => ih.2.2.2.2.2.2.2.1 b0), fun a0 => fS_B_term _ a0 (fun b0 => ih.2.2.2.2.1 b0), fun a0 => fS_B_test _ _ _ a0 (fun b0 => ih.2.2.2.2.2.2.2.2 b0) (fun b0 => ih.2.2.1 b0) (fun b0 => ih.2.2.2.2.2.2.1 b0)⟩
theorem fS_F_ands (a0 : TS) : FS fs26 a0 (F_ands a0) := (fS_G_ands 800).1 a0
theorem fS_F_call (a0 : Int64) (a1 : Int32) (a2 : TS) : FS fs26 a2 (F_call a0 a1 a2) := (fS_G_ands 800).2.1 a0 a1 a2
theorem fS_F_condition (a0 : TS) : FS fs26 a0 (F_condition a0) := (fS_G_ands 800).2.2.1 a0
theorem fS_F_expression (a0 : TS) : FS fs26 a0 (F_expression a0) := (fS_G_ands 800).2.2.2.1 a0
theorem fS_F_factor (a0 : TS) : FS fs26 a0 (F_factor a0) := (fS_G_ands 800).2.2.2.2.1 a0
theorem fS_F_opened (a0 : Int32) (a1 : Int32) (a2 : TS) : FS fs26 a2 (F_opened a0 a1 a2) := (fS_G_ands 800).2.2.2.2.2.1 a0 a1 a2
theorem fS_F_sum (a0 : TS) : FS fs26 a0 (F_sum a0) := (fS_G_ands 800).2.2.2.2.2.2.1 a0
theorem fS_F_term (a0 : TS) : FS fs26 a0 (F_term a0) := (fS_G_ands 800).2.2.2.2.2.2.2.1 a0
theorem fS_F_test (a0 : TS) : FS fs26 a0 (F_test a0) := (fS_G_ands 800).2.2.2.2.2.2.2.2 a0
theorem fS_F_isDue (x1 : Int32) (σ : TS)  : FS fs0 σ (F_isDue x1 σ) := by
  unfold F_isDue
  exact FS.ite (FS.ite (FS.nmV fun v3 =>
      FS.ite (FS.ite (FS.nmV fun v6 =>
        FS.ite (FS.some (Ft.rf _ _))
        (FS.ite (FS.ite (FS.some (Ft.rf _ _))
          (FS.some (Ft.rf _ _)))
         (FS.none)))
       (FS.none))
      (FS.none))
     (FS.none))
    (FS.none)
theorem fS_L_anyDue_2   : ∀ (n : Nat) (x1 : Int32) (σ : TS), FS fs0 σ (L_anyDue_2  n x1 σ)
  | 0, _, _ => FS.none
  | n + 1, x1, σ => by
    rw [L_anyDue_2]
    exact FS.ite (FS.some (Ft.rf _ _))
      (FS.ite (FS.ite (FS.ite (FS.ob (Ft.rf _ _) (fS_F_isDue _ _ ) (FtR fs0) fun r5 s4 h_s4 =>
          FS.ite (FS.nmV fun v8 =>
           FS.call h_s4 (fS_L_anyDue_2  _ _ _) (FtR fs0))
          (FS.some h_s4))
         (FS.nmV fun v3 =>
          FS.call (Ft.rf _ _) (fS_L_anyDue_2  _ _ _) (FtR fs0)))
        (FS.none))
       (FS.none))
theorem fS_F_anyDue (σ : TS)  : FS fs0 σ (F_anyDue σ) := by
  unfold F_anyDue
  exact FS.obS (Ft.rf _ _) (fS_L_anyDue_2  _ _ _) (FtR fs0) (fun r16 s13 h_s13 => FS.some h_s13) fun q12 s13 h_s13 =>
    FS.some h_s13
theorem fS_L_areSmall_2   : ∀ (n : Nat) (x1 : Int32) (x2 : Int32) (σ : TS), FS fs0 σ (L_areSmall_2  n x1 x2 σ)
  | 0, _, _, _ => FS.none
  | n + 1, x1, x2, σ => by
    rw [L_areSmall_2]
    exact FS.ite (FS.some (Ft.rf _ _))
      (FS.ite (FS.ite (FS.some (Ft.rf _ _))
        (FS.ite (FS.ite (FS.nmV fun v3 =>
           FS.call (Ft.rf _ _) (fS_L_areSmall_2  _ _ _ _) (FtR fs0))
          (FS.some (Ft.rf _ _)))
         (FS.none)))
       (FS.none))
theorem fS_F_areSmall (x1 : Int32) (σ : TS)  : FS fs0 σ (F_areSmall x1 σ) := by
  unfold F_areSmall
  exact FS.obS (Ft.rf _ _) (fS_L_areSmall_2  _ _ _ _) (FtR fs0) (fun r11 s8 h_s8 => FS.some h_s8) fun q7 s8 h_s8 =>
    FS.some h_s8
theorem fS_F_isIn (x1 : Int32) (x2 : Int32) (σ : TS)  : FS fs0 σ (F_isIn x1 x2 σ) := by
  unfold F_isIn
  exact FS.ite (FS.some (Ft.rf _ _))
    (FS.none)
theorem fS_F_counts (x1 : Int32) (σ : TS)  : FS fs0 σ (F_counts x1 σ) := by
  unfold F_counts
  exact FS.ite (FS.ite (FS.ite (FS.some (Ft.rf _ _))
      (FS.some (Ft.rf _ _)))
     (FS.none))
    (FS.ite (FS.ite (FS.ite (FS.some (Ft.rf _ _))
       (FS.some (Ft.rf _ _)))
      (FS.none))
     (FS.ite (FS.ite (FS.some (Ft.rf _ _))
       (FS.ite (FS.ite (FS.some (Ft.rf _ _))
         (FS.ite (FS.ite (FS.some (Ft.rf _ _))
           (FS.some (Ft.rf _ _)))
          (FS.none)))
        (FS.none)))
      (FS.none)))
theorem fS_L_attempt_79 (cf_attempt : Int32 → TS → Option (Int32 × TS)) (hcf_attempt : ∀ (a0 : Int32) (a1 : TS), FS fs27 a1 (cf_attempt a0 a1)) : ∀ (n : Nat) (x1 : Int32) (x2 : Int32) (σ : TS), FS fs27 σ (L_attempt_79 cf_attempt n x1 x2 σ)
  | 0, _, _, _ => FS.none
  | n + 1, x1, x2, σ => by
    rw [L_attempt_79]
    exact FS.ite (FS.some (Ft.rf _ _))
      (FS.ob (Ft.rf _ _) (fS_F_isIn _ _ _ ) (le_fs0_fs27) fun r5 s4 h_s4 =>
       FS.ite (FS.nmV fun v8 =>
        FS.call h_s4 (fS_L_attempt_79 _ hcf_attempt _ _ _ _) (FtR fs27))
       (FS.ob h_s4 (fS_F_counts _ _ ) (le_fs0_fs27) fun r10 s9 h_s9 =>
        FS.ite (FS.nmV fun v13 =>
         FS.call h_s9 (fS_L_attempt_79 _ hcf_attempt _ _ _ _) (FtR fs27))
        (FS.ite (FS.ite (FS.ite (FS.nmT (Ft.p_tsA h_s9 rfl) fun s16 h_s16 =>
            FS.some h_s16)
           (FS.none))
          (FS.nmV fun v17 =>
           FS.call h_s9 (fS_L_attempt_79 _ hcf_attempt _ _ _ _) (FtR fs27)))
         (FS.none))))
theorem fS_J_attempt_157_129 (cf_attempt : Int32 → TS → Option (Int32 × TS)) (rec : Int32 → Int32 → TS → Option ((Unit ⊕ Int32) × TS)) (x1 : Int32) (x2 : Int32) (y0 : Int32) (σ : TS) (hcf_attempt : ∀ (a0 : Int32) (a1 : TS), FS fs27 a1 (cf_attempt a0 a1)) (hrec : ∀ (a0 : Int32) (a1 : Int32) (a2 : TS), FS fs27 a2 (rec a0 a1 a2)) : FS fs27 σ (J_attempt_157_129 cf_attempt rec x1 x2 y0 σ) := by
  unfold J_attempt_157_129
  exact FS.ob (Ft.rf _ _) (fS_F_isIn _ _ _ ) (le_fs0_fs27) fun r26 s25 h_s25 =>
    FS.ite (FS.nmV fun v29 =>
     FS.call h_s25 (hrec _ _ _) (FtR fs27))
    (FS.ob h_s25 (fS_F_counts _ _ ) (le_fs0_fs27) fun r31 s30 h_s30 =>
     FS.ite (FS.nmV fun v34 =>
      FS.call h_s30 (hrec _ _ _) (FtR fs27))
     (FS.ite (FS.ite (FS.ite (FS.nmT (Ft.p_tsA h_s30 rfl) fun s38 h_s38 =>
         FS.ite (FS.ob h_s38 (hcf_attempt _ _) (FtR fs27) fun r41 s40 h_s40 =>
          FS.ite (FS.nmV fun v44 =>
           FS.call h_s40 (hrec _ _ _) (FtR fs27))
          (FS.ite (FS.nmT (Ft.p_tsA h_s40 rfl) fun s46 h_s46 =>
            FS.some h_s46)
           (FS.none)))
         (FS.none))
        (FS.none))
       (FS.nmV fun v48 =>
        FS.call h_s30 (hrec _ _ _) (FtR fs27)))
      (FS.none)))
theorem fS_L_attempt_129 (cf_attempt : Int32 → TS → Option (Int32 × TS)) (hcf_attempt : ∀ (a0 : Int32) (a1 : TS), FS fs27 a1 (cf_attempt a0 a1)) : ∀ (n : Nat) (x1 : Int32) (x2 : Int32) (σ : TS), FS fs27 σ (L_attempt_129 cf_attempt n x1 x2 σ)
  | 0, _, _, _ => FS.none
  | n + 1, x1, x2, σ => by
    rw [L_attempt_129]
    exact FS.ite (FS.some (Ft.rf _ _))
      (FS.ite (FS.call (Ft.rf _ _) (fS_J_attempt_157_129 _ _ _ _ _ _ hcf_attempt (fun a0 a1 a2 => fS_L_attempt_129 cf_attempt hcf_attempt _ a0 a1 a2) ) (FtR fs27))
       (FS.call (Ft.rf _ _) (fS_J_attempt_157_129 _ _ _ _ _ _ hcf_attempt (fun a0 a1 a2 => fS_L_attempt_129 cf_attempt hcf_attempt _ a0 a1 a2) ) (FtR fs27)))
theorem fS_J_attempt_127 (cf_attempt : Int32 → TS → Option (Int32 × TS)) (x1 : Int32) (σ : TS) (hcf_attempt : ∀ (a0 : Int32) (a1 : TS), FS fs27 a1 (cf_attempt a0 a1)) : FS fs27 σ (J_attempt_127 cf_attempt x1 σ) := by
  unfold J_attempt_127
  exact FS.obS (Ft.rf _ _) (fS_L_attempt_129 _ hcf_attempt _ _ _ _) (FtR fs27) (fun r58 s55 h_s55 => FS.some h_s55) fun q54 s55 h_s55 =>
    FS.some h_s55
theorem fS_L_attempt_17 (cf_attempt : Int32 → TS → Option (Int32 × TS)) (hcf_attempt : ∀ (a0 : Int32) (a1 : TS), FS fs27 a1 (cf_attempt a0 a1)) : ∀ (n : Nat) (x1 : Int32) (x2 : Int32) (σ : TS), FS fs27 σ (L_attempt_17 cf_attempt n x1 x2 σ)
  | 0, _, _, _ => FS.none
  | n + 1, x1, x2, σ => by
    rw [L_attempt_17]
    exact FS.ite (FS.some (Ft.rf _ _))
      (FS.ob (Ft.rf _ _) (fS_F_isIn _ _ _ ) (le_fs0_fs27) fun r62 s61 h_s61 =>
       FS.ite (FS.nmV fun v65 =>
        FS.call h_s61 (fS_L_attempt_17 _ hcf_attempt _ _ _ _) (FtR fs27))
       (FS.ob h_s61 (fS_F_counts _ _ ) (le_fs0_fs27) fun r67 s66 h_s66 =>
        FS.ite (FS.nmV fun v70 =>
         FS.call h_s66 (fS_L_attempt_17 _ hcf_attempt _ _ _ _) (FtR fs27))
        (FS.ite (FS.ite (FS.ite (FS.nmT (Ft.p_tsA h_s66 rfl) fun s73 h_s73 =>
            FS.some h_s73)
           (FS.none))
          (FS.nmV fun v74 =>
           FS.call h_s66 (fS_L_attempt_17 _ hcf_attempt _ _ _ _) (FtR fs27)))
         (FS.none))))
theorem fS_B_attempt (cf_attempt : Int32 → TS → Option (Int32 × TS)) (x1 : Int32) (σ : TS) (hcf_attempt : ∀ (a0 : Int32) (a1 : TS), FS fs27 a1 (cf_attempt a0 a1)) : FS fs27 σ (B_attempt cf_attempt x1 σ) := by
  unfold B_attempt
  exact FS.ite (FS.nmT (Ft.p_tsA (Ft.rf _ _) rfl) fun s2 h_s2 =>
     FS.ite (FS.nmV fun v3 =>
      FS.obS h_s2 (fS_L_attempt_79 _ hcf_attempt _ _ _ _) (FtR fs27) (fun r60 s23 h_s23 => FS.some h_s23) fun q22 s23 h_s23 =>
      FS.call h_s23 (fS_J_attempt_127 _ _ _ hcf_attempt ) (FtR fs27))
     (FS.obS h_s2 (fS_L_attempt_17 _ hcf_attempt _ _ _ _) (FtR fs27) (fun r83 s80 h_s80 => FS.some h_s80) fun q79 s80 h_s80 =>
      FS.call h_s80 (fS_J_attempt_127 _ _ _ hcf_attempt ) (FtR fs27)))
    (FS.none)
theorem fS_G_attempt : ∀ d : Nat, (∀ (a0 : Int32) (a1 : TS), FS fs27 a1 ((G_attempt d) a0 a1)) := by
  intro d
  induction d with
  | zero => exact fun _ _ => FS.none
  | succ d ih => exact fun a0 a1 => fS_B_attempt _ a0 a1 (fun b0 b1 => ih b0 b1)
theorem fS_F_attempt (a0 : Int32) (a1 : TS) : FS fs27 a1 (F_attempt a0 a1) := (fS_G_attempt 300) a0 a1
theorem fS_L_back_12   : ∀ (n : Nat) (x1 : Int32) (x2 : Int32) (σ : TS), FS fs28 σ (L_back_12  n x1 x2 σ)
  | 0, _, _, _ => FS.none
  | n + 1, x1, x2, σ => by
    rw [L_back_12]
    exact FS.ite (FS.some (Ft.rf _ _))
      (FS.ite (FS.ite (FS.nmT (Ft.p_tsA (Ft.rf _ _) rfl) fun s5 h_s5 =>
         FS.ite (FS.ite (FS.nmT (Ft.p_tsA h_s5 rfl) fun s8 h_s8 =>
           FS.nmV fun v9 =>
           FS.call h_s8 (fS_L_back_12  _ _ _ _) (FtR fs28))
          (FS.none))
         (FS.none))
        (FS.none))
       (FS.none))
theorem fS_L_back_64   : ∀ (n : Nat) (x1 : Int32) (x2 : Int32) (σ : TS), FS fs29 σ (L_back_64  n x1 x2 σ)
  | 0, _, _, _ => FS.none
  | n + 1, x1, x2, σ => by
    rw [L_back_64]
    exact FS.ite (FS.some (Ft.rf _ _))
      (FS.ite (FS.ite (FS.nmT (Ft.p_tsA (Ft.rf _ _) rfl) fun s16 h_s16 =>
         FS.ite (FS.ite (FS.nmT (Ft.p_tsA h_s16 rfl) fun s19 h_s19 =>
           FS.nmV fun v20 =>
           FS.call h_s19 (fS_L_back_64  _ _ _ _) (FtR fs29))
          (FS.none))
         (FS.none))
        (FS.none))
       (FS.none))
theorem fS_L_back_114   : ∀ (n : Nat) (x1 : Int32) (x2 : Int32) (σ : TS), FS fs30 σ (L_back_114  n x1 x2 σ)
  | 0, _, _, _ => FS.none
  | n + 1, x1, x2, σ => by
    rw [L_back_114]
    exact FS.ite (FS.some (Ft.rf _ _))
      (FS.ite (FS.ite (FS.nmT (Ft.p_tsA (Ft.rf _ _) rfl) fun s28 h_s28 =>
         FS.nmV fun v29 =>
         FS.call h_s28 (fS_L_back_114  _ _ _ _) (FtR fs30))
        (FS.none))
       (FS.none))
theorem fS_L_back_147   : ∀ (n : Nat) (x1 : Int32) (x2 : Int32) (σ : TS), FS fs31 σ (L_back_147  n x1 x2 σ)
  | 0, _, _, _ => FS.none
  | n + 1, x1, x2, σ => by
    rw [L_back_147]
    exact FS.ite (FS.some (Ft.rf _ _))
      (FS.ite (FS.ite (FS.nmT (Ft.p_tsA (Ft.rf _ _) rfl) fun s37 h_s37 =>
         FS.nmV fun v38 =>
         FS.call h_s37 (fS_L_back_147  _ _ _ _) (FtR fs31))
        (FS.none))
       (FS.none))
theorem fS_F_back (x1 : Int32) (σ : TS)  : FS fs32 σ (F_back x1 σ) := by
  unfold F_back
  exact FS.ite (FS.nmT (Ft.p_tsI (Ft.rf _ _) rfl) fun s2 h_s2 =>
     FS.ob h_s2 (fS_L_back_12  _ _ _ _) (le_fs28_fs32) fun q11 s12 h_s12 =>
     FS.ob h_s12 (fS_L_back_64  _ _ _ _) (le_fs29_fs32) fun q22 s23 h_s23 =>
     FS.ob h_s23 (fS_L_back_114  _ _ _ _) (le_fs30_fs32) fun q31 s32 h_s32 =>
     FS.ob h_s32 (fS_L_back_147  _ _ _ _) (le_fs31_fs32) fun q40 s41 h_s41 =>
     FS.some h_s41)
    (FS.none)
theorem fS_F_bitCount (x0 : Int32) (σ : TS)  : FS fs0 σ (F_bitCount x0 σ) := by
  unfold F_bitCount
  exact FS.nmV fun v1 =>
    FS.nmV fun v2 =>
    FS.nmV fun v3 =>
    FS.nmV fun v4 =>
    FS.nmV fun v5 =>
    FS.some (Ft.rf _ _)
theorem fS_J_block_78 (x1 : Int32) (x2 : Int32) (y0 : Int32) (σ : TS)  : FS fs0 σ (J_block_78 x1 x2 y0 σ) := by
  unfold J_block_78
  exact FS.ite (FS.ite (FS.ite (FS.ite (FS.ite (FS.some (Ft.rf _ _))
        (FS.none))
       (FS.none))
      (FS.ite (FS.ite (FS.some (Ft.rf _ _))
        (FS.none))
       (FS.none)))
     (FS.some (Ft.rf _ _)))
    (FS.none)
theorem fS_F_block (x1 : Int32) (x2 : Int32) (σ : TS)  : FS fs0 σ (F_block x1 x2 σ) := by
  unfold F_block
  exact FS.ite (FS.some (Ft.rf _ _))
    (FS.ite (FS.some (Ft.rf _ _))
     (FS.ite (FS.ite (FS.ite (FS.ite (FS.some (Ft.rf _ _))
         (FS.none))
        (FS.ite (FS.ite (FS.ite (FS.some (Ft.rf _ _))
           (FS.some (Ft.rf _ _)))
          (FS.none))
         (FS.ite (FS.call (Ft.rf _ _) (fS_J_block_78 _ _ _ _ ) (FtR fs0))
          (FS.call (Ft.rf _ _) (fS_J_block_78 _ _ _ _ ) (FtR fs0)))))
       (FS.some (Ft.rf _ _)))
      (FS.some (Ft.rf _ _))))
theorem fS_F_isTwo (x0 : Int32) (σ : TS)  : FS fs0 σ (F_isTwo x0 σ) := by
  unfold F_isTwo
  exact FS.ite (FS.some (Ft.rf _ _))
    (FS.ite (FS.some (Ft.rf _ _))
     (FS.ite (FS.some (Ft.rf _ _))
      (FS.ite (FS.some (Ft.rf _ _))
       (FS.ite (FS.some (Ft.rf _ _))
        (FS.ite (FS.some (Ft.rf _ _))
         (FS.ite (FS.some (Ft.rf _ _))
          (FS.ite (FS.some (Ft.rf _ _))
           (FS.some (Ft.rf _ _)))))))))
theorem fS_J_make_485 (x5 : Int32) (σ : TS)  : FS fs33 σ (J_make_485 x5 σ) := by
  unfold J_make_485
  exact FS.ite (FS.some (Ft.rf _ _))
    (FS.nmT (Ft.p_tsI (Ft.rf _ _) rfl) fun s23 h_s23 =>
     FS.ite (FS.some h_s23)
     (FS.ob h_s23 (fS_F_bad _ _ _ ) (le_fs1_fs33) fun r25 s24 h_s24 =>
      FS.some h_s24))
theorem fS_J_make_433 (x5 : Int32) (x7 : Int32) (σ : TS)  : FS fs34 σ (J_make_433 x5 x7 σ) := by
  unfold J_make_433
  exact FS.ite (FS.nmT (Ft.p_tsA (Ft.rf _ _) rfl) fun s20 h_s20 =>
     FS.ite (FS.ite (FS.call h_s20 (fS_J_make_485 _ _ ) (le_fs33_fs34))
      (FS.nmT (Ft.p_tsI h_s20 rfl) fun s31 h_s31 =>
       FS.ite (FS.call h_s31 (fS_J_make_485 _ _ ) (le_fs33_fs34))
       (FS.ob h_s31 (fS_F_bad _ _ _ ) (le_fs1_fs34) fun r33 s32 h_s32 =>
        FS.call h_s32 (fS_J_make_485 _ _ ) (le_fs33_fs34))))
     (FS.call h_s20 (fS_J_make_485 _ _ ) (le_fs33_fs34)))
    (FS.none)
theorem fS_J_make_312 (x3 : Int32) (x4 : Int32) (x5 : Int32) (σ : TS)  : FS fs34 σ (J_make_312 x3 x4 x5 σ) := by
  unfold J_make_312
  exact FS.ite (FS.ite (FS.nmV fun v18 =>
      FS.call (Ft.rf _ _) (fS_J_make_433 _ _ _ ) (FtR fs34))
     (FS.none))
    (FS.none)
theorem fS_J_make_428 (x5 : Int32) (y0 : Int32) (y1 : Int32) (σ : TS)  : FS fs34 σ (J_make_428 x5 y0 y1 σ) := by
  unfold J_make_428
  exact FS.nmV fun v44 =>
    FS.call (Ft.rf _ _) (fS_J_make_433 _ _ _ ) (FtR fs34)
theorem fS_J_make_282 (x1 : Int32) (x2 : Int32) (x3 : Int32) (x4 : Int32) (x5 : Int32) (x6 : Int32) (σ : TS)  : FS fs35 σ (J_make_282 x1 x2 x3 x4 x5 x6 σ) := by
  unfold J_make_282
  exact FS.ite (FS.nmT (Ft.p_tsA (Ft.rf _ _) rfl) fun s15 h_s15 =>
     FS.ite (FS.call h_s15 (fS_J_make_312 _ _ _ _ ) (le_fs34_fs35))
     (FS.ite (FS.call h_s15 (fS_J_make_312 _ _ _ _ ) (le_fs34_fs35))
      (FS.ite (FS.ite (FS.ite (FS.ite (FS.nmV fun v57 =>
           FS.call h_s15 (fS_J_make_433 _ _ _ ) (le_fs34_fs35))
          (FS.none))
         (FS.none))
        (FS.none))
       (FS.ite (FS.call h_s15 (fS_J_make_433 _ _ _ ) (le_fs34_fs35))
        (FS.ite (FS.call h_s15 (fS_J_make_433 _ _ _ ) (le_fs34_fs35))
         (FS.ite (FS.call h_s15 (fS_J_make_433 _ _ _ ) (le_fs34_fs35))
          (FS.ite (FS.call h_s15 (fS_J_make_433 _ _ _ ) (le_fs34_fs35))
           (FS.ite (FS.call h_s15 (fS_J_make_433 _ _ _ ) (le_fs34_fs35))
            (FS.ite (FS.call h_s15 (fS_J_make_433 _ _ _ ) (le_fs34_fs35))
             (FS.ite (FS.call h_s15 (fS_J_make_433 _ _ _ ) (le_fs34_fs35))
              (FS.ite (FS.ob h_s15 (fS_F_isTwo _ _ ) (le_fs0_fs35) fun r41 s40 h_s40 =>
                FS.ite (FS.call h_s40 (fS_J_make_428 _ _ _ _ ) (le_fs34_fs35))
                (FS.ite (FS.call h_s40 (fS_J_make_428 _ _ _ _ ) (le_fs34_fs35))
                 (FS.none)))
               (FS.none))))))))))))
    (FS.none)
theorem fS_J_make_145 (x1 : Int32) (x2 : Int32) (x3 : Int32) (x4 : Int32) (x5 : Int32) (x6 : Int32) (σ : TS)  : FS fs35 σ (J_make_145 x1 x2 x3 x4 x5 x6 σ) := by
  unfold J_make_145
  exact FS.ite (FS.ite (FS.nmV fun v13 =>
      FS.call (Ft.rf _ _) (fS_J_make_282 _ _ _ _ _ _ _ ) (FtR fs35))
     (FS.none))
    (FS.none)
theorem fS_J_make_202 (x1 : Int32) (x2 : Int32) (x3 : Int32) (x4 : Int32) (x5 : Int32) (x6 : Int32) (σ : TS)  : FS fs35 σ (J_make_202 x1 x2 x3 x4 x5 x6 σ) := by
  unfold J_make_202
  exact FS.ite (FS.nmV fun v62 =>
     FS.call (Ft.rf _ _) (fS_J_make_282 _ _ _ _ _ _ _ ) (FtR fs35))
    (FS.none)
theorem fS_J_make_263 (x1 : Int32) (x2 : Int32) (x3 : Int32) (x4 : Int32) (x5 : Int32) (x6 : Int32) (σ : TS)  : FS fs35 σ (J_make_263 x1 x2 x3 x4 x5 x6 σ) := by
  unfold J_make_263
  exact FS.ite (FS.ite (FS.nmV fun v65 =>
      FS.call (Ft.rf _ _) (fS_J_make_282 _ _ _ _ _ _ _ ) (FtR fs35))
     (FS.none))
    (FS.none)
theorem fS_F_make (x1 : Int32) (x2 : Int32) (x3 : Int32) (x4 : Int32) (σ : TS)  : FS fs36 σ (F_make x1 x2 x3 x4 σ) := by
  unfold F_make
  exact FS.ite (FS.ite (FS.ite (FS.ob (Ft.rf _ _) (fS_F_bad _ _ _ ) (le_fs1_fs36) fun r90 s89 h_s89 =>
       FS.some h_s89)
      (FS.ob (Ft.rf _ _) (fS_F_bad _ _ _ ) (le_fs1_fs36) fun r94 s93 h_s93 =>
       FS.some h_s93))
     (FS.ite (FS.ob (Ft.rf _ _) (fS_F_bad _ _ _ ) (le_fs1_fs36) fun r100 s99 h_s99 =>
       FS.some h_s99)
      (FS.ob (Ft.rf _ _) (fS_F_bad _ _ _ ) (le_fs1_fs36) fun r104 s103 h_s103 =>
       FS.some h_s103)))
    (FS.nmV fun v1 =>
     FS.nmT (Ft.p_tsI (Ft.rf _ _) rfl) fun s2 h_s2 =>
     FS.ite (FS.nmT (Ft.p_tsA h_s2 rfl) fun s4 h_s4 =>
      FS.ite (FS.nmT (Ft.p_tsA h_s4 rfl) fun s6 h_s6 =>
       FS.ite (FS.nmT (Ft.p_tsA h_s6 rfl) fun s8 h_s8 =>
        FS.ite (FS.nmT (Ft.p_tsA h_s8 rfl) fun s10 h_s10 =>
         FS.ite (FS.call h_s10 (fS_J_make_145 _ _ _ _ _ _ _ ) (le_fs35_fs36))
         (FS.ite (FS.call h_s10 (fS_J_make_145 _ _ _ _ _ _ _ ) (le_fs35_fs36))
          (FS.ite (FS.call h_s10 (fS_J_make_145 _ _ _ _ _ _ _ ) (le_fs35_fs36))
           (FS.ite (FS.call h_s10 (fS_J_make_145 _ _ _ _ _ _ _ ) (le_fs35_fs36))
            (FS.ite (FS.call h_s10 (fS_J_make_145 _ _ _ _ _ _ _ ) (le_fs35_fs36))
             (FS.ite (FS.call h_s10 (fS_J_make_145 _ _ _ _ _ _ _ ) (le_fs35_fs36))
              (FS.ite (FS.call h_s10 (fS_J_make_145 _ _ _ _ _ _ _ ) (le_fs35_fs36))
               (FS.ite (FS.call h_s10 (fS_J_make_145 _ _ _ _ _ _ _ ) (le_fs35_fs36))
                (FS.ite (FS.call h_s10 (fS_J_make_202 _ _ _ _ _ _ _ ) (le_fs35_fs36))
                 (FS.ite (FS.call h_s10 (fS_J_make_202 _ _ _ _ _ _ _ ) (le_fs35_fs36))
                  (FS.ite (FS.call h_s10 (fS_J_make_202 _ _ _ _ _ _ _ ) (le_fs35_fs36))
                   (FS.ite (FS.call h_s10 (fS_J_make_202 _ _ _ _ _ _ _ ) (le_fs35_fs36))
                    (FS.ite (FS.call h_s10 (fS_J_make_202 _ _ _ _ _ _ _ ) (le_fs35_fs36))
                     (FS.ite (FS.call h_s10 (fS_J_make_202 _ _ _ _ _ _ _ ) (le_fs35_fs36))
                      (FS.ite (FS.ite (FS.ite (FS.ite (FS.nmV fun v71 =>
                           FS.call h_s10 (fS_J_make_282 _ _ _ _ _ _ _ ) (le_fs35_fs36))
                          (FS.none))
                         (FS.none))
                        (FS.none))
                       (FS.ite (FS.call h_s10 (fS_J_make_263 _ _ _ _ _ _ _ ) (le_fs35_fs36))
                        (FS.ite (FS.call h_s10 (fS_J_make_263 _ _ _ _ _ _ _ ) (le_fs35_fs36))
                         (FS.call h_s10 (fS_J_make_282 _ _ _ _ _ _ _ ) (le_fs35_fs36)))))))))))))))))))
        (FS.none))
       (FS.none))
      (FS.none))
     (FS.none))
theorem fS_L_memberOf_8   : ∀ (n : Nat) (x2 : Int64) (x4 : Int32) (σ : TS), FS fs0 σ (L_memberOf_8  n x2 x4 σ)
  | 0, _, _, _ => FS.none
  | n + 1, x2, x4, σ => by
    rw [L_memberOf_8]
    exact FS.ite (FS.some (Ft.rf _ _))
      (FS.ite (FS.ite (FS.ite (FS.some (Ft.rf _ _))
         (FS.ite (FS.nmV fun v6 =>
           FS.call (Ft.rf _ _) (fS_L_memberOf_8  _ _ _ _) (FtR fs0))
          (FS.none)))
        (FS.none))
       (FS.none))
theorem fS_F_memberOf (x1 : Int32) (x2 : Int64) (σ : TS)  : FS fs0 σ (F_memberOf x1 x2 σ) := by
  unfold F_memberOf
  exact FS.ite (FS.nmV fun v2 =>
     FS.obS (Ft.rf _ _) (fS_L_memberOf_8  _ _ _ _) (FtR fs0) (fun r13 s10 h_s10 => FS.some h_s10) fun q9 s10 h_s10 =>
     FS.some h_s10)
    (FS.none)
theorem fS_L_innerOf_19   : ∀ (n : Nat) (x2 : Int32) (x3 : Int32) (σ : TS), FS fs1 σ (L_innerOf_19  n x2 x3 σ)
  | 0, _, _, _ => FS.none
  | n + 1, x2, x3, σ => by
    rw [L_innerOf_19]
    exact FS.ite (FS.some (Ft.rf _ _))
      (FS.ite (FS.ob (Ft.rf _ _) (fS_F_memberOf _ _ _ ) (le_fs0_fs1) fun r8 s7 h_s7 =>
        FS.ite (FS.ite (FS.nmV fun v12 =>
          FS.call h_s7 (fS_L_innerOf_19  _ _ _ _) (FtR fs1))
         (FS.none))
        (FS.ite (FS.ite (FS.ite (FS.ite (FS.nmV fun v46 =>
             FS.call h_s7 (fS_L_innerOf_19  _ _ _ _) (FtR fs1))
            (FS.none))
           (FS.ite (FS.nmV fun v16 =>
             FS.ite (FS.ite (FS.ite (FS.ite (FS.ite (FS.ite (FS.ite (FS.ite (FS.ite (FS.ob h_s7 (fS_F_bad _ _ _ ) (FtR fs1) fun r38 s37 h_s37 =>
                      FS.some h_s37)
                     (FS.some h_s7))
                    (FS.ite (FS.ob h_s7 (fS_F_bad _ _ _ ) (FtR fs1) fun r33 s32 h_s32 =>
                      FS.some h_s32)
                     (FS.some h_s7)))
                   (FS.none))
                  (FS.none))
                 (FS.ite (FS.ob h_s7 (fS_F_bad _ _ _ ) (FtR fs1) fun r26 s25 h_s25 =>
                   FS.some h_s25)
                  (FS.some h_s7)))
                (FS.none))
               (FS.ite (FS.ob h_s7 (fS_F_bad _ _ _ ) (FtR fs1) fun r20 s19 h_s19 =>
                 FS.some h_s19)
                (FS.some h_s7)))
              (FS.none))
             (FS.none))
            (FS.none)))
          (FS.none))
         (FS.none)))
       (FS.none))
theorem fS_F_innerOf (x1 : Int32) (σ : TS)  : FS fs1 σ (F_innerOf x1 σ) := by
  unfold F_innerOf
  exact FS.ite (FS.nmV fun v2 =>
     FS.ite (FS.ite (FS.nmV fun v5 =>
       FS.obS (Ft.rf _ _) (fS_L_innerOf_19  _ _ _ _) (FtR fs1) (fun r58 s51 h_s51 => FS.some h_s51) fun q50 s51 h_s51 =>
       FS.ob h_s51 (fS_F_bad _ _ _ ) (FtR fs1) fun r54 s53 h_s53 =>
       FS.some h_s53)
      (FS.none))
     (FS.none))
    (FS.none)
theorem fS_L_indexOf_24   : ∀ (n : Nat) (x1 : Int32) (x2 : Int32) (σ : TS), FS fs0 σ (L_indexOf_24  n x1 x2 σ)
  | 0, _, _, _ => FS.none
  | n + 1, x1, x2, σ => by
    rw [L_indexOf_24]
    exact FS.ite (FS.some (Ft.rf _ _))
      (FS.ite (FS.ite (FS.ite (FS.ite (FS.ite (FS.some (Ft.rf _ _))
           (FS.none))
          (FS.none))
         (FS.nmV fun v5 =>
          FS.call (Ft.rf _ _) (fS_L_indexOf_24  _ _ _ _) (FtR fs0)))
        (FS.none))
       (FS.none))
theorem fS_F_indexOf (x1 : Int32) (σ : TS)  : FS fs0 σ (F_indexOf x1 σ) := by
  unfold F_indexOf
  exact FS.ite (FS.ite (FS.ite (FS.some (Ft.rf _ _))
      (FS.none))
     (FS.nmV fun v2 =>
      FS.obS (Ft.rf _ _) (fS_L_indexOf_24  _ _ _ _) (FtR fs0) (fun r15 s11 h_s11 => FS.some h_s11) fun q10 s11 h_s11 =>
      FS.ite (FS.some h_s11)
      (FS.none)))
    (FS.none)
theorem fS_L_instanceOf_2   : ∀ (n : Nat) (x1 : Int32) (x2 : Int32) (x3 : Int32) (σ : TS), FS fs0 σ (L_instanceOf_2  n x1 x2 x3 σ)
  | 0, _, _, _, _ => FS.none
  | n + 1, x1, x2, x3, σ => by
    rw [L_instanceOf_2]
    exact FS.ite (FS.some (Ft.rf _ _))
      (FS.ite (FS.nmV fun v1 =>
        FS.call (Ft.rf _ _) (fS_L_instanceOf_2  _ _ _ _ _) (FtR fs0))
       (FS.ite (FS.ite (FS.ite (FS.ite (FS.ite (FS.ite (FS.ite (FS.ite (FS.some (Ft.rf _ _))
               (FS.nmV fun v9 =>
                FS.call (Ft.rf _ _) (fS_L_instanceOf_2  _ _ _ _ _) (FtR fs0)))
              (FS.none))
             (FS.nmV fun v7 =>
              FS.call (Ft.rf _ _) (fS_L_instanceOf_2  _ _ _ _ _) (FtR fs0)))
            (FS.none))
           (FS.none))
          (FS.nmV fun v4 =>
           FS.call (Ft.rf _ _) (fS_L_instanceOf_2  _ _ _ _ _) (FtR fs0)))
         (FS.none))
        (FS.none)))
theorem fS_F_instanceOf (x1 : Int32) (x2 : Int32) (σ : TS)  : FS fs0 σ (F_instanceOf x1 x2 σ) := by
  unfold F_instanceOf
  exact FS.obS (Ft.rf _ _) (fS_L_instanceOf_2  _ _ _ _ _) (FtR fs0) (fun r19 s16 h_s16 => FS.some h_s16) fun q15 s16 h_s16 =>
    FS.some h_s16
theorem fS_J_resolve_198_20 (rec : Int32 → Int32 → TS → Option ((Unit ⊕ Unit) × TS)) (x4 : Int32) (x5 : Int32) (x6 : Int32) (x7 : Int32) (x8 : Int32) (σ : TS) (hrec : ∀ (a0 : Int32) (a1 : Int32) (a2 : TS), FS fs37 a2 (rec a0 a1 a2)) : FS fs37 σ (J_resolve_198_20 rec x4 x5 x6 x7 x8 σ) := by
  unfold J_resolve_198_20
  exact FS.nmT (Ft.p_tsI (Ft.rf _ _) rfl) fun s24 h_s24 =>
    FS.ite (FS.ite (FS.ite (FS.ite (FS.ite (FS.ite (FS.nmT (Ft.p_tsI h_s24 rfl) fun s35 h_s35 =>
          FS.some h_s35)
         (FS.nmT (Ft.p_tsI h_s24 rfl) fun s36 h_s36 =>
          FS.some h_s36))
        (FS.none))
       (FS.ob h_s24 (fS_F_bad _ _ _ ) (le_fs1_fs37) fun r39 s38 h_s38 =>
        FS.some h_s38))
      (FS.none))
     (FS.ob h_s24 (fS_F_instanceOf _ _ _ ) (le_fs0_fs37) fun r27 s26 h_s26 =>
      FS.nmT (Ft.p_tsI h_s26 rfl) fun s30 h_s30 =>
      FS.ite (FS.nmV fun v32 =>
       FS.call h_s30 (hrec _ _ _) (FtR fs37))
      (FS.none)))
    (FS.none)
theorem fS_J_resolve_170_20 (rec : Int32 → Int32 → TS → Option ((Unit ⊕ Unit) × TS)) (x4 : Int32) (x5 : Int32) (x6 : Int32) (x7 : Int32) (y0 : Int32) (σ : TS) (hrec : ∀ (a0 : Int32) (a1 : Int32) (a2 : TS), FS fs37 a2 (rec a0 a1 a2)) : FS fs37 σ (J_resolve_170_20 rec x4 x5 x6 x7 y0 σ) := by
  unfold J_resolve_170_20
  exact FS.ite (FS.call (Ft.rf _ _) (fS_J_resolve_198_20 _ _ _ _ _ _ _ hrec ) (FtR fs37))
    (FS.ite (FS.ob (Ft.rf _ _) (fS_F_bad _ _ _ ) (le_fs1_fs37) fun r45 s44 h_s44 =>
      FS.some h_s44)
     (FS.ite (FS.call (Ft.rf _ _) (fS_J_resolve_198_20 _ _ _ _ _ _ _ hrec ) (FtR fs37))
      (FS.ob (Ft.rf _ _) (fS_F_bad _ _ _ ) (le_fs1_fs37) fun r49 s48 h_s48 =>
       FS.some h_s48)))
theorem fS_J_resolve_144_20 (rec : Int32 → Int32 → TS → Option ((Unit ⊕ Unit) × TS)) (x4 : Int32) (x5 : Int32) (x6 : Int32) (x7 : Int32) (y0 : Int32) (y1 : Int32) (σ : TS) (hrec : ∀ (a0 : Int32) (a1 : Int32) (a2 : TS), FS fs37 a2 (rec a0 a1 a2)) : FS fs37 σ (J_resolve_144_20 rec x4 x5 x6 x7 y0 y1 σ) := by
  unfold J_resolve_144_20
  exact FS.ite (FS.ite (FS.call (Ft.rf _ _) (fS_J_resolve_170_20 _ _ _ _ _ _ _ hrec ) (FtR fs37))
     (FS.ob (Ft.rf _ _) (fS_F_indexOf _ _ ) (le_fs0_fs37) fun r56 s55 h_s55 =>
      FS.call h_s55 (fS_J_resolve_170_20 _ _ _ _ _ _ _ hrec ) (FtR fs37)))
    (FS.ob (Ft.rf _ _) (fS_F_bad _ _ _ ) (le_fs1_fs37) fun r61 s60 h_s60 =>
     FS.some h_s60)
theorem fS_J_resolve_134_20 (rec : Int32 → Int32 → TS → Option ((Unit ⊕ Unit) × TS)) (x4 : Int32) (x5 : Int32) (x6 : Int32) (x7 : Int32) (y0 : Int32) (σ : TS) (hrec : ∀ (a0 : Int32) (a1 : Int32) (a2 : TS), FS fs37 a2 (rec a0 a1 a2)) : FS fs37 σ (J_resolve_134_20 rec x4 x5 x6 x7 y0 σ) := by
  unfold J_resolve_134_20
  exact FS.ite (FS.call (Ft.rf _ _) (fS_J_resolve_144_20 _ _ _ _ _ _ _ _ hrec ) (FtR fs37))
    (FS.call (Ft.rf _ _) (fS_J_resolve_144_20 _ _ _ _ _ _ _ _ hrec ) (FtR fs37))
theorem fS_J_resolve_93_20 (rec : Int32 → Int32 → TS → Option ((Unit ⊕ Unit) × TS)) (x4 : Int32) (x5 : Int32) (σ : TS) (hrec : ∀ (a0 : Int32) (a1 : Int32) (a2 : TS), FS fs37 a2 (rec a0 a1 a2)) : FS fs37 σ (J_resolve_93_20 rec x4 x5 σ) := by
  unfold J_resolve_93_20
  exact FS.ob (Ft.rf _ _) (fS_F_isBad _ ) (le_fs0_fs37) fun r16 s15 h_s15 =>
    FS.ite (FS.ite (FS.nmV fun v20 =>
      FS.ite (FS.nmV fun v22 =>
       FS.ite (FS.ite (FS.call h_s15 (fS_J_resolve_134_20 _ _ _ _ _ _ _ hrec ) (FtR fs37))
        (FS.call h_s15 (fS_J_resolve_134_20 _ _ _ _ _ _ _ hrec ) (FtR fs37)))
       (FS.none))
      (FS.none))
     (FS.none))
    (FS.some h_s15)
theorem fS_J_resolve_52_20 (rec : Int32 → Int32 → TS → Option ((Unit ⊕ Unit) × TS)) (x4 : Int32) (y0 : Int32) (σ : TS) (hrec : ∀ (a0 : Int32) (a1 : Int32) (a2 : TS), FS fs37 a2 (rec a0 a1 a2)) : FS fs37 σ (J_resolve_52_20 rec x4 y0 σ) := by
  unfold J_resolve_52_20
  exact FS.ite (FS.ite (FS.ite (FS.ite (FS.call (Ft.rf _ _) (fS_J_resolve_93_20 _ _ _ _ hrec ) (FtR fs37))
       (FS.ob (Ft.rf _ _) (fS_F_innerOf _ _ ) (le_fs1_fs37) fun r69 s68 h_s68 =>
        FS.call h_s68 (fS_J_resolve_93_20 _ _ _ _ hrec ) (FtR fs37)))
      (FS.none))
     (FS.none))
    (FS.ob (Ft.rf _ _) (fS_F_bad _ _ _ ) (le_fs1_fs37) fun r74 s73 h_s73 =>
     FS.some h_s73)
theorem fS_L_resolve_20   : ∀ (n : Nat) (x3 : Int32) (x4 : Int32) (σ : TS), FS fs37 σ (L_resolve_20  n x3 x4 σ)
  | 0, _, _, _ => FS.none
  | n + 1, x3, x4, σ => by
    rw [L_resolve_20]
    exact FS.ite (FS.some (Ft.rf _ _))
      (FS.ob (Ft.rf _ _) (fS_F_isBad _ ) (le_fs0_fs37) fun r5 s4 h_s4 =>
       FS.ite (FS.ite (FS.ite (FS.ob h_s4 (fS_F_memberOf _ _ _ ) (le_fs0_fs37) fun r10 s9 h_s9 =>
          FS.call h_s9 (fS_J_resolve_52_20 _ _ _ _ (fun a0 a1 a2 => fS_L_resolve_20   _ a0 a1 a2) ) (FtR fs37))
         (FS.none))
        (FS.call h_s4 (fS_J_resolve_52_20 _ _ _ _ (fun a0 a1 a2 => fS_L_resolve_20   _ a0 a1 a2) ) (FtR fs37)))
       (FS.some h_s4))
theorem fS_F_resolve (x1 : Int32) (x2 : Int32) (σ : TS)  : FS fs37 σ (F_resolve x1 x2 σ) := by
  unfold F_resolve
  exact FS.nmT (Ft.p_tsI (Ft.rf _ _) rfl) fun s1 h_s1 =>
    FS.nmT (Ft.p_tsI h_s1 rfl) fun s2 h_s2 =>
    FS.nmT (Ft.p_tsI h_s2 rfl) fun s3 h_s3 =>
    FS.obS h_s3 (fS_L_resolve_20  _ _ _ _) (FtR fs37) (fun r85 s82 h_s82 => FS.some h_s82) fun q81 s82 h_s82 =>
    FS.some h_s82
theorem fS_F_variableOf (x1 : Int32) (x2 : Int32) (σ : TS)  : FS fs37 σ (F_variableOf x1 x2 σ) := by
  unfold F_variableOf
  exact FS.ob (Ft.rf _ _) (fS_F_resolve _ _ _ ) (FtR fs37) fun r2 s1 h_s1 =>
    FS.ob h_s1 (fS_F_isBad _ ) (le_fs0_fs37) fun r6 s5 h_s5 =>
    FS.ite (FS.ite (FS.ob h_s5 (fS_F_isBad _ ) (le_fs0_fs37) fun r15 s14 h_s14 =>
      FS.ite (FS.some h_s14)
      (FS.some h_s14))
     (FS.ob h_s5 (fS_F_bad _ _ _ ) (le_fs1_fs37) fun r20 s19 h_s19 =>
      FS.ob h_s19 (fS_F_isBad _ ) (le_fs0_fs37) fun r24 s23 h_s23 =>
      FS.ite (FS.some h_s23)
      (FS.some h_s23)))
    (FS.ob h_s5 (fS_F_isBad _ ) (le_fs0_fs37) fun r10 s9 h_s9 =>
     FS.ite (FS.some h_s9)
     (FS.some h_s9))
theorem fS_L_build_248 (cf_build : Int32 → Int32 → Int32 → Int32 → TS → Option (Int32 × TS)) (hcf_build : ∀ (a0 : Int32) (a1 : Int32) (a2 : Int32) (a3 : Int32) (a4 : TS), FS fs38 a4 (cf_build a0 a1 a2 a3 a4)) : ∀ (n : Nat) (x1 : Int32) (x6 : Int32) (x7 : Int32) (σ : TS), FS fs38 σ (L_build_248 cf_build n x1 x6 x7 σ)
  | 0, _, _, _, _ => FS.none
  | n + 1, x1, x6, x7, σ => by
    rw [L_build_248]
    exact FS.ite (FS.some (Ft.rf _ _))
      (FS.ite (FS.ite (FS.ite (FS.ite (FS.ite (FS.nmV fun v441 =>
            FS.nmV fun v442 =>
            FS.call (Ft.rf _ _) (fS_L_build_248 _ hcf_build _ _ _ _ _) (FtR fs38))
           (FS.none))
          (FS.nmV fun v439 =>
           FS.call (Ft.rf _ _) (fS_L_build_248 _ hcf_build _ _ _ _ _) (FtR fs38)))
         (FS.none))
        (FS.none))
       (FS.none))
theorem fS_L_build_695 (cf_build : Int32 → Int32 → Int32 → Int32 → TS → Option (Int32 × TS)) (hcf_build : ∀ (a0 : Int32) (a1 : Int32) (a2 : Int32) (a3 : Int32) (a4 : TS), FS fs38 a4 (cf_build a0 a1 a2 a3 a4)) : ∀ (n : Nat) (x1 : Int32) (x2 : Int32) (x3 : Int32) (x4 : Int32) (x6 : Int32) (x7 : Int32) (σ : TS), FS fs38 σ (L_build_695 cf_build n x1 x2 x3 x4 x6 x7 σ)
  | 0, _, _, _, _, _, _, _ => FS.none
  | n + 1, x1, x2, x3, x4, x6, x7, σ => by
    rw [L_build_695]
    exact FS.ite (FS.ite (FS.some (Ft.rf _ _))
       (FS.ite (FS.nmV fun v458 =>
         FS.nmV fun v459 =>
         FS.call (Ft.rf _ _) (fS_L_build_695 _ hcf_build _ _ _ _ _ _ _ _) (FtR fs38))
        (FS.none)))
      (FS.none)
theorem fS_J_build_21 (cf_build : Int32 → Int32 → Int32 → Int32 → TS → Option (Int32 × TS)) (x1 : Int32) (x2 : Int32) (x3 : Int32) (x4 : Int32) (σ : TS) (hcf_build : ∀ (a0 : Int32) (a1 : Int32) (a2 : Int32) (a3 : Int32) (a4 : TS), FS fs38 a4 (cf_build a0 a1 a2 a3 a4)) : FS fs38 σ (J_build_21 cf_build x1 x2 x3 x4 σ) := by
  unfold J_build_21
  exact FS.ob (Ft.rf _ _) (fS_F_isBad _ ) (le_fs0_fs38) fun r6 s5 h_s5 =>
    FS.ite (FS.ite (FS.nmV fun v10 =>
      FS.ite (FS.ite (FS.ob h_s5 (fS_F_make _ _ _ _ _ ) (le_fs36_fs38) fun r14 s13 h_s13 =>
        FS.some h_s13)
       (FS.none))
      (FS.ite (FS.ite (FS.ob h_s5 (fS_F_make _ _ _ _ _ ) (le_fs36_fs38) fun r20 s19 h_s19 =>
         FS.some h_s19)
        (FS.ob h_s5 (fS_F_bad _ _ _ ) (le_fs1_fs38) fun r24 s23 h_s23 =>
         FS.ob h_s23 (fS_F_make _ _ _ _ _ ) (le_fs36_fs38) fun r28 s27 h_s27 =>
         FS.some h_s27))
       (FS.ite (FS.ite (FS.ob h_s5 (fS_F_variableOf _ _ _ ) (le_fs37_fs38) fun r35 s34 h_s34 =>
          FS.ob h_s34 (fS_F_isBad _ ) (le_fs0_fs38) fun r39 s38 h_s38 =>
          FS.ite (FS.ite (FS.ob h_s38 (fS_F_make _ _ _ _ _ ) (le_fs36_fs38) fun r48 s47 h_s47 =>
            FS.some h_s47)
           (FS.ite (FS.ite (FS.ob h_s38 (fS_F_make _ _ _ _ _ ) (le_fs36_fs38) fun r53 s52 h_s52 =>
              FS.some h_s52)
             (FS.ob h_s38 (fS_F_bad _ _ _ ) (le_fs1_fs38) fun r57 s56 h_s56 =>
              FS.ob h_s56 (fS_F_make _ _ _ _ _ ) (le_fs36_fs38) fun r61 s60 h_s60 =>
              FS.some h_s60))
            (FS.none)))
          (FS.ob h_s38 (fS_F_make _ _ _ _ _ ) (le_fs36_fs38) fun r43 s42 h_s42 =>
           FS.some h_s42))
         (FS.none))
        (FS.ite (FS.ite (FS.ite (FS.ob h_s5 (fS_F_variableOf _ _ _ ) (le_fs37_fs38) fun r71 s70 h_s70 =>
            FS.ob h_s70 (fS_F_isBad _ ) (le_fs0_fs38) fun r75 s74 h_s74 =>
            FS.ite (FS.ite (FS.ite (FS.ite (FS.ob h_s74 (fS_F_make _ _ _ _ _ ) (le_fs36_fs38) fun r98 s97 h_s97 =>
                FS.some h_s97)
               (FS.ob h_s74 (fS_F_bad _ _ _ ) (le_fs1_fs38) fun r102 s101 h_s101 =>
                FS.ob h_s101 (fS_F_make _ _ _ _ _ ) (le_fs36_fs38) fun r106 s105 h_s105 =>
                FS.some h_s105))
              (FS.none))
             (FS.ite (FS.ite (FS.ob h_s74 (fS_F_bad _ _ _ ) (le_fs1_fs38) fun r88 s87 h_s87 =>
                FS.ob h_s87 (fS_F_make _ _ _ _ _ ) (le_fs36_fs38) fun r92 s91 h_s91 =>
                FS.some h_s91)
               (FS.ob h_s74 (fS_F_make _ _ _ _ _ ) (le_fs36_fs38) fun r84 s83 h_s83 =>
                FS.some h_s83))
              (FS.none)))
            (FS.ob h_s74 (fS_F_make _ _ _ _ _ ) (le_fs36_fs38) fun r79 s78 h_s78 =>
             FS.some h_s78))
           (FS.none))
          (FS.ob h_s5 (fS_F_bad _ _ _ ) (le_fs1_fs38) fun r113 s112 h_s112 =>
           FS.some h_s112))
         (FS.ite (FS.ite (FS.ite (FS.ob h_s5 (fS_F_variableOf _ _ _ ) (le_fs37_fs38) fun r121 s120 h_s120 =>
             FS.ob h_s120 (fS_F_isBad _ ) (le_fs0_fs38) fun r125 s124 h_s124 =>
             FS.ite (FS.ite (FS.ite (FS.ite (FS.ob h_s124 (fS_F_make _ _ _ _ _ ) (le_fs36_fs38) fun r148 s147 h_s147 =>
                 FS.some h_s147)
                (FS.ob h_s124 (fS_F_bad _ _ _ ) (le_fs1_fs38) fun r152 s151 h_s151 =>
                 FS.ob h_s151 (fS_F_make _ _ _ _ _ ) (le_fs36_fs38) fun r156 s155 h_s155 =>
                 FS.some h_s155))
               (FS.none))
              (FS.ite (FS.ite (FS.ob h_s124 (fS_F_bad _ _ _ ) (le_fs1_fs38) fun r138 s137 h_s137 =>
                 FS.ob h_s137 (fS_F_make _ _ _ _ _ ) (le_fs36_fs38) fun r142 s141 h_s141 =>
                 FS.some h_s141)
                (FS.ob h_s124 (fS_F_make _ _ _ _ _ ) (le_fs36_fs38) fun r134 s133 h_s133 =>
                 FS.some h_s133))
               (FS.none)))
             (FS.ob h_s124 (fS_F_make _ _ _ _ _ ) (le_fs36_fs38) fun r129 s128 h_s128 =>
              FS.some h_s128))
            (FS.none))
           (FS.ob h_s5 (fS_F_bad _ _ _ ) (le_fs1_fs38) fun r163 s162 h_s162 =>
            FS.some h_s162))
          (FS.ite (FS.ite (FS.ob h_s5 (hcf_build _ _ _ _ _) (FtR fs38) fun r170 s169 h_s169 =>
             FS.ite (FS.ob h_s169 (hcf_build _ _ _ _ _) (FtR fs38) fun r175 s174 h_s174 =>
              FS.ob h_s174 (fS_F_make _ _ _ _ _ ) (le_fs36_fs38) fun r179 s178 h_s178 =>
              FS.some h_s178)
             (FS.none))
            (FS.none))
           (FS.ite (FS.ite (FS.ob h_s5 (hcf_build _ _ _ _ _) (FtR fs38) fun r185 s184 h_s184 =>
              FS.ite (FS.ob h_s184 (hcf_build _ _ _ _ _) (FtR fs38) fun r190 s189 h_s189 =>
               FS.ob h_s189 (fS_F_make _ _ _ _ _ ) (le_fs36_fs38) fun r194 s193 h_s193 =>
               FS.some h_s193)
              (FS.none))
             (FS.none))
            (FS.ite (FS.ite (FS.ob h_s5 (hcf_build _ _ _ _ _) (FtR fs38) fun r200 s199 h_s199 =>
               FS.ob h_s199 (fS_F_make _ _ _ _ _ ) (le_fs36_fs38) fun r204 s203 h_s203 =>
               FS.some h_s203)
              (FS.none))
             (FS.ite (FS.ite (FS.ob h_s5 (hcf_build _ _ _ _ _) (FtR fs38) fun r210 s209 h_s209 =>
                FS.ite (FS.ob h_s209 (hcf_build _ _ _ _ _) (FtR fs38) fun r215 s214 h_s214 =>
                 FS.ob h_s214 (fS_F_make _ _ _ _ _ ) (le_fs36_fs38) fun r219 s218 h_s218 =>
                 FS.some h_s218)
                (FS.none))
               (FS.none))
              (FS.ite (FS.ite (FS.ob h_s5 (hcf_build _ _ _ _ _) (FtR fs38) fun r225 s224 h_s224 =>
                 FS.ite (FS.ob h_s224 (hcf_build _ _ _ _ _) (FtR fs38) fun r230 s229 h_s229 =>
                  FS.ob h_s229 (fS_F_make _ _ _ _ _ ) (le_fs36_fs38) fun r234 s233 h_s233 =>
                  FS.some h_s233)
                 (FS.none))
                (FS.none))
               (FS.ite (FS.ite (FS.ob h_s5 (hcf_build _ _ _ _ _) (FtR fs38) fun r240 s239 h_s239 =>
                  FS.ob h_s239 (fS_F_make _ _ _ _ _ ) (le_fs36_fs38) fun r244 s243 h_s243 =>
                  FS.some h_s243)
                 (FS.none))
                (FS.ite (FS.ite (FS.ob h_s5 (hcf_build _ _ _ _ _) (FtR fs38) fun r250 s249 h_s249 =>
                   FS.ob h_s249 (fS_F_make _ _ _ _ _ ) (le_fs36_fs38) fun r254 s253 h_s253 =>
                   FS.some h_s253)
                  (FS.none))
                 (FS.ite (FS.ite (FS.ob h_s5 (hcf_build _ _ _ _ _) (FtR fs38) fun r260 s259 h_s259 =>
                    FS.ob h_s259 (fS_F_make _ _ _ _ _ ) (le_fs36_fs38) fun r264 s263 h_s263 =>
                    FS.some h_s263)
                   (FS.none))
                  (FS.ite (FS.ite (FS.ob h_s5 (hcf_build _ _ _ _ _) (FtR fs38) fun r270 s269 h_s269 =>
                     FS.ob h_s269 (fS_F_make _ _ _ _ _ ) (le_fs36_fs38) fun r274 s273 h_s273 =>
                     FS.some h_s273)
                    (FS.none))
                   (FS.ite (FS.ite (FS.ob h_s5 (hcf_build _ _ _ _ _) (FtR fs38) fun r280 s279 h_s279 =>
                      FS.ite (FS.ob h_s279 (hcf_build _ _ _ _ _) (FtR fs38) fun r285 s284 h_s284 =>
                       FS.ob h_s284 (fS_F_make _ _ _ _ _ ) (le_fs36_fs38) fun r289 s288 h_s288 =>
                       FS.some h_s288)
                      (FS.none))
                     (FS.none))
                    (FS.ite (FS.ite (FS.ob h_s5 (hcf_build _ _ _ _ _) (FtR fs38) fun r295 s294 h_s294 =>
                       FS.ite (FS.ob h_s294 (hcf_build _ _ _ _ _) (FtR fs38) fun r300 s299 h_s299 =>
                        FS.ob h_s299 (fS_F_make _ _ _ _ _ ) (le_fs36_fs38) fun r304 s303 h_s303 =>
                        FS.some h_s303)
                       (FS.none))
                      (FS.none))
                     (FS.ite (FS.ite (FS.ob h_s5 (hcf_build _ _ _ _ _) (FtR fs38) fun r310 s309 h_s309 =>
                        FS.ite (FS.ob h_s309 (hcf_build _ _ _ _ _) (FtR fs38) fun r315 s314 h_s314 =>
                         FS.ite (FS.ob h_s314 (hcf_build _ _ _ _ _) (FtR fs38) fun r320 s319 h_s319 =>
                          FS.ob h_s319 (fS_F_make _ _ _ _ _ ) (le_fs36_fs38) fun r324 s323 h_s323 =>
                          FS.some h_s323)
                         (FS.none))
                        (FS.none))
                       (FS.none))
                      (FS.ite (FS.some h_s5)
                       (FS.ite (FS.some h_s5)
                        (FS.ite (FS.some h_s5)
                         (FS.ite (FS.ite (FS.ob h_s5 (hcf_build _ _ _ _ _) (FtR fs38) fun r333 s332 h_s332 =>
                            FS.ite (FS.ite (FS.ob h_s332 (hcf_build _ _ _ _ _) (FtR fs38) fun r339 s338 h_s338 =>
                              FS.ob h_s338 (fS_F_make _ _ _ _ _ ) (le_fs36_fs38) fun r343 s342 h_s342 =>
                              FS.some h_s342)
                             (FS.none))
                            (FS.none))
                           (FS.none))
                          (FS.ite (FS.ite (FS.ob h_s5 (hcf_build _ _ _ _ _) (FtR fs38) fun r349 s348 h_s348 =>
                             FS.ite (FS.ob h_s348 (hcf_build _ _ _ _ _) (FtR fs38) fun r354 s353 h_s353 =>
                              FS.ob h_s353 (fS_F_make _ _ _ _ _ ) (le_fs36_fs38) fun r358 s357 h_s357 =>
                              FS.some h_s357)
                             (FS.none))
                            (FS.none))
                           (FS.ite (FS.ite (FS.ob h_s5 (hcf_build _ _ _ _ _) (FtR fs38) fun r364 s363 h_s363 =>
                              FS.ite (FS.ob h_s363 (hcf_build _ _ _ _ _) (FtR fs38) fun r369 s368 h_s368 =>
                               FS.ob h_s368 (fS_F_make _ _ _ _ _ ) (le_fs36_fs38) fun r373 s372 h_s372 =>
                               FS.some h_s372)
                              (FS.none))
                             (FS.none))
                            (FS.ite (FS.ite (FS.ob h_s5 (hcf_build _ _ _ _ _) (FtR fs38) fun r379 s378 h_s378 =>
                               FS.ob h_s378 (fS_F_make _ _ _ _ _ ) (le_fs36_fs38) fun r383 s382 h_s382 =>
                               FS.some h_s382)
                              (FS.none))
                             (FS.ite (FS.ite (FS.ite (FS.ite (FS.ob h_s5 (fS_F_make _ _ _ _ _ ) (le_fs36_fs38) fun r391 s390 h_s390 =>
                                  FS.some h_s390)
                                 (FS.none))
                                (FS.none))
                               (FS.ob h_s5 (fS_F_bad _ _ _ ) (le_fs1_fs38) fun r395 s394 h_s394 =>
                                FS.ite (FS.ite (FS.ob h_s394 (fS_F_make _ _ _ _ _ ) (le_fs36_fs38) fun r401 s400 h_s400 =>
                                  FS.some h_s400)
                                 (FS.none))
                                (FS.none)))
                              (FS.ite (FS.some h_s5)
                               (FS.ite (FS.some h_s5)
                                (FS.ite (FS.some h_s5)
                                 (FS.ite (FS.some h_s5)
                                  (FS.ite (FS.some h_s5)
                                   (FS.ite (FS.some h_s5)
                                    (FS.ite (FS.some h_s5)
                                     (FS.ite (FS.some h_s5)
                                      (FS.ite (FS.some h_s5)
                                       (FS.ite (FS.some h_s5)
                                        (FS.ite (FS.some h_s5)
                                         (FS.ite (FS.some h_s5)
                                          (FS.ite (FS.some h_s5)
                                           (FS.ite (FS.some h_s5)
                                            (FS.ite (FS.some h_s5)
                                             (FS.ite (FS.nmT (Ft.p_tsI h_s5 rfl) fun s421 h_s421 =>
                                               FS.nmV fun v422 =>
                                               FS.ite (FS.ite (FS.nmT (Ft.p_tsA h_s421 rfl) fun s425 h_s425 =>
                                                 FS.ite (FS.nmT (Ft.p_tsA h_s425 rfl) fun s427 h_s427 =>
                                                  FS.ite (FS.ite (FS.ob h_s427 (hcf_build _ _ _ _ _) (FtR fs38) fun r431 s430 h_s430 =>
                                                    FS.nmT (Ft.p_tsI h_s430 rfl) fun s434 h_s434 =>
                                                    FS.some h_s434)
                                                   (FS.none))
                                                  (FS.none))
                                                 (FS.none))
                                                (FS.none))
                                               (FS.none))
                                              (FS.ite (FS.ob h_s5 (fS_L_build_248 _ hcf_build _ _ _ _ _) (FtR fs38) fun q445 s446 h_s446 =>
                                                FS.ob h_s446 (fS_F_make _ _ _ _ _ ) (le_fs36_fs38) fun r449 s448 h_s448 =>
                                                FS.some h_s448)
                                               (FS.ite (FS.ite (FS.nmV fun v455 =>
                                                  FS.ob h_s5 (fS_L_build_695 _ hcf_build _ _ _ _ _ _ _ _) (FtR fs38) fun q461 s462 h_s462 =>
                                                  FS.ite (FS.ite (FS.ob h_s462 (hcf_build _ _ _ _ _) (FtR fs38) fun r467 s466 h_s466 =>
                                                    FS.some h_s466)
                                                   (FS.none))
                                                  (FS.none))
                                                 (FS.none))
                                                (FS.some h_s5))))))))))))))))))))))))))))))))))))))))))))
     (FS.none))
    (FS.some h_s5)
theorem fS_B_build (cf_build : Int32 → Int32 → Int32 → Int32 → TS → Option (Int32 × TS)) (x1 : Int32) (x2 : Int32) (x3 : Int32) (x4 : Int32) (σ : TS) (hcf_build : ∀ (a0 : Int32) (a1 : Int32) (a2 : Int32) (a3 : Int32) (a4 : TS), FS fs38 a4 (cf_build a0 a1 a2 a3 a4)) : FS fs38 σ (B_build cf_build x1 x2 x3 x4 σ) := by
  unfold B_build
  exact FS.ob (Ft.rf _ _) (fS_F_isBad _ ) (le_fs0_fs38) fun r2 s1 h_s1 =>
    FS.ite (FS.ite (FS.call h_s1 (fS_J_build_21 _ _ _ _ _ _ hcf_build ) (FtR fs38))
     (FS.ob h_s1 (fS_F_bad _ _ _ ) (le_fs1_fs38) fun r473 s472 h_s472 =>
      FS.call h_s472 (fS_J_build_21 _ _ _ _ _ _ hcf_build ) (FtR fs38)))
    (FS.call h_s1 (fS_J_build_21 _ _ _ _ _ _ hcf_build ) (FtR fs38))
theorem fS_G_build : ∀ d : Nat, (∀ (a0 : Int32) (a1 : Int32) (a2 : Int32) (a3 : Int32) (a4 : TS), FS fs38 a4 ((G_build d) a0 a1 a2 a3 a4)) := by
  intro d
  induction d with
  | zero => exact fun _ _ _ _ _ => FS.none
  | succ d ih => exact fun a0 a1 a2 a3 a4 => fS_B_build _ a0 a1 a2 a3 a4 (fun b0 b1 b2 b3 b4 => ih b0 b1 b2 b3 b4)
theorem fS_F_build (a0 : Int32) (a1 : Int32) (a2 : Int32) (a3 : Int32) (a4 : TS) : FS fs38 a4 (F_build a0 a1 a2 a3 a4) := (fS_G_build 300) a0 a1 a2 a3 a4
theorem fS_F_unitFrom (x0 : Int32) (x1 : Int32) (x2 : Int32) (σ : TS)  : FS fs0 σ (F_unitFrom x0 x1 x2 σ) := by
  unfold F_unitFrom
  exact FS.some (Ft.rf _ _)
theorem fS_F_unitOf (x1 : Int32) (σ : TS)  : FS fs0 σ (F_unitOf x1 σ) := by
  unfold F_unitOf
  exact FS.ite (FS.nmV fun v2 =>
     FS.ite (FS.ob (Ft.rf _ _) (fS_F_unitFrom _ _ _ _ ) (FtR fs0) fun r8 s7 h_s7 =>
      FS.some h_s7)
     (FS.ob (Ft.rf _ _) (fS_F_unitFrom _ _ _ _ ) (FtR fs0) fun r4 s3 h_s3 =>
      FS.some h_s3))
    (FS.none)
theorem fS_F_part (x0 : Int64) (x2 : Int32) (σ : TS)  : FS fs0 σ (F_part x0 x2 σ) := by
  unfold F_part
  exact FS.some (Ft.rf _ _)
theorem fS_L_chainUnit_7 (cf_unit : Int32 → TS → Option (Int64 × TS)) (hcf_unit : ∀ (a0 : Int32) (a1 : TS), FS fs39 a1 (cf_unit a0 a1)) : ∀ (n : Nat) (x2 : Int32) (x3 : Int32) (σ : TS), FS fs39 σ (L_chainUnit_7 cf_unit n x2 x3 σ)
  | 0, _, _, _ => FS.none
  | n + 1, x2, x3, σ => by
    rw [L_chainUnit_7]
    exact FS.ite (FS.ob (Ft.rf _ _) (fS_F_isArithmetic _ _ ) (le_fs0_fs39) fun r4 s3 h_s3 =>
       FS.ite (FS.some h_s3)
       (FS.ite (FS.nmT (Ft.p_tsA h_s3 rfl) fun s8 h_s8 =>
         FS.nmT (Ft.p_tsI h_s8 rfl) fun s9 h_s9 =>
         FS.ite (FS.nmV fun v11 =>
          FS.call h_s9 (fS_L_chainUnit_7 _ hcf_unit _ _ _ _) (FtR fs39))
         (FS.none))
        (FS.none)))
      (FS.none)
theorem fS_J_chainUnit_225_56 (cf_unit : Int32 → TS → Option (Int64 × TS)) (rec : Int32 → Int64 → TS → Option (Int64 × TS)) (x2 : Int32) (x10 : Int64) (x12 : Int64) (y0 : Int32) (σ : TS) (hcf_unit : ∀ (a0 : Int32) (a1 : TS), FS fs39 a1 (cf_unit a0 a1)) (hrec : ∀ (a0 : Int32) (a1 : Int64) (a2 : TS), FS fs39 a2 (rec a0 a1 a2)) : FS fs39 σ (J_chainUnit_225_56 cf_unit rec x2 x10 x12 y0 σ) := by
  unfold J_chainUnit_225_56
  exact FS.ob (Ft.rf _ _) (fS_F_part _ _ _ ) (le_fs0_fs39) fun r43 s42 h_s42 =>
    FS.ob h_s42 (fS_F_part _ _ _ ) (le_fs0_fs39) fun r47 s46 h_s46 =>
    FS.ob h_s46 (fS_F_part _ _ _ ) (le_fs0_fs39) fun r51 s50 h_s50 =>
    FS.ob h_s50 (fS_F_part _ _ _ ) (le_fs0_fs39) fun r55 s54 h_s54 =>
    FS.ob h_s54 (fS_F_part _ _ _ ) (le_fs0_fs39) fun r59 s58 h_s58 =>
    FS.ob h_s58 (fS_F_part _ _ _ ) (le_fs0_fs39) fun r63 s62 h_s62 =>
    FS.ob h_s62 (fS_F_unitFrom _ _ _ _ ) (le_fs0_fs39) fun r67 s66 h_s66 =>
    FS.call h_s66 (hrec _ _ _) (FtR fs39)
theorem fS_J_chainUnit_211_56 (cf_unit : Int32 → TS → Option (Int64 × TS)) (rec : Int32 → Int64 → TS → Option (Int64 × TS)) (x2 : Int32) (x9 : Int32) (x10 : Int64) (y0 : Int64) (σ : TS) (hcf_unit : ∀ (a0 : Int32) (a1 : TS), FS fs39 a1 (cf_unit a0 a1)) (hrec : ∀ (a0 : Int32) (a1 : Int64) (a2 : TS), FS fs39 a2 (rec a0 a1 a2)) : FS fs39 σ (J_chainUnit_211_56 cf_unit rec x2 x9 x10 y0 σ) := by
  unfold J_chainUnit_211_56
  exact FS.ite (FS.call (Ft.rf _ _) (fS_J_chainUnit_225_56 _ _ _ _ _ _ _ hcf_unit hrec ) (FtR fs39))
    (FS.call (Ft.rf _ _) (fS_J_chainUnit_225_56 _ _ _ _ _ _ _ hcf_unit hrec ) (FtR fs39))
theorem fS_J_chainUnit_189_56 (cf_unit : Int32 → TS → Option (Int64 × TS)) (rec : Int32 → Int64 → TS → Option (Int64 × TS)) (x2 : Int32) (x7 : Int64) (x9 : Int32) (y0 : Int64) (σ : TS) (hcf_unit : ∀ (a0 : Int32) (a1 : TS), FS fs39 a1 (cf_unit a0 a1)) (hrec : ∀ (a0 : Int32) (a1 : Int64) (a2 : TS), FS fs39 a2 (rec a0 a1 a2)) : FS fs39 σ (J_chainUnit_189_56 cf_unit rec x2 x7 x9 y0 σ) := by
  unfold J_chainUnit_189_56
  exact FS.ite (FS.ob (Ft.rf _ _) (fS_F_unitFrom _ _ _ _ ) (le_fs0_fs39) fun r72 s71 h_s71 =>
     FS.call h_s71 (fS_J_chainUnit_211_56 _ _ _ _ _ _ _ hcf_unit hrec ) (FtR fs39))
    (FS.call (Ft.rf _ _) (fS_J_chainUnit_211_56 _ _ _ _ _ _ _ hcf_unit hrec ) (FtR fs39))
theorem fS_J_chainUnit_169_56 (cf_unit : Int32 → TS → Option (Int64 × TS)) (rec : Int32 → Int64 → TS → Option (Int64 × TS)) (x2 : Int32) (x4 : Int64) (x7 : Int64) (x9 : Int32) (σ : TS) (hcf_unit : ∀ (a0 : Int32) (a1 : TS), FS fs39 a1 (cf_unit a0 a1)) (hrec : ∀ (a0 : Int32) (a1 : Int64) (a2 : TS), FS fs39 a2 (rec a0 a1 a2)) : FS fs39 σ (J_chainUnit_169_56 cf_unit rec x2 x4 x7 x9 σ) := by
  unfold J_chainUnit_169_56
  exact FS.ite (FS.ob (Ft.rf _ _) (fS_F_unitFrom _ _ _ _ ) (le_fs0_fs39) fun r77 s76 h_s76 =>
     FS.call h_s76 (fS_J_chainUnit_189_56 _ _ _ _ _ _ _ hcf_unit hrec ) (FtR fs39))
    (FS.call (Ft.rf _ _) (fS_J_chainUnit_189_56 _ _ _ _ _ _ _ hcf_unit hrec ) (FtR fs39))
theorem fS_L_chainUnit_56 (cf_unit : Int32 → TS → Option (Int64 × TS)) (hcf_unit : ∀ (a0 : Int32) (a1 : TS), FS fs39 a1 (cf_unit a0 a1)) : ∀ (n : Nat) (x2 : Int32) (x4 : Int64) (σ : TS), FS fs39 σ (L_chainUnit_56 cf_unit n x2 x4 σ)
  | 0, _, _, _ => FS.none
  | n + 1, x2, x4, σ => by
    rw [L_chainUnit_56]
    exact FS.ite (FS.some (Ft.rf _ _))
      (FS.nmT (Ft.p_tsI (Ft.rf _ _) rfl) fun s20 h_s20 =>
       FS.ite (FS.nmV fun v22 =>
        FS.ite (FS.ob h_s20 (hcf_unit _ _) (FtR fs39) fun r25 s24 h_s24 =>
         FS.ite (FS.nmV fun v29 =>
          FS.ite (FS.ob h_s24 (fS_F_alike _ _ _ ) (le_fs0_fs39) fun r31 s30 h_s30 =>
           FS.call h_s30 (fS_L_chainUnit_56 _ hcf_unit _ _ _ _) (FtR fs39))
          (FS.ite (FS.ob h_s24 (fS_F_alike _ _ _ ) (le_fs0_fs39) fun r35 s34 h_s34 =>
            FS.call h_s34 (fS_L_chainUnit_56 _ hcf_unit _ _ _ _) (FtR fs39))
           (FS.ite (FS.ob h_s24 (fS_F_alike _ _ _ ) (le_fs0_fs39) fun r39 s38 h_s38 =>
             FS.call h_s38 (fS_L_chainUnit_56 _ hcf_unit _ _ _ _) (FtR fs39))
            (FS.ite (FS.ob h_s24 (fS_F_alike _ _ _ ) (le_fs0_fs39) fun r84 s83 h_s83 =>
              FS.call h_s83 (fS_L_chainUnit_56 _ hcf_unit _ _ _ _) (FtR fs39))
             (FS.ite (FS.ite (FS.call h_s24 (fS_L_chainUnit_56 _ hcf_unit _ _ _ _) (FtR fs39))
               (FS.call h_s24 (fS_J_chainUnit_169_56 _ _ _ _ _ _ _ hcf_unit (fun a0 a1 a2 => fS_L_chainUnit_56 cf_unit hcf_unit _ a0 a1 a2) ) (FtR fs39)))
              (FS.call h_s24 (fS_J_chainUnit_169_56 _ _ _ _ _ _ _ hcf_unit (fun a0 a1 a2 => fS_L_chainUnit_56 cf_unit hcf_unit _ a0 a1 a2) ) (FtR fs39)))))))
         (FS.none))
        (FS.none))
       (FS.none))
theorem fS_B_chainUnit (cf_unit : Int32 → TS → Option (Int64 × TS)) (x1 : Int32) (σ : TS) (hcf_unit : ∀ (a0 : Int32) (a1 : TS), FS fs39 a1 (cf_unit a0 a1)) : FS fs39 σ (B_chainUnit cf_unit x1 σ) := by
  unfold B_chainUnit
  exact FS.nmV fun v1 =>
    FS.ob (Ft.rf _ _) (fS_L_chainUnit_7 _ hcf_unit _ _ _ _) (FtR fs39) fun q13 s14 h_s14 =>
    FS.ob h_s14 (hcf_unit _ _) (FtR fs39) fun r17 s16 h_s16 =>
    FS.ob h_s16 (fS_L_chainUnit_56 _ hcf_unit _ _ _ _) (FtR fs39) fun q92 s93 h_s93 =>
    FS.some h_s93
theorem fS_B_unit (cf_unit : Int32 → TS → Option (Int64 × TS)) (cf_chainUnit : Int32 → TS → Option (Int64 × TS)) (x1 : Int32) (σ : TS) (hcf_unit : ∀ (a0 : Int32) (a1 : TS), FS fs39 a1 (cf_unit a0 a1)) (hcf_chainUnit : ∀ (a0 : Int32) (a1 : TS), FS fs39 a1 (cf_chainUnit a0 a1)) : FS fs39 σ (B_unit cf_unit cf_chainUnit x1 σ) := by
  unfold B_unit
  exact FS.ite (FS.ite (FS.some (Ft.rf _ _))
     (FS.ite (FS.ob (Ft.rf _ _) (fS_F_unitFrom _ _ _ _ ) (le_fs0_fs39) fun r5 s4 h_s4 =>
       FS.some h_s4)
      (FS.ite (FS.ite (FS.ob (Ft.rf _ _) (fS_F_unitOf _ _ ) (le_fs0_fs39) fun r11 s10 h_s10 =>
         FS.some h_s10)
        (FS.none))
       (FS.ite (FS.ite (FS.ob (Ft.rf _ _) (fS_F_unitOf _ _ ) (le_fs0_fs39) fun r17 s16 h_s16 =>
          FS.ob h_s16 (fS_F_part _ _ _ ) (le_fs0_fs39) fun r21 s20 h_s20 =>
          FS.ob h_s20 (fS_F_part _ _ _ ) (le_fs0_fs39) fun r25 s24 h_s24 =>
          FS.ob h_s24 (fS_F_part _ _ _ ) (le_fs0_fs39) fun r29 s28 h_s28 =>
          FS.ob h_s28 (fS_F_unitFrom _ _ _ _ ) (le_fs0_fs39) fun r33 s32 h_s32 =>
          FS.some h_s32)
         (FS.none))
        (FS.ite (FS.ite (FS.ob (Ft.rf _ _) (fS_F_unitOf _ _ ) (le_fs0_fs39) fun r39 s38 h_s38 =>
           FS.some h_s38)
          (FS.none))
         (FS.ite (FS.ob (Ft.rf _ _) (hcf_chainUnit _ _) (FtR fs39) fun r44 s43 h_s43 =>
           FS.some h_s43)
          (FS.ite (FS.ob (Ft.rf _ _) (hcf_chainUnit _ _) (FtR fs39) fun r49 s48 h_s48 =>
            FS.some h_s48)
           (FS.ite (FS.ite (FS.ob (Ft.rf _ _) (hcf_unit _ _) (FtR fs39) fun r55 s54 h_s54 =>
              FS.some h_s54)
             (FS.none))
            (FS.ite (FS.ob (Ft.rf _ _) (hcf_chainUnit _ _) (FtR fs39) fun r60 s59 h_s59 =>
              FS.some h_s59)
             (FS.ite (FS.ob (Ft.rf _ _) (hcf_chainUnit _ _) (FtR fs39) fun r65 s64 h_s64 =>
               FS.some h_s64)
              (FS.ite (FS.ite (FS.ob (Ft.rf _ _) (hcf_unit _ _) (FtR fs39) fun r71 s70 h_s70 =>
                 FS.some h_s70)
                (FS.none))
               (FS.ite (FS.ite (FS.ob (Ft.rf _ _) (hcf_unit _ _) (FtR fs39) fun r77 s76 h_s76 =>
                  FS.ite (FS.ob h_s76 (fS_F_part _ _ _ ) (le_fs0_fs39) fun r81 s80 h_s80 =>
                   FS.ite (FS.ob h_s80 (fS_F_part _ _ _ ) (le_fs0_fs39) fun r85 s84 h_s84 =>
                    FS.ite (FS.ob h_s84 (fS_F_part _ _ _ ) (le_fs0_fs39) fun r89 s88 h_s88 =>
                     FS.ite (FS.ob h_s88 (fS_F_part _ _ _ ) (le_fs0_fs39) fun r93 s92 h_s92 =>
                      FS.ob h_s92 (fS_F_part _ _ _ ) (le_fs0_fs39) fun r97 s96 h_s96 =>
                      FS.ob h_s96 (fS_F_part _ _ _ ) (le_fs0_fs39) fun r101 s100 h_s100 =>
                      FS.ob h_s100 (fS_F_unitFrom _ _ _ _ ) (le_fs0_fs39) fun r105 s104 h_s104 =>
                      FS.some h_s104)
                     (FS.some h_s88))
                    (FS.some h_s84))
                   (FS.some h_s80))
                  (FS.some h_s76))
                 (FS.none))
                (FS.ite (FS.ite (FS.ob (Ft.rf _ _) (hcf_unit _ _) (FtR fs39) fun r115 s114 h_s114 =>
                   FS.ite (FS.some h_s114)
                   (FS.some h_s114))
                  (FS.none))
                 (FS.ite (FS.ite (FS.ob (Ft.rf _ _) (hcf_unit _ _) (FtR fs39) fun r122 s121 h_s121 =>
                    FS.some h_s121)
                   (FS.none))
                  (FS.ite (FS.ite (FS.ob (Ft.rf _ _) (hcf_unit _ _) (FtR fs39) fun r128 s127 h_s127 =>
                     FS.ite (FS.ob h_s127 (hcf_unit _ _) (FtR fs39) fun r133 s132 h_s132 =>
                      FS.ob h_s132 (fS_F_alike _ _ _ ) (le_fs0_fs39) fun r137 s136 h_s136 =>
                      FS.some h_s136)
                     (FS.none))
                    (FS.none))
                   (FS.ite (FS.ite (FS.ob (Ft.rf _ _) (hcf_unit _ _) (FtR fs39) fun r143 s142 h_s142 =>
                      FS.ite (FS.ob h_s142 (hcf_unit _ _) (FtR fs39) fun r148 s147 h_s147 =>
                       FS.ob h_s147 (fS_F_alike _ _ _ ) (le_fs0_fs39) fun r152 s151 h_s151 =>
                       FS.some h_s151)
                      (FS.none))
                     (FS.none))
                    (FS.ite (FS.ite (FS.ob (Ft.rf _ _) (hcf_unit _ _) (FtR fs39) fun r158 s157 h_s157 =>
                       FS.ite (FS.ob h_s157 (hcf_unit _ _) (FtR fs39) fun r163 s162 h_s162 =>
                        FS.ob h_s162 (fS_F_alike _ _ _ ) (le_fs0_fs39) fun r167 s166 h_s166 =>
                        FS.some h_s166)
                       (FS.none))
                      (FS.none))
                     (FS.ob (Ft.rf _ _) (hcf_chainUnit _ _) (FtR fs39) fun r171 s170 h_s170 =>
                      FS.some h_s170))))))))))))))))))
    (FS.none)
theorem fS_G_chainUnit : ∀ d : Nat, (∀ (a0 : Int32) (a1 : TS), FS fs39 a1 ((G_chainUnit d).1 a0 a1)) ∧ (∀ (a0 : Int32) (a1 : TS), FS fs39 a1 ((G_chainUnit d).2 a0 a1)) := by
  intro d
  induction d with
  | zero => exact ⟨fun _ _ => FS.none, fun _ _ => FS.none⟩
  | succ d ih => exact ⟨fun a0 a1 => fS_B_chainUnit _ a0 a1 (fun b0 b1 => ih.2 b0 b1), fun a0 a1 => fS_B_unit _ _ a0 a1 (fun b0 b1 => ih.2 b0 b1) (fun b0 b1 => ih.1 b0 b1)⟩
theorem fS_F_chainUnit (a0 : Int32) (a1 : TS) : FS fs39 a1 (F_chainUnit a0 a1) := (fS_G_chainUnit 300).1 a0 a1
theorem fS_F_unit (a0 : Int32) (a1 : TS) : FS fs39 a1 (F_unit a0 a1) := (fS_G_chainUnit 300).2 a0 a1
theorem fS_J_hasDer_91_2 (cf_hasDer : Int32 → Int32 → TS → Option (Int32 × TS)) (rec : Int32 → Int32 → TS → Option ((Unit ⊕ Int32) × TS)) (x2 : Int32) (x3 : Int32) (σ : TS) (hcf_hasDer : ∀ (a0 : Int32) (a1 : Int32) (a2 : TS), FS fs0 a2 (cf_hasDer a0 a1 a2)) (hrec : ∀ (a0 : Int32) (a1 : Int32) (a2 : TS), FS fs0 a2 (rec a0 a1 a2)) : FS fs0 σ (J_hasDer_91_2 cf_hasDer rec x2 x3 σ) := by
  unfold J_hasDer_91_2
  exact FS.ite (FS.ob (Ft.rf _ _) (hcf_hasDer _ _ _) (FtR fs0) fun r5 s4 h_s4 =>
     FS.ite (FS.ite (FS.nmV fun v9 =>
       FS.call h_s4 (hrec _ _ _) (FtR fs0))
      (FS.none))
     (FS.some h_s4))
    (FS.none)
theorem fS_L_hasDer_2 (cf_hasDer : Int32 → Int32 → TS → Option (Int32 × TS)) (hcf_hasDer : ∀ (a0 : Int32) (a1 : Int32) (a2 : TS), FS fs0 a2 (cf_hasDer a0 a1 a2)) : ∀ (n : Nat) (x2 : Int32) (x3 : Int32) (σ : TS), FS fs0 σ (L_hasDer_2 cf_hasDer n x2 x3 σ)
  | 0, _, _, _ => FS.none
  | n + 1, x2, x3, σ => by
    rw [L_hasDer_2]
    exact FS.ite (FS.some (Ft.rf _ _))
      (FS.ite (FS.nmV fun v2 =>
        FS.ite (FS.ite (FS.ite (FS.some (Ft.rf _ _))
          (FS.some (Ft.rf _ _)))
         (FS.none))
        (FS.ite (FS.call (Ft.rf _ _) (fS_J_hasDer_91_2 _ _ _ _ _ hcf_hasDer (fun a0 a1 a2 => fS_L_hasDer_2 cf_hasDer hcf_hasDer _ a0 a1 a2) ) (FtR fs0))
         (FS.ite (FS.call (Ft.rf _ _) (fS_J_hasDer_91_2 _ _ _ _ _ hcf_hasDer (fun a0 a1 a2 => fS_L_hasDer_2 cf_hasDer hcf_hasDer _ a0 a1 a2) ) (FtR fs0))
          (FS.ite (FS.call (Ft.rf _ _) (fS_J_hasDer_91_2 _ _ _ _ _ hcf_hasDer (fun a0 a1 a2 => fS_L_hasDer_2 cf_hasDer hcf_hasDer _ a0 a1 a2) ) (FtR fs0))
           (FS.ite (FS.call (Ft.rf _ _) (fS_J_hasDer_91_2 _ _ _ _ _ hcf_hasDer (fun a0 a1 a2 => fS_L_hasDer_2 cf_hasDer hcf_hasDer _ a0 a1 a2) ) (FtR fs0))
            (FS.ite (FS.call (Ft.rf _ _) (fS_J_hasDer_91_2 _ _ _ _ _ hcf_hasDer (fun a0 a1 a2 => fS_L_hasDer_2 cf_hasDer hcf_hasDer _ a0 a1 a2) ) (FtR fs0))
             (FS.ite (FS.call (Ft.rf _ _) (fS_J_hasDer_91_2 _ _ _ _ _ hcf_hasDer (fun a0 a1 a2 => fS_L_hasDer_2 cf_hasDer hcf_hasDer _ a0 a1 a2) ) (FtR fs0))
              (FS.ite (FS.call (Ft.rf _ _) (fS_J_hasDer_91_2 _ _ _ _ _ hcf_hasDer (fun a0 a1 a2 => fS_L_hasDer_2 cf_hasDer hcf_hasDer _ a0 a1 a2) ) (FtR fs0))
               (FS.ite (FS.call (Ft.rf _ _) (fS_J_hasDer_91_2 _ _ _ _ _ hcf_hasDer (fun a0 a1 a2 => fS_L_hasDer_2 cf_hasDer hcf_hasDer _ a0 a1 a2) ) (FtR fs0))
                (FS.ite (FS.ite (FS.nmV fun v12 =>
                   FS.call (Ft.rf _ _) (fS_L_hasDer_2 _ hcf_hasDer _ _ _ _) (FtR fs0))
                  (FS.none))
                 (FS.ite (FS.ite (FS.nmV fun v14 =>
                    FS.call (Ft.rf _ _) (fS_L_hasDer_2 _ hcf_hasDer _ _ _ _) (FtR fs0))
                   (FS.none))
                  (FS.ite (FS.ite (FS.nmV fun v16 =>
                     FS.call (Ft.rf _ _) (fS_L_hasDer_2 _ hcf_hasDer _ _ _ _) (FtR fs0))
                    (FS.none))
                   (FS.ite (FS.ite (FS.nmV fun v18 =>
                      FS.call (Ft.rf _ _) (fS_L_hasDer_2 _ hcf_hasDer _ _ _ _) (FtR fs0))
                     (FS.none))
                    (FS.ite (FS.ite (FS.nmV fun v20 =>
                       FS.call (Ft.rf _ _) (fS_L_hasDer_2 _ hcf_hasDer _ _ _ _) (FtR fs0))
                      (FS.none))
                     (FS.ite (FS.ite (FS.nmV fun v46 =>
                        FS.call (Ft.rf _ _) (fS_L_hasDer_2 _ hcf_hasDer _ _ _ _) (FtR fs0))
                       (FS.none))
                      (FS.ite (FS.ite (FS.ob (Ft.rf _ _) (hcf_hasDer _ _ _) (FtR fs0) fun r32 s31 h_s31 =>
                         FS.ite (FS.ite (FS.ob h_s31 (hcf_hasDer _ _ _) (FtR fs0) fun r37 s36 h_s36 =>
                           FS.ite (FS.ite (FS.nmV fun v41 =>
                             FS.call h_s36 (fS_L_hasDer_2 _ hcf_hasDer _ _ _ _) (FtR fs0))
                            (FS.none))
                           (FS.some h_s36))
                          (FS.none))
                         (FS.some h_s31))
                        (FS.none))
                       (FS.ite (FS.ite (FS.ob (Ft.rf _ _) (hcf_hasDer _ _ _) (FtR fs0) fun r23 s22 h_s22 =>
                          FS.ite (FS.ite (FS.nmV fun v27 =>
                            FS.call h_s22 (fS_L_hasDer_2 _ hcf_hasDer _ _ _ _) (FtR fs0))
                           (FS.none))
                          (FS.some h_s22))
                         (FS.none))
                        (FS.some (Ft.rf _ _)))))))))))))))))))
       (FS.none))
theorem fS_B_hasDer (cf_hasDer : Int32 → Int32 → TS → Option (Int32 × TS)) (x1 : Int32) (x2 : Int32) (σ : TS) (hcf_hasDer : ∀ (a0 : Int32) (a1 : Int32) (a2 : TS), FS fs0 a2 (cf_hasDer a0 a1 a2)) : FS fs0 σ (B_hasDer cf_hasDer x1 x2 σ) := by
  unfold B_hasDer
  exact FS.obS (Ft.rf _ _) (fS_L_hasDer_2 _ hcf_hasDer _ _ _ _) (FtR fs0) (fun r69 s66 h_s66 => FS.some h_s66) fun q65 s66 h_s66 =>
    FS.some h_s66
theorem fS_G_hasDer : ∀ d : Nat, (∀ (a0 : Int32) (a1 : Int32) (a2 : TS), FS fs0 a2 ((G_hasDer d) a0 a1 a2)) := by
  intro d
  induction d with
  | zero => exact fun _ _ _ => FS.none
  | succ d ih => exact fun a0 a1 a2 => fS_B_hasDer _ a0 a1 a2 (fun b0 b1 b2 => ih b0 b1 b2)
theorem fS_F_hasDer (a0 : Int32) (a1 : Int32) (a2 : TS) : FS fs0 a2 (F_hasDer a0 a1 a2) := (fS_G_hasDer 300) a0 a1 a2
theorem fS_L_isDerived_2   : ∀ (n : Nat) (x1 : Int32) (x2 : Int32) (σ : TS), FS fs0 σ (L_isDerived_2  n x1 x2 σ)
  | 0, _, _, _ => FS.none
  | n + 1, x1, x2, σ => by
    rw [L_isDerived_2]
    exact FS.ite (FS.some (Ft.rf _ _))
      (FS.ite (FS.ob (Ft.rf _ _) (fS_F_hasDer  _ _ _) (FtR fs0) fun r3 s2 h_s2 =>
        FS.ite (FS.ite (FS.ob h_s2 (fS_F_hasDer  _ _ _) (FtR fs0) fun r8 s7 h_s7 =>
          FS.ite (FS.nmV fun v11 =>
           FS.call h_s7 (fS_L_isDerived_2  _ _ _ _) (FtR fs0))
          (FS.some h_s7))
         (FS.none))
        (FS.some h_s2))
       (FS.none))
theorem fS_F_isDerived (x1 : Int32) (σ : TS)  : FS fs0 σ (F_isDerived x1 σ) := by
  unfold F_isDerived
  exact FS.obS (Ft.rf _ _) (fS_L_isDerived_2  _ _ _ _) (FtR fs0) (fun r19 s16 h_s16 => FS.some h_s16) fun q15 s16 h_s16 =>
    FS.some h_s16
theorem fS_L_checkActions_2   : ∀ (n : Nat) (x1 : Int32) (σ : TS), FS fs1 σ (L_checkActions_2  n x1 σ)
  | 0, _, _ => FS.none
  | n + 1, x1, σ => by
    rw [L_checkActions_2]
    exact FS.ite (FS.some (Ft.rf _ _))
      (FS.ite (FS.ite (FS.ite (FS.ob (Ft.rf _ _) (fS_F_isDerived _ _ ) (le_fs0_fs1) fun r5 s4 h_s4 =>
          FS.ite (FS.ob h_s4 (fS_F_bad _ _ _ ) (FtR fs1) fun r10 s9 h_s9 =>
           FS.nmV fun v13 =>
           FS.call h_s9 (fS_L_checkActions_2  _ _ _) (FtR fs1))
          (FS.nmV fun v8 =>
           FS.call h_s4 (fS_L_checkActions_2  _ _ _) (FtR fs1)))
         (FS.none))
        (FS.nmV fun v2 =>
         FS.call (Ft.rf _ _) (fS_L_checkActions_2  _ _ _) (FtR fs1)))
       (FS.none))
theorem fS_L_checkActions_90   : ∀ (n : Nat) (x1 : Int32) (x2 : Int32) (x3 : Int32) (x4 : Int32) (σ : TS), FS fs0 σ (L_checkActions_90  n x1 x2 x3 x4 σ)
  | 0, _, _, _, _, _ => FS.none
  | n + 1, x1, x2, x3, x4, σ => by
    rw [L_checkActions_90]
    exact FS.ite (FS.some (Ft.rf _ _))
      (FS.ite (FS.ite (FS.ite (FS.ite (FS.ite (FS.nmV fun v27 =>
            FS.call (Ft.rf _ _) (fS_L_checkActions_90  _ _ _ _ _ _) (FtR fs0))
           (FS.nmV fun v26 =>
            FS.call (Ft.rf _ _) (fS_L_checkActions_90  _ _ _ _ _ _) (FtR fs0)))
          (FS.none))
         (FS.nmV fun v24 =>
          FS.call (Ft.rf _ _) (fS_L_checkActions_90  _ _ _ _ _ _) (FtR fs0)))
        (FS.none))
       (FS.nmV fun v22 =>
        FS.call (Ft.rf _ _) (fS_L_checkActions_90  _ _ _ _ _ _) (FtR fs0)))
theorem fS_J_checkActions_84_49 (rec : Int32 → TS → Option (Unit × TS)) (x1 : Int32) (y0 : Int32) (σ : TS) (hrec : ∀ (a0 : Int32) (a1 : TS), FS fs1 a1 (rec a0 a1)) : FS fs1 σ (J_checkActions_84_49 rec x1 y0 σ) := by
  unfold J_checkActions_84_49
  exact FS.ob (Ft.rf _ _) (fS_L_checkActions_90  _ _ _ _ _ _) (le_fs0_fs1) fun q32 s33 h_s33 =>
    FS.ite (FS.ob h_s33 (fS_F_bad _ _ _ ) (FtR fs1) fun r37 s36 h_s36 =>
     FS.nmV fun v40 =>
     FS.call h_s36 (hrec _ _) (FtR fs1))
    (FS.ite (FS.ob h_s33 (fS_F_bad _ _ _ ) (FtR fs1) fun r43 s42 h_s42 =>
      FS.nmV fun v46 =>
      FS.call h_s42 (hrec _ _) (FtR fs1))
     (FS.nmV fun v41 =>
      FS.call h_s33 (hrec _ _) (FtR fs1)))
theorem fS_L_checkActions_49   : ∀ (n : Nat) (x1 : Int32) (σ : TS), FS fs1 σ (L_checkActions_49  n x1 σ)
  | 0, _, _ => FS.none
  | n + 1, x1, σ => by
    rw [L_checkActions_49]
    exact FS.ite (FS.some (Ft.rf _ _))
      (FS.ite (FS.ite (FS.ite (FS.ite (FS.call (Ft.rf _ _) (fS_J_checkActions_84_49 _ _ _ _ (fun a0 a1 => fS_L_checkActions_49   _ a0 a1) ) (FtR fs1))
          (FS.call (Ft.rf _ _) (fS_J_checkActions_84_49 _ _ _ _ (fun a0 a1 => fS_L_checkActions_49   _ a0 a1) ) (FtR fs1)))
         (FS.none))
        (FS.nmV fun v51 =>
         FS.call (Ft.rf _ _) (fS_L_checkActions_49  _ _ _) (FtR fs1)))
       (FS.none))
theorem fS_F_checkActions (σ : TS)  : FS fs1 σ (F_checkActions σ) := by
  unfold F_checkActions
  exact FS.ob (Ft.rf _ _) (fS_L_checkActions_2  _ _ _) (FtR fs1) fun q17 s18 h_s18 =>
    FS.ob h_s18 (fS_L_checkActions_49  _ _ _) (FtR fs1) fun q54 s55 h_s55 =>
    FS.some h_s55
theorem fS_L_unmark_2   : ∀ (n : Nat) (x1 : Int32) (σ : TS), FS fs40 σ (L_unmark_2  n x1 σ)
  | 0, _, _ => FS.none
  | n + 1, x1, σ => by
    rw [L_unmark_2]
    exact FS.ite (FS.some (Ft.rf _ _))
      (FS.ite (FS.nmT (Ft.p_tsA (Ft.rf _ _) rfl) fun s2 h_s2 =>
        FS.nmV fun v3 =>
        FS.call h_s2 (fS_L_unmark_2  _ _ _) (FtR fs40))
       (FS.none))
theorem fS_L_unmark_24   : ∀ (n : Nat) (x1 : Int32) (σ : TS), FS fs41 σ (L_unmark_24  n x1 σ)
  | 0, _, _ => FS.none
  | n + 1, x1, σ => by
    rw [L_unmark_24]
    exact FS.ite (FS.some (Ft.rf _ _))
      (FS.ite (FS.nmT (Ft.p_tsA (Ft.rf _ _) rfl) fun s9 h_s9 =>
        FS.nmV fun v10 =>
        FS.call h_s9 (fS_L_unmark_24  _ _ _) (FtR fs41))
       (FS.none))
theorem fS_F_unmark (σ : TS)  : FS fs42 σ (F_unmark σ) := by
  unfold F_unmark
  exact FS.ob (Ft.rf _ _) (fS_L_unmark_2  _ _ _) (le_fs40_fs42) fun q5 s6 h_s6 =>
    FS.ob h_s6 (fS_L_unmark_24  _ _ _) (le_fs41_fs42) fun q12 s13 h_s13 =>
    FS.some h_s13
theorem fS_L_chooseStates_7   : ∀ (n : Nat) (x1 : Int32) (σ : TS), FS fs43 σ (L_chooseStates_7  n x1 σ)
  | 0, _, _ => FS.none
  | n + 1, x1, σ => by
    rw [L_chooseStates_7]
    exact FS.ite (FS.some (Ft.rf _ _))
      (FS.ite (FS.ite (FS.nmT (Ft.p_tsA (Ft.rf _ _) rfl) fun s4 h_s4 =>
         FS.ite (FS.nmT (Ft.p_tsA h_s4 rfl) fun s6 h_s6 =>
          FS.nmV fun v7 =>
          FS.call h_s6 (fS_L_chooseStates_7  _ _ _) (FtR fs43))
         (FS.none))
        (FS.none))
       (FS.none))
theorem fS_L_chooseStates_42   : ∀ (n : Nat) (x1 : Int32) (σ : TS), FS fs44 σ (L_chooseStates_42  n x1 σ)
  | 0, _, _ => FS.none
  | n + 1, x1, σ => by
    rw [L_chooseStates_42]
    exact FS.ite (FS.some (Ft.rf _ _))
      (FS.ob (Ft.rf _ _) (fS_F_isBad _ ) (le_fs0_fs44) fun r13 s12 h_s12 =>
       FS.ite (FS.ite (FS.ite (FS.ite (FS.ite (FS.ob h_s12 (fS_F_unmark _ ) (le_fs42_fs44) fun r21 s20 h_s20 =>
            FS.ob h_s20 (fS_F_attempt  _ _) (le_fs27_fs44) fun r25 s24 h_s24 =>
            FS.ite (FS.ob h_s24 (fS_F_bad _ _ _ ) (le_fs1_fs44) fun r30 s29 h_s29 =>
             FS.nmV fun v33 =>
             FS.call h_s29 (fS_L_chooseStates_42  _ _ _) (FtR fs44))
            (FS.nmV fun v28 =>
             FS.call h_s24 (fS_L_chooseStates_42  _ _ _) (FtR fs44)))
           (FS.nmV fun v35 =>
            FS.call h_s12 (fS_L_chooseStates_42  _ _ _) (FtR fs44)))
          (FS.none))
         (FS.nmV fun v18 =>
          FS.call h_s12 (fS_L_chooseStates_42  _ _ _) (FtR fs44)))
        (FS.none))
       (FS.some h_s12))
theorem fS_J_chooseStates_155_115 (rec : Int32 → TS → Option (Unit × TS)) (x1 : Int32) (y1 : Int32) (y2 : Int32) (σ : TS) (hrec : ∀ (a0 : Int32) (a1 : TS), FS fs45 a1 (rec a0 a1)) : FS fs45 σ (J_chooseStates_155_115 rec x1 y1 y2 σ) := by
  unfold J_chooseStates_155_115
  exact FS.ite (FS.nmT (Ft.p_tsA (Ft.rf _ _) rfl) fun s48 h_s48 =>
     FS.ite (FS.ite (FS.ite (FS.nmT (Ft.p_tsA h_s48 rfl) fun s56 h_s56 =>
        FS.nmT (Ft.p_tsI h_s56 rfl) fun s57 h_s57 =>
        FS.ite (FS.ite (FS.nmT (Ft.p_tsI h_s57 rfl) fun s60 h_s60 =>
          FS.nmV fun v61 =>
          FS.call h_s60 (hrec _ _) (FtR fs45))
         (FS.nmV fun v59 =>
          FS.call h_s57 (hrec _ _) (FtR fs45)))
        (FS.none))
       (FS.none))
      (FS.ite (FS.ite (FS.nmT (Ft.p_tsI h_s48 rfl) fun s52 h_s52 =>
         FS.nmV fun v53 =>
         FS.call h_s52 (hrec _ _) (FtR fs45))
        (FS.nmV fun v51 =>
         FS.call h_s48 (hrec _ _) (FtR fs45)))
       (FS.none)))
     (FS.none))
    (FS.none)
theorem fS_L_chooseStates_115   : ∀ (n : Nat) (x1 : Int32) (σ : TS), FS fs45 σ (L_chooseStates_115  n x1 σ)
  | 0, _, _ => FS.none
  | n + 1, x1, σ => by
    rw [L_chooseStates_115]
    exact FS.ite (FS.some (Ft.rf _ _))
      (FS.ite (FS.ite (FS.ite (FS.ite (FS.call (Ft.rf _ _) (fS_J_chooseStates_155_115 _ _ _ _ _ (fun a0 a1 => fS_L_chooseStates_115   _ a0 a1) ) (FtR fs45))
          (FS.call (Ft.rf _ _) (fS_J_chooseStates_155_115 _ _ _ _ _ (fun a0 a1 => fS_L_chooseStates_115   _ a0 a1) ) (FtR fs45)))
         (FS.none))
        (FS.call (Ft.rf _ _) (fS_J_chooseStates_155_115 _ _ _ _ _ (fun a0 a1 => fS_L_chooseStates_115   _ a0 a1) ) (FtR fs45)))
       (FS.none))
theorem fS_J_chooseStates_103 (σ : TS)  : FS fs45 σ (J_chooseStates_103 σ) := by
  unfold J_chooseStates_103
  exact FS.nmT (Ft.p_tsI (Ft.rf _ _) rfl) fun s43 h_s43 =>
    FS.nmT (Ft.p_tsI h_s43 rfl) fun s44 h_s44 =>
    FS.ob h_s44 (fS_L_chooseStates_115  _ _ _) (FtR fs45) fun q67 s68 h_s68 =>
    FS.some h_s68
theorem fS_F_chooseStates (σ : TS)  : FS fs46 σ (F_chooseStates σ) := by
  unfold F_chooseStates
  exact FS.nmT (Ft.p_tsI (Ft.rf _ _) rfl) fun s1 h_s1 =>
    FS.ob h_s1 (fS_L_chooseStates_7  _ _ _) (le_fs43_fs46) fun q9 s10 h_s10 =>
    FS.ob h_s10 (fS_L_chooseStates_42  _ _ _) (le_fs44_fs46) fun q40 s41 h_s41 =>
    FS.call h_s41 (fS_J_chooseStates_103 _ ) (le_fs45_fs46)
theorem fS_L_classOf_2   : ∀ (n : Nat) (x1 : Int64) (x3 : Int32) (σ : TS), FS fs0 σ (L_classOf_2  n x1 x3 σ)
  | 0, _, _, _ => FS.none
  | n + 1, x1, x3, σ => by
    rw [L_classOf_2]
    exact FS.ite (FS.some (Ft.rf _ _))
      (FS.ite (FS.ite (FS.some (Ft.rf _ _))
        (FS.nmV fun v2 =>
         FS.call (Ft.rf _ _) (fS_L_classOf_2  _ _ _ _) (FtR fs0)))
       (FS.none))
theorem fS_F_classOf (x1 : Int64) (σ : TS)  : FS fs0 σ (F_classOf x1 σ) := by
  unfold F_classOf
  exact FS.obS (Ft.rf _ _) (fS_L_classOf_2  _ _ _ _) (FtR fs0) (fun r9 s6 h_s6 => FS.some h_s6) fun q5 s6 h_s6 =>
    FS.some h_s6
theorem fS_L_classFor_19   : ∀ (n : Nat) (x1 : Int32) (x2 : Int32) (x4 : Int64) (x6 : Int32) (x7 : Int32) (σ : TS), FS fs0 σ (L_classFor_19  n x1 x2 x4 x6 x7 σ)
  | 0, _, _, _, _, _, _ => FS.none
  | n + 1, x1, x2, x4, x6, x7, σ => by
    rw [L_classFor_19]
    exact FS.ite (FS.ite (FS.ite (FS.some (Ft.rf _ _))
        (FS.ite (FS.ite (FS.ite (FS.nmV fun v8 =>
            FS.call (Ft.rf _ _) (fS_L_classFor_19  _ _ _ _ _ _ _) (FtR fs0))
           (FS.ite (FS.ite (FS.ite (FS.ite (FS.ite (FS.nmV fun v14 =>
                 FS.nmV fun v15 =>
                 FS.call (Ft.rf _ _) (fS_L_classFor_19  _ _ _ _ _ _ _) (FtR fs0))
                (FS.none))
               (FS.nmV fun v12 =>
                FS.call (Ft.rf _ _) (fS_L_classFor_19  _ _ _ _ _ _ _) (FtR fs0)))
              (FS.none))
             (FS.none))
            (FS.none)))
          (FS.none))
         (FS.some (Ft.rf _ _))))
       (FS.none))
      (FS.none)
theorem fS_L_classFor_118   : ∀ (n : Nat) (x1 : Int32) (x4 : Int64) (x6 : Int32) (x7 : Int32) (x8 : Int32) (σ : TS), FS fs0 σ (L_classFor_118  n x1 x4 x6 x7 x8 σ)
  | 0, _, _, _, _, _, _ => FS.none
  | n + 1, x1, x4, x6, x7, x8, σ => by
    rw [L_classFor_118]
    exact FS.ite (FS.some (Ft.rf _ _))
      (FS.ite (FS.ite (FS.ite (FS.ite (FS.nmV fun v29 =>
           FS.call (Ft.rf _ _) (fS_L_classFor_118  _ _ _ _ _ _ _) (FtR fs0))
          (FS.none))
         (FS.ite (FS.ite (FS.ite (FS.ite (FS.nmV fun v35 =>
              FS.call (Ft.rf _ _) (fS_L_classFor_118  _ _ _ _ _ _ _) (FtR fs0))
             (FS.none))
            (FS.ite (FS.nmV fun v33 =>
              FS.call (Ft.rf _ _) (fS_L_classFor_118  _ _ _ _ _ _ _) (FtR fs0))
             (FS.none)))
           (FS.none))
          (FS.none)))
        (FS.none))
       (FS.some (Ft.rf _ _)))
theorem fS_L_classFor_95   : ∀ (n : Nat) (x1 : Int32) (x4 : Int64) (x6 : Int32) (x7 : Int32) (σ : TS), FS fs0 σ (L_classFor_95  n x1 x4 x6 x7 σ)
  | 0, _, _, _, _, _ => FS.none
  | n + 1, x1, x4, x6, x7, σ => by
    rw [L_classFor_95]
    exact FS.ite (FS.some (Ft.rf _ _))
      (FS.ite (FS.ite (FS.nmV fun v25 =>
         FS.ob (Ft.rf _ _) (fS_L_classFor_118  _ _ _ _ _ _ _) (FtR fs0) fun q40 s41 h_s41 =>
         FS.nmV fun v43 =>
         FS.call h_s41 (fS_L_classFor_95  _ _ _ _ _ _) (FtR fs0))
        (FS.none))
       (FS.some (Ft.rf _ _)))
theorem fS_J_classFor_177 (x1 : Int32) (x4 : Int64) (x6 : Int32) (σ : TS)  : FS fs1 σ (J_classFor_177 x1 x4 x6 σ) := by
  unfold J_classFor_177
  exact FS.ob (Ft.rf _ _) (fS_F_classOf _ _ ) (le_fs0_fs1) fun r51 s50 h_s50 =>
    FS.ite (FS.ite (FS.some h_s50)
     (FS.ite (FS.ob h_s50 (fS_F_classOf _ _ ) (le_fs0_fs1) fun r56 s55 h_s55 =>
       FS.ite (FS.ite (FS.ob h_s55 (fS_F_bad _ _ _ ) (FtR fs1) fun r61 s60 h_s60 =>
         FS.some h_s60)
        (FS.ite (FS.ob h_s55 (fS_F_bad _ _ _ ) (FtR fs1) fun r65 s64 h_s64 =>
          FS.some h_s64)
         (FS.ite (FS.ite (FS.ite (FS.some h_s55)
            (FS.ob h_s55 (fS_F_bad _ _ _ ) (FtR fs1) fun r71 s70 h_s70 =>
             FS.some h_s70))
           (FS.none))
          (FS.none))))
       (FS.none))
      (FS.none)))
    (FS.ob h_s50 (fS_F_bad _ _ _ ) (FtR fs1) fun r79 s78 h_s78 =>
     FS.some h_s78)
theorem fS_J_classFor_89 (x1 : Int32) (x4 : Int64) (x6 : Int32) (σ : TS)  : FS fs1 σ (J_classFor_89 x1 x4 x6 σ) := by
  unfold J_classFor_89
  exact FS.nmV fun v23 =>
    FS.ob (Ft.rf _ _) (fS_L_classFor_95  _ _ _ _ _ _) (le_fs0_fs1) fun q47 s48 h_s48 =>
    FS.call h_s48 (fS_J_classFor_177 _ _ _ _ ) (FtR fs1)
theorem fS_F_classFor (x1 : Int32) (x2 : Int32) (x3 : Int32) (σ : TS)  : FS fs1 σ (F_classFor x1 x2 x3 σ) := by
  unfold F_classFor
  exact FS.ite (FS.nmV fun v2 =>
     FS.ite (FS.nmV fun v4 =>
      FS.ob (Ft.rf _ _) (fS_L_classFor_19  _ _ _ _ _ _ _) (le_fs0_fs1) fun q20 s21 h_s21 =>
      FS.call h_s21 (fS_J_classFor_89 _ _ _ _ ) (FtR fs1))
     (FS.none))
    (FS.none)
theorem fS_F_faceOf (x1 : Int32) (x2 : Int32) (σ : TS)  : FS fs37 σ (F_faceOf x1 x2 σ) := by
  unfold F_faceOf
  exact FS.ob (Ft.rf _ _) (fS_F_resolve _ _ _ ) (FtR fs37) fun r2 s1 h_s1 =>
    FS.ob h_s1 (fS_F_isBad _ ) (le_fs0_fs37) fun r6 s5 h_s5 =>
    FS.ite (FS.ite (FS.ob h_s5 (fS_F_bad _ _ _ ) (le_fs1_fs37) fun r10 s9 h_s9 =>
      FS.some h_s9)
     (FS.ite (FS.ob h_s5 (fS_F_bad _ _ _ ) (le_fs1_fs37) fun r14 s13 h_s13 =>
       FS.some h_s13)
      (FS.ite (FS.ite (FS.ite (FS.ite (FS.ite (FS.some h_s5)
           (FS.ite (FS.ite (FS.ob h_s5 (fS_F_bad _ _ _ ) (le_fs1_fs37) fun r22 s21 h_s21 =>
              FS.some h_s21)
             (FS.ite (FS.ite (FS.ite (FS.some h_s5)
                (FS.ob h_s5 (fS_F_bad _ _ _ ) (le_fs1_fs37) fun r28 s27 h_s27 =>
                 FS.some h_s27))
               (FS.none))
              (FS.none)))
            (FS.none)))
          (FS.none))
         (FS.ob h_s5 (fS_F_bad _ _ _ ) (le_fs1_fs37) fun r35 s34 h_s34 =>
          FS.some h_s34))
        (FS.none))
       (FS.none))))
    (FS.some h_s5)
theorem fS_L_headOf_2   : ∀ (n : Nat) (x2 : Int32) (σ : TS), FS fs0 σ (L_headOf_2  n x2 σ)
  | 0, _, _ => FS.none
  | n + 1, x2, σ => by
    rw [L_headOf_2]
    exact FS.ite (FS.ite (FS.some (Ft.rf _ _))
       (FS.ite (FS.nmV fun v3 =>
         FS.call (Ft.rf _ _) (fS_L_headOf_2  _ _ _) (FtR fs0))
        (FS.none)))
      (FS.none)
theorem fS_F_headOf (x1 : Int32) (σ : TS)  : FS fs0 σ (F_headOf x1 σ) := by
  unfold F_headOf
  exact FS.ob (Ft.rf _ _) (fS_L_headOf_2  _ _ _) (FtR fs0) fun q5 s6 h_s6 =>
    FS.some h_s6
theorem fS_J_connect_25 (x4 : Int32) (y0 : Int32) (σ : TS)  : FS fs47 σ (J_connect_25 x4 y0 σ) := by
  unfold J_connect_25
  exact FS.ob (Ft.rf _ _) (fS_F_isBad _ ) (le_fs0_fs47) fun r14 s13 h_s13 =>
    FS.ite (FS.ite (FS.ob h_s13 (fS_F_bad _ _ _ ) (le_fs1_fs47) fun r18 s17 h_s17 =>
      FS.some h_s17)
     (FS.ite (FS.ite (FS.ite (FS.ob h_s13 (fS_F_headOf _ _ ) (le_fs0_fs47) fun r24 s23 h_s23 =>
         FS.ob h_s23 (fS_F_headOf _ _ ) (le_fs0_fs47) fun r28 s27 h_s27 =>
         FS.ite (FS.nmT (Ft.p_tsA h_s27 rfl) fun s32 h_s32 =>
          FS.some h_s32)
         (FS.none))
        (FS.ob h_s13 (fS_F_bad _ _ _ ) (le_fs1_fs47) fun r34 s33 h_s33 =>
         FS.some h_s33))
       (FS.none))
      (FS.none)))
    (FS.some h_s13)
theorem fS_F_connect (x1 : Int32) (x2 : Int32) (x3 : Int32) (σ : TS)  : FS fs48 σ (F_connect x1 x2 x3 σ) := by
  unfold F_connect
  exact FS.ob (Ft.rf _ _) (fS_F_faceOf _ _ _ ) (le_fs37_fs48) fun r2 s1 h_s1 =>
    FS.ob h_s1 (fS_F_isBad _ ) (le_fs0_fs48) fun r6 s5 h_s5 =>
    FS.ite (FS.ob h_s5 (fS_F_faceOf _ _ _ ) (le_fs37_fs48) fun r10 s9 h_s9 =>
     FS.call h_s9 (fS_J_connect_25 _ _ _ ) (le_fs47_fs48))
    (FS.call h_s5 (fS_J_connect_25 _ _ _ ) (le_fs47_fs48))
theorem fS_F_truth (x1 : Int32) (x2 : Int32) (σ : TS)  : FS fs49 σ (F_truth x1 x2 σ) := by
  unfold F_truth
  exact FS.nmV fun v2 =>
    FS.nmV fun v4 =>
    FS.nmT (Ft.p_tsI (Ft.rf _ _) rfl) fun s5 h_s5 =>
    FS.nmT (Ft.p_tsI h_s5 rfl) fun s6 h_s6 =>
    FS.nmT (Ft.p_tsI h_s6 rfl) fun s7 h_s7 =>
    FS.nmV fun v8 =>
    FS.ob h_s7 (fS_F_build  _ _ _ _ _) (le_fs38_fs49) fun r10 s9 h_s9 =>
    FS.nmT (Ft.p_tsI h_s9 rfl) fun s13 h_s13 =>
    FS.nmT (Ft.p_tsI h_s13 rfl) fun s14 h_s14 =>
    FS.nmV fun v15 =>
    FS.ob h_s14 (fS_F_isBad _ ) (le_fs0_fs49) fun r17 s16 h_s16 =>
    FS.ite (FS.ob h_s16 (fS_F_holds  _ _ _) (le_fs2_fs49) fun r23 s22 h_s22 =>
     FS.ite (FS.ite (FS.nmT (Ft.p_tsI h_s22 rfl) fun s26 h_s26 =>
       FS.some h_s26)
      (FS.some h_s22))
     (FS.ite (FS.nmT (Ft.p_tsI h_s22 rfl) fun s28 h_s28 =>
       FS.some h_s28)
      (FS.some h_s22)))
    (FS.ite (FS.nmT (Ft.p_tsI h_s16 rfl) fun s20 h_s20 =>
      FS.some h_s20)
     (FS.some h_s16))
theorem fS_J_when_229_69 (rec : Int32 → Int32 → Int32 → TS → Option ((Unit ⊕ Unit) × TS)) (x2 : Int32) (x3 : Int32) (x4 : Int32) (x5 : Int32) (σ : TS) (hrec : ∀ (a0 : Int32) (a1 : Int32) (a2 : Int32) (a3 : TS), FS fs50 a3 (rec a0 a1 a2 a3)) : FS fs50 σ (J_when_229_69 rec x2 x3 x4 x5 σ) := by
  unfold J_when_229_69
  exact FS.ite (FS.ob (Ft.rf _ _) (fS_F_build  _ _ _ _ _) (le_fs38_fs50) fun r31 s30 h_s30 =>
     FS.ob h_s30 (fS_F_isBad _ ) (le_fs0_fs50) fun r35 s34 h_s34 =>
     FS.ite (FS.ite (FS.ite (FS.nmT (Ft.p_tsA h_s34 rfl) fun s40 h_s40 =>
        FS.ite (FS.nmT (Ft.p_tsA h_s40 rfl) fun s42 h_s42 =>
         FS.ite (FS.nmT (Ft.p_tsA h_s42 rfl) fun s44 h_s44 =>
          FS.nmT (Ft.p_tsI h_s44 rfl) fun s45 h_s45 =>
          FS.ite (FS.nmV fun v47 =>
           FS.call h_s45 (hrec _ _ _ _) (FtR fs50))
          (FS.none))
         (FS.none))
        (FS.none))
       (FS.none))
      (FS.none))
     (FS.some h_s34))
    (FS.none)
theorem fS_J_when_200_69 (rec : Int32 → Int32 → Int32 → TS → Option ((Unit ⊕ Unit) × TS)) (x2 : Int32) (x3 : Int32) (x4 : Int32) (x5 : Int32) (σ : TS) (hrec : ∀ (a0 : Int32) (a1 : Int32) (a2 : Int32) (a3 : TS), FS fs50 a3 (rec a0 a1 a2 a3)) : FS fs50 σ (J_when_200_69 rec x2 x3 x4 x5 σ) := by
  unfold J_when_200_69
  exact FS.ite (FS.ite (FS.ite (FS.ite (FS.call (Ft.rf _ _) (fS_J_when_229_69 _ _ _ _ _ _ hrec ) (FtR fs50))
       (FS.ob (Ft.rf _ _) (fS_F_bad _ _ _ ) (le_fs1_fs50) fun r51 s50 h_s50 =>
        FS.call h_s50 (fS_J_when_229_69 _ _ _ _ _ _ hrec ) (FtR fs50)))
      (FS.none))
     (FS.call (Ft.rf _ _) (fS_J_when_229_69 _ _ _ _ _ _ hrec ) (FtR fs50)))
    (FS.none)
theorem fS_L_when_154   : ∀ (n : Nat) (x2 : Int32) (x3 : Int32) (x4 : Int32) (x5 : Int32) (x6 : Int32) (σ : TS), FS fs1 σ (L_when_154  n x2 x3 x4 x5 x6 σ)
  | 0, _, _, _, _, _, _ => FS.none
  | n + 1, x2, x3, x4, x5, x6, σ => by
    rw [L_when_154]
    exact FS.ite (FS.some (Ft.rf _ _))
      (FS.ite (FS.ite (FS.ite (FS.ite (FS.ob (Ft.rf _ _) (fS_F_bad _ _ _ ) (FtR fs1) fun r62 s61 h_s61 =>
           FS.nmV fun v65 =>
           FS.call h_s61 (fS_L_when_154  _ _ _ _ _ _ _) (FtR fs1))
          (FS.nmV fun v60 =>
           FS.call (Ft.rf _ _) (fS_L_when_154  _ _ _ _ _ _ _) (FtR fs1)))
         (FS.none))
        (FS.nmV fun v58 =>
         FS.call (Ft.rf _ _) (fS_L_when_154  _ _ _ _ _ _ _) (FtR fs1)))
       (FS.none))
theorem fS_J_when_151_69 (rec : Int32 → Int32 → Int32 → TS → Option ((Unit ⊕ Unit) × TS)) (x2 : Int32) (x3 : Int32) (x4 : Int32) (x5 : Int32) (σ : TS) (hrec : ∀ (a0 : Int32) (a1 : Int32) (a2 : Int32) (a3 : TS), FS fs50 a3 (rec a0 a1 a2 a3)) : FS fs50 σ (J_when_151_69 rec x2 x3 x4 x5 σ) := by
  unfold J_when_151_69
  exact FS.ob (Ft.rf _ _) (fS_L_when_154  _ _ _ _ _ _ _) (le_fs1_fs50) fun q69 s70 h_s70 =>
    FS.call h_s70 (fS_J_when_200_69 _ _ _ _ _ _ hrec ) (FtR fs50)
theorem fS_L_when_69   : ∀ (n : Nat) (x2 : Int32) (x3 : Int32) (x4 : Int32) (σ : TS), FS fs50 σ (L_when_69  n x2 x3 x4 σ)
  | 0, _, _, _, _ => FS.none
  | n + 1, x2, x3, x4, σ => by
    rw [L_when_69]
    exact FS.ite (FS.some (Ft.rf _ _))
      (FS.ob (Ft.rf _ _) (fS_F_isBad _ ) (le_fs0_fs50) fun r15 s14 h_s14 =>
       FS.ite (FS.ite (FS.ob h_s14 (fS_F_bad _ _ _ ) (le_fs1_fs50) fun r81 s80 h_s80 =>
         FS.some h_s80)
        (FS.ite (FS.ob h_s14 (fS_F_variableOf _ _ _ ) (le_fs37_fs50) fun r20 s19 h_s19 =>
          FS.ob h_s19 (fS_F_isBad _ ) (le_fs0_fs50) fun r24 s23 h_s23 =>
          FS.ite (FS.ite (FS.ite (FS.ite (FS.ite (FS.call h_s23 (fS_J_when_151_69 _ _ _ _ _ _ (fun a0 a1 a2 a3 => fS_L_when_69   _ a0 a1 a2 a3) ) (FtR fs50))
              (FS.ob h_s23 (fS_F_bad _ _ _ ) (le_fs1_fs50) fun r74 s73 h_s73 =>
               FS.call h_s73 (fS_J_when_151_69 _ _ _ _ _ _ (fun a0 a1 a2 a3 => fS_L_when_69   _ a0 a1 a2 a3) ) (FtR fs50)))
             (FS.none))
            (FS.call h_s23 (fS_J_when_200_69 _ _ _ _ _ _ (fun a0 a1 a2 a3 => fS_L_when_69   _ a0 a1 a2 a3) ) (FtR fs50)))
           (FS.none))
          (FS.some h_s23))
         (FS.none)))
       (FS.some h_s14))
theorem fS_F_when (x1 : Int32) (x2 : Int32) (σ : TS)  : FS fs51 σ (F_when x1 x2 σ) := by
  unfold F_when
  exact FS.ite (FS.ob (Ft.rf _ _) (fS_F_bad _ _ _ ) (le_fs1_fs51) fun r96 s95 h_s95 =>
     FS.some h_s95)
    (FS.nmV fun v1 =>
     FS.nmT (Ft.p_tsI (Ft.rf _ _) rfl) fun s2 h_s2 =>
     FS.ite (FS.ob h_s2 (fS_F_build  _ _ _ _ _) (le_fs38_fs51) fun r5 s4 h_s4 =>
      FS.ite (FS.nmT (Ft.p_tsA h_s4 rfl) fun s9 h_s9 =>
       FS.ite (FS.nmT (Ft.p_tsA h_s9 rfl) fun s11 h_s11 =>
        FS.ite (FS.nmV fun v13 =>
         FS.obS h_s11 (fS_L_when_69  _ _ _ _ _) (le_fs50_fs51) (fun r94 s88 h_s88 => FS.some h_s88) fun q87 s88 h_s88 =>
         FS.ite (FS.ite (FS.nmT (Ft.p_tsA h_s88 rfl) fun s92 h_s92 =>
           FS.some h_s92)
          (FS.none))
         (FS.none))
        (FS.none))
       (FS.none))
      (FS.none))
     (FS.none))
theorem fS_L_equationsOf_113 (cf_equationsOf : Int32 → Int32 → TS → Option (Unit × TS)) (hcf_equationsOf : ∀ (a0 : Int32) (a1 : Int32) (a2 : TS), FS fs52 a2 (cf_equationsOf a0 a1 a2)) : ∀ (n : Nat) (x2 : Int32) (x3 : Int32) (x4 : Int32) (σ : TS), FS fs52 σ (L_equationsOf_113 cf_equationsOf n x2 x3 x4 σ)
  | 0, _, _, _, _ => FS.none
  | n + 1, x2, x3, x4, σ => by
    rw [L_equationsOf_113]
    exact FS.ite (FS.ite (FS.some (Ft.rf _ _))
       (FS.ob (Ft.rf _ _) (fS_F_isBad _ ) (le_fs0_fs52) fun r37 s36 h_s36 =>
        FS.ite (FS.nmT (Ft.p_tsI h_s36 rfl) fun s40 h_s40 =>
         FS.ite (FS.ite (FS.ite (FS.nmT (Ft.p_tsB h_s40 rfl) fun s43 h_s43 =>
            FS.ite (FS.nmT (Ft.p_tsA h_s43 rfl) fun s45 h_s45 =>
             FS.nmT (Ft.p_tsI h_s45 rfl) fun s46 h_s46 =>
             FS.ite (FS.ob h_s46 (hcf_equationsOf _ _ _) (FtR fs52) fun r49 s48 h_s48 =>
              FS.nmT (Ft.p_tsI h_s48 rfl) fun s52 h_s52 =>
              FS.nmV fun v53 =>
              FS.call h_s52 (fS_L_equationsOf_113 _ hcf_equationsOf _ _ _ _ _) (FtR fs52))
             (FS.none))
            (FS.none))
           (FS.none))
          (FS.none))
         (FS.ob h_s40 (fS_F_bad _ _ _ ) (le_fs1_fs52) fun r55 s54 h_s54 =>
          FS.some h_s54))
        (FS.some h_s36)))
      (FS.none)
theorem fS_L_equationsOf_2 (cf_equationsOf : Int32 → Int32 → TS → Option (Unit × TS)) (hcf_equationsOf : ∀ (a0 : Int32) (a1 : Int32) (a2 : TS), FS fs52 a2 (cf_equationsOf a0 a1 a2)) : ∀ (n : Nat) (x2 : Int32) (x3 : Int32) (σ : TS), FS fs52 σ (L_equationsOf_2 cf_equationsOf n x2 x3 σ)
  | 0, _, _, _ => FS.none
  | n + 1, x2, x3, σ => by
    rw [L_equationsOf_2]
    exact FS.ite (FS.some (Ft.rf _ _))
      (FS.ob (Ft.rf _ _) (fS_F_isBad _ ) (le_fs0_fs52) fun r2 s1 h_s1 =>
       FS.ite (FS.ite (FS.ite (FS.ite (FS.ob h_s1 (fS_F_build  _ _ _ _ _) (le_fs38_fs52) fun r9 s8 h_s8 =>
           FS.ite (FS.ob h_s8 (fS_F_build  _ _ _ _ _) (le_fs38_fs52) fun r14 s13 h_s13 =>
            FS.ob h_s13 (fS_F_addEquation _ _ _ ) (le_fs4_fs52) fun r18 s17 h_s17 =>
            FS.ite (FS.nmV fun v22 =>
             FS.call h_s17 (fS_L_equationsOf_2 _ hcf_equationsOf _ _ _ _) (FtR fs52))
            (FS.none))
           (FS.none))
          (FS.none))
         (FS.ite (FS.ite (FS.ite (FS.ob h_s1 (fS_F_connect _ _ _ _ ) (le_fs48_fs52) fun r27 s26 h_s26 =>
             FS.ite (FS.nmV fun v31 =>
              FS.call h_s26 (fS_L_equationsOf_2 _ hcf_equationsOf _ _ _ _) (FtR fs52))
             (FS.none))
            (FS.none))
           (FS.none))
          (FS.ite (FS.ite (FS.nmV fun v34 =>
             FS.ob h_s1 (fS_L_equationsOf_113 _ hcf_equationsOf _ _ _ _ _) (FtR fs52) fun q61 s62 h_s62 =>
             FS.ite (FS.nmV fun v65 =>
              FS.call h_s62 (fS_L_equationsOf_2 _ hcf_equationsOf _ _ _ _) (FtR fs52))
             (FS.none))
            (FS.none))
           (FS.ite (FS.ite (FS.ob h_s1 (fS_F_truth _ _ _ ) (le_fs49_fs52) fun r70 s69 h_s69 =>
              FS.ob h_s69 (fS_F_isBad _ ) (le_fs0_fs52) fun r74 s73 h_s73 =>
              FS.ite (FS.ite (FS.ite (FS.ob h_s73 (hcf_equationsOf _ _ _) (FtR fs52) fun r81 s80 h_s80 =>
                 FS.ite (FS.nmV fun v85 =>
                  FS.call h_s80 (fS_L_equationsOf_2 _ hcf_equationsOf _ _ _ _) (FtR fs52))
                 (FS.none))
                (FS.none))
               (FS.ite (FS.ob h_s73 (hcf_equationsOf _ _ _) (FtR fs52) fun r88 s87 h_s87 =>
                 FS.ite (FS.nmV fun v92 =>
                  FS.call h_s87 (fS_L_equationsOf_2 _ hcf_equationsOf _ _ _ _) (FtR fs52))
                 (FS.none))
                (FS.none)))
              (FS.ite (FS.nmV fun v78 =>
                FS.call h_s73 (fS_L_equationsOf_2 _ hcf_equationsOf _ _ _ _) (FtR fs52))
               (FS.none)))
             (FS.none))
            (FS.ob h_s1 (fS_F_when _ _ _ ) (le_fs51_fs52) fun r96 s95 h_s95 =>
             FS.ite (FS.nmV fun v100 =>
              FS.call h_s95 (fS_L_equationsOf_2 _ hcf_equationsOf _ _ _ _) (FtR fs52))
             (FS.none))))))
        (FS.none))
       (FS.some h_s1))
theorem fS_B_equationsOf (cf_equationsOf : Int32 → Int32 → TS → Option (Unit × TS)) (x1 : Int32) (x2 : Int32) (σ : TS) (hcf_equationsOf : ∀ (a0 : Int32) (a1 : Int32) (a2 : TS), FS fs52 a2 (cf_equationsOf a0 a1 a2)) : FS fs52 σ (B_equationsOf cf_equationsOf x1 x2 σ) := by
  unfold B_equationsOf
  exact FS.ob (Ft.rf _ _) (fS_L_equationsOf_2 _ hcf_equationsOf _ _ _ _) (FtR fs52) fun q103 s104 h_s104 =>
    FS.some h_s104
theorem fS_G_equationsOf : ∀ d : Nat, (∀ (a0 : Int32) (a1 : Int32) (a2 : TS), FS fs52 a2 ((G_equationsOf d) a0 a1 a2)) := by
  intro d
  induction d with
  | zero => exact fun _ _ _ => FS.none
  | succ d ih => exact fun a0 a1 a2 => fS_B_equationsOf _ a0 a1 a2 (fun b0 b1 b2 => ih b0 b1 b2)
theorem fS_F_equationsOf (a0 : Int32) (a1 : Int32) (a2 : TS) : FS fs52 a2 (F_equationsOf a0 a1 a2) := (fS_G_equationsOf 40) a0 a1 a2
theorem fS_L_ownEquations_7 (cf_ownEquations : Int32 → Int32 → TS → Option (Unit × TS)) (hcf_ownEquations : ∀ (a0 : Int32) (a1 : Int32) (a2 : TS), FS fs52 a2 (cf_ownEquations a0 a1 a2)) : ∀ (n : Nat) (x1 : Int32) (x2 : Int32) (x3 : Int32) (σ : TS), FS fs52 σ (L_ownEquations_7 cf_ownEquations n x1 x2 x3 σ)
  | 0, _, _, _, _ => FS.none
  | n + 1, x1, x2, x3, σ => by
    rw [L_ownEquations_7]
    exact FS.ite (FS.ite (FS.ite (FS.some (Ft.rf _ _))
        (FS.ob (Ft.rf _ _) (fS_F_isBad _ ) (le_fs0_fs52) fun r6 s5 h_s5 =>
         FS.ite (FS.ite (FS.ite (FS.nmV fun v11 =>
            FS.call h_s5 (fS_L_ownEquations_7 _ hcf_ownEquations _ _ _ _ _) (FtR fs52))
           (FS.ite (FS.ob h_s5 (fS_F_classOf _ _ ) (le_fs0_fs52) fun r14 s13 h_s13 =>
             FS.ob h_s13 (hcf_ownEquations _ _ _) (FtR fs52) fun r18 s17 h_s17 =>
             FS.nmV fun v21 =>
             FS.call h_s17 (fS_L_ownEquations_7 _ hcf_ownEquations _ _ _ _ _) (FtR fs52))
            (FS.none)))
          (FS.none))
         (FS.some h_s5)))
       (FS.none))
      (FS.none)
theorem fS_B_ownEquations (cf_ownEquations : Int32 → Int32 → TS → Option (Unit × TS)) (x1 : Int32) (x2 : Int32) (σ : TS) (hcf_ownEquations : ∀ (a0 : Int32) (a1 : Int32) (a2 : TS), FS fs52 a2 (cf_ownEquations a0 a1 a2)) : FS fs52 σ (B_ownEquations cf_ownEquations x1 x2 σ) := by
  unfold B_ownEquations
  exact FS.ite (FS.nmV fun v2 =>
     FS.ob (Ft.rf _ _) (fS_L_ownEquations_7 _ hcf_ownEquations _ _ _ _ _) (FtR fs52) fun q25 s26 h_s26 =>
     FS.ob h_s26 (fS_F_isBad _ ) (le_fs0_fs52) fun r29 s28 h_s28 =>
     FS.ite (FS.ite (FS.ob h_s28 (fS_F_equationsOf  _ _ _) (FtR fs52) fun r34 s33 h_s33 =>
       FS.some h_s33)
      (FS.none))
     (FS.some h_s28))
    (FS.none)
theorem fS_G_ownEquations : ∀ d : Nat, (∀ (a0 : Int32) (a1 : Int32) (a2 : TS), FS fs52 a2 ((G_ownEquations d) a0 a1 a2)) := by
  intro d
  induction d with
  | zero => exact fun _ _ _ => FS.none
  | succ d ih => exact fun a0 a1 a2 => fS_B_ownEquations _ a0 a1 a2 (fun b0 b1 b2 => ih b0 b1 b2)
theorem fS_F_ownEquations (a0 : Int32) (a1 : Int32) (a2 : TS) : FS fs52 a2 (F_ownEquations a0 a1 a2) := (fS_G_ownEquations 40) a0 a1 a2
theorem fS_L_collect_2 (cf_collect : Int32 → TS → Option (Unit × TS)) (hcf_collect : ∀ (a0 : Int32) (a1 : TS), FS fs52 a1 (cf_collect a0 a1)) : ∀ (n : Nat) (x1 : Int32) (x2 : Int32) (σ : TS), FS fs52 σ (L_collect_2 cf_collect n x1 x2 σ)
  | 0, _, _, _ => FS.none
  | n + 1, x1, x2, σ => by
    rw [L_collect_2]
    exact FS.ite (FS.some (Ft.rf _ _))
      (FS.ob (Ft.rf _ _) (fS_F_isBad _ ) (le_fs0_fs52) fun r2 s1 h_s1 =>
       FS.ite (FS.ite (FS.ite (FS.ob h_s1 (hcf_collect _ _) (FtR fs52) fun r8 s7 h_s7 =>
          FS.nmV fun v11 =>
          FS.call h_s7 (fS_L_collect_2 _ hcf_collect _ _ _ _) (FtR fs52))
         (FS.nmV fun v6 =>
          FS.call h_s1 (fS_L_collect_2 _ hcf_collect _ _ _ _) (FtR fs52)))
        (FS.none))
       (FS.some h_s1))
theorem fS_B_collect (cf_collect : Int32 → TS → Option (Unit × TS)) (x1 : Int32) (σ : TS) (hcf_collect : ∀ (a0 : Int32) (a1 : TS), FS fs52 a1 (cf_collect a0 a1)) : FS fs52 σ (B_collect cf_collect x1 σ) := by
  unfold B_collect
  exact FS.ob (Ft.rf _ _) (fS_L_collect_2 _ hcf_collect _ _ _ _) (FtR fs52) fun q15 s16 h_s16 =>
    FS.ob h_s16 (fS_F_isBad _ ) (le_fs0_fs52) fun r19 s18 h_s18 =>
    FS.ite (FS.ite (FS.ob h_s18 (fS_F_ownEquations  _ _ _) (FtR fs52) fun r24 s23 h_s23 =>
      FS.some h_s23)
     (FS.none))
    (FS.some h_s18)
theorem fS_G_collect : ∀ d : Nat, (∀ (a0 : Int32) (a1 : TS), FS fs52 a1 ((G_collect d) a0 a1)) := by
  intro d
  induction d with
  | zero => exact fun _ _ => FS.none
  | succ d ih => exact fun a0 a1 => fS_B_collect _ a0 a1 (fun b0 b1 => ih b0 b1)
theorem fS_F_collect (a0 : Int32) (a1 : TS) : FS fs52 a1 (F_collect a0 a1) := (fS_G_collect 40) a0 a1
theorem fS_F_flag (σ : TS)  : FS fs0 σ (F_flag σ) := by
  unfold F_flag
  exact FS.ite (FS.ite (FS.some (Ft.rf _ _))
     (FS.ite (FS.some (Ft.rf _ _))
      (FS.ite (FS.some (Ft.rf _ _))
       (FS.ite (FS.some (Ft.rf _ _))
        (FS.ite (FS.some (Ft.rf _ _))
         (FS.ite (FS.some (Ft.rf _ _))
          (FS.some (Ft.rf _ _))))))))
    (FS.some (Ft.rf _ _))
theorem fS_J_readUnit_51_6 (rec : Int32 → Int32 → TS → Option (Unit × TS)) (x1 : Int32) (x2 : Int32) (x3 : Int32) (σ : TS) (hrec : ∀ (a0 : Int32) (a1 : Int32) (a2 : TS), FS fs53 a2 (rec a0 a1 a2)) : FS fs53 σ (J_readUnit_51_6 rec x1 x2 x3 σ) := by
  unfold J_readUnit_51_6
  exact FS.ob (Ft.rf _ _) (fS_F_passWhole _ _ ) (le_fs19_fs53) fun r10 s9 h_s9 =>
    FS.ite (FS.ite (FS.ite (FS.nmT (Ft.p_tsA h_s9 rfl) fun s15 h_s15 =>
       FS.nmV fun v16 =>
       FS.call h_s15 (hrec _ _ _) (FtR fs53))
      (FS.none))
     (FS.ite (FS.nmT (Ft.p_tsA h_s9 rfl) fun s18 h_s18 =>
       FS.nmV fun v19 =>
       FS.call h_s18 (hrec _ _ _) (FtR fs53))
      (FS.none)))
    (FS.none)
theorem fS_J_readUnit_42_6 (rec : Int32 → Int32 → TS → Option (Unit × TS)) (x1 : Int32) (x2 : Int32) (y0 : Int32) (σ : TS) (hrec : ∀ (a0 : Int32) (a1 : Int32) (a2 : TS), FS fs53 a2 (rec a0 a1 a2)) : FS fs53 σ (J_readUnit_42_6 rec x1 x2 y0 σ) := by
  unfold J_readUnit_42_6
  exact FS.ite (FS.call (Ft.rf _ _) (fS_J_readUnit_51_6 _ _ _ _ _ hrec ) (FtR fs53))
    (FS.ob (Ft.rf _ _) (fS_F_next _ ) (le_fs16_fs53) fun r22 s21 h_s21 =>
     FS.call h_s21 (fS_J_readUnit_51_6 _ _ _ _ _ hrec ) (FtR fs53))
theorem fS_J_readUnit_41_6 (rec : Int32 → Int32 → TS → Option (Unit × TS)) (x1 : Int32) (x2 : Int32) (σ : TS) (hrec : ∀ (a0 : Int32) (a1 : Int32) (a2 : TS), FS fs53 a2 (rec a0 a1 a2)) : FS fs53 σ (J_readUnit_41_6 rec x1 x2 σ) := by
  unfold J_readUnit_41_6
  exact FS.call (Ft.rf _ _) (fS_J_readUnit_42_6 _ _ _ _ _ hrec ) (FtR fs53)
theorem fS_J_readUnit_21_6 (rec : Int32 → Int32 → TS → Option (Unit × TS)) (x1 : Int32) (x2 : Int32) (σ : TS) (hrec : ∀ (a0 : Int32) (a1 : Int32) (a2 : TS), FS fs53 a2 (rec a0 a1 a2)) : FS fs53 σ (J_readUnit_21_6 rec x1 x2 σ) := by
  unfold J_readUnit_21_6
  exact FS.ob (Ft.rf _ _) (fS_F_isBad _ ) (le_fs0_fs53) fun r6 s5 h_s5 =>
    FS.ite (FS.ob h_s5 (fS_F_isSign _ _ ) (le_fs0_fs53) fun r27 s26 h_s26 =>
     FS.ite (FS.call h_s26 (fS_J_readUnit_41_6 _ _ _ _ hrec ) (FtR fs53))
     (FS.call h_s26 (fS_J_readUnit_42_6 _ _ _ _ _ hrec ) (FtR fs53)))
    (FS.call h_s5 (fS_J_readUnit_41_6 _ _ _ _ hrec ) (FtR fs53))
theorem fS_L_readUnit_6   : ∀ (n : Nat) (x1 : Int32) (x2 : Int32) (σ : TS), FS fs53 σ (L_readUnit_6  n x1 x2 σ)
  | 0, _, _, _ => FS.none
  | n + 1, x1, x2, σ => by
    rw [L_readUnit_6]
    exact FS.ite (FS.some (Ft.rf _ _))
      (FS.ite (FS.call (Ft.rf _ _) (fS_J_readUnit_21_6 _ _ _ _ (fun a0 a1 a2 => fS_L_readUnit_6   _ a0 a1 a2) ) (FtR fs53))
       (FS.ob (Ft.rf _ _) (fS_F_pass _ _ ) (le_fs19_fs53) fun r33 s32 h_s32 =>
        FS.call h_s32 (fS_J_readUnit_21_6 _ _ _ _ (fun a0 a1 a2 => fS_L_readUnit_6   _ a0 a1 a2) ) (FtR fs53)))
theorem fS_L_readUnit_97   : ∀ (n : Nat) (x1 : Int32) (x2 : Int32) (x3 : Int32) (σ : TS), FS fs0 σ (L_readUnit_97  n x1 x2 x3 σ)
  | 0, _, _, _, _ => FS.none
  | n + 1, x1, x2, x3, σ => by
    rw [L_readUnit_97]
    exact FS.ite (FS.some (Ft.rf _ _))
      (FS.ite (FS.nmV fun v41 =>
        FS.call (Ft.rf _ _) (fS_L_readUnit_97  _ _ _ _ _) (FtR fs0))
       (FS.ite (FS.ite (FS.nmV fun v44 =>
          FS.call (Ft.rf _ _) (fS_L_readUnit_97  _ _ _ _ _) (FtR fs0))
         (FS.nmV fun v43 =>
          FS.call (Ft.rf _ _) (fS_L_readUnit_97  _ _ _ _ _) (FtR fs0)))
        (FS.none)))
theorem fS_F_readUnit (x1 : Int32) (σ : TS)  : FS fs53 σ (F_readUnit x1 σ) := by
  unfold F_readUnit
  exact FS.ob (Ft.rf _ _) (fS_F_next _ ) (le_fs16_fs53) fun r2 s1 h_s1 =>
    FS.ob h_s1 (fS_L_readUnit_6  _ _ _ _) (FtR fs53) fun q38 s39 h_s39 =>
    FS.ob h_s39 (fS_L_readUnit_97  _ _ _ _ _) (le_fs0_fs53) fun q48 s49 h_s49 =>
    FS.ite (FS.ite (FS.ite (FS.nmT (Ft.p_tsA h_s49 rfl) fun s54 h_s54 =>
       FS.ob h_s54 (fS_F_pass _ _ ) (le_fs19_fs53) fun r56 s55 h_s55 =>
       FS.some h_s55)
      (FS.none))
     (FS.none))
    (FS.ite (FS.nmT (Ft.p_tsA h_s49 rfl) fun s60 h_s60 =>
      FS.ob h_s60 (fS_F_pass _ _ ) (le_fs19_fs53) fun r62 s61 h_s61 =>
      FS.some h_s61)
     (FS.none))
theorem fS_J_path_36_4 (rec : Int32 → Int32 → TS → Option ((Int32 ⊕ Int32) × TS)) (x1 : Int32) (x2 : Int32) (x3 : Int32) (σ : TS) (hrec : ∀ (a0 : Int32) (a1 : Int32) (a2 : TS), FS fs25 a2 (rec a0 a1 a2)) : FS fs25 σ (J_path_36_4 rec x1 x2 x3 σ) := by
  unfold J_path_36_4
  exact FS.ob (Ft.rf _ _) (fS_F_newPart _ _ ) (le_fs22_fs25) fun r10 s9 h_s9 =>
    FS.ob h_s9 (fS_F_next _ ) (le_fs16_fs25) fun r14 s13 h_s13 =>
    FS.ite (FS.ite (FS.ob h_s13 (fS_F_isSign _ _ ) (le_fs0_fs25) fun r30 s29 h_s29 =>
      FS.ite (FS.some h_s29)
      (FS.ob h_s29 (fS_F_next _ ) (le_fs16_fs25) fun r34 s33 h_s33 =>
       FS.call h_s33 (hrec _ _ _) (FtR fs25)))
     (FS.some h_s13))
    (FS.ite (FS.nmT (Ft.p_tsA h_s13 rfl) fun s18 h_s18 =>
      FS.ite (FS.ob h_s18 (fS_F_isSign _ _ ) (le_fs0_fs25) fun r20 s19 h_s19 =>
       FS.ite (FS.some h_s19)
       (FS.ob h_s19 (fS_F_next _ ) (le_fs16_fs25) fun r24 s23 h_s23 =>
        FS.call h_s23 (hrec _ _ _) (FtR fs25)))
      (FS.some h_s18))
     (FS.none))
theorem fS_L_path_4   : ∀ (n : Nat) (x1 : Int32) (x2 : Int32) (σ : TS), FS fs25 σ (L_path_4  n x1 x2 σ)
  | 0, _, _, _ => FS.none
  | n + 1, x1, x2, σ => by
    rw [L_path_4]
    exact FS.ob (Ft.rf _ _) (fS_F_isBad _ ) (le_fs0_fs25) fun r2 s1 h_s1 =>
      FS.ite (FS.ob h_s1 (fS_F_isWord _ _ ) (le_fs0_fs25) fun r6 s5 h_s5 =>
       FS.ite (FS.ob h_s5 (fS_F_isName _ ) (le_fs0_fs25) fun r41 s40 h_s40 =>
        FS.ite (FS.ob h_s40 (fS_F_cantStand _ ) (le_fs1_fs25) fun r45 s44 h_s44 =>
         FS.some h_s44)
        (FS.call h_s40 (fS_J_path_36_4 _ _ _ _ _ (fun a0 a1 a2 => fS_L_path_4   _ a0 a1 a2) ) (FtR fs25)))
       (FS.call h_s5 (fS_J_path_36_4 _ _ _ _ _ (fun a0 a1 a2 => fS_L_path_4   _ a0 a1 a2) ) (FtR fs25)))
      (FS.some h_s1)
theorem fS_F_path (σ : TS)  : FS fs25 σ (F_path σ) := by
  unfold F_path
  exact FS.obS (Ft.rf _ _) (fS_L_path_4  _ _ _ _) (FtR fs25) (fun r55 s52 h_s52 => FS.some h_s52) fun q51 s52 h_s52 =>
    FS.some h_s52
theorem fS_J_modsOf_146_26 (rec : Int32 → Int32 → TS → Option (Int32 × TS)) (x1 : Int32) (x2 : Int32) (x3 : Int32) (σ : TS) (hrec : ∀ (a0 : Int32) (a1 : Int32) (a2 : TS), FS fs54 a2 (rec a0 a1 a2)) : FS fs54 σ (J_modsOf_146_26 rec x1 x2 x3 σ) := by
  unfold J_modsOf_146_26
  exact FS.ite (FS.ob (Ft.rf _ _) (fS_F_isSign _ _ ) (le_fs0_fs54) fun r56 s55 h_s55 =>
     FS.ite (FS.some h_s55)
     (FS.ob h_s55 (fS_F_next _ ) (le_fs16_fs54) fun r60 s59 h_s59 =>
      FS.call h_s59 (hrec _ _ _) (FtR fs54)))
    (FS.ite (FS.nmT (Ft.p_tsA (Ft.rf _ _) rfl) fun s45 h_s45 =>
      FS.ob h_s45 (fS_F_isSign _ _ ) (le_fs0_fs54) fun r47 s46 h_s46 =>
      FS.ite (FS.some h_s46)
      (FS.ob h_s46 (fS_F_next _ ) (le_fs16_fs54) fun r51 s50 h_s50 =>
       FS.call h_s50 (hrec _ _ _) (FtR fs54)))
     (FS.none))
theorem fS_J_modsOf_58_26 (rec : Int32 → Int32 → TS → Option (Int32 × TS)) (x1 : Int32) (x2 : Int32) (x3 : Int32) (σ : TS) (hrec : ∀ (a0 : Int32) (a1 : Int32) (a2 : TS), FS fs54 a2 (rec a0 a1 a2)) : FS fs54 σ (J_modsOf_58_26 rec x1 x2 x3 σ) := by
  unfold J_modsOf_58_26
  exact FS.ite (FS.nmT (Ft.p_tsA (Ft.rf _ _) rfl) fun s19 h_s19 =>
     FS.ob h_s19 (fS_F_isWord _ _ ) (le_fs0_fs54) fun r21 s20 h_s20 =>
     FS.ite (FS.nmT (Ft.p_tsA h_s20 rfl) fun s25 h_s25 =>
      FS.ite (FS.ite (FS.ob h_s25 (fS_F_path _ ) (le_fs25_fs54) fun r29 s28 h_s28 =>
        FS.ite (FS.nmT (Ft.p_tsA h_s28 rfl) fun s33 h_s33 =>
         FS.ob h_s33 (fS_F_pass _ _ ) (le_fs19_fs54) fun r35 s34 h_s34 =>
         FS.ob h_s34 (fS_F_expression  _) (le_fs26_fs54) fun r39 s38 h_s38 =>
         FS.ite (FS.nmT (Ft.p_tsA h_s38 rfl) fun s43 h_s43 =>
          FS.call h_s43 (fS_J_modsOf_146_26 _ _ _ _ _ hrec ) (FtR fs54))
         (FS.none))
        (FS.none))
       (FS.ob h_s25 (fS_F_next _ ) (le_fs16_fs54) fun r66 s65 h_s65 =>
        FS.ob h_s65 (fS_F_passName _ ) (le_fs19_fs54) fun r70 s69 h_s69 =>
        FS.ite (FS.nmT (Ft.p_tsB h_s69 rfl) fun s74 h_s74 =>
         FS.ob h_s74 (fS_F_pass _ _ ) (le_fs19_fs54) fun r76 s75 h_s75 =>
         FS.ob h_s75 (fS_F_passName _ ) (le_fs19_fs54) fun r80 s79 h_s79 =>
         FS.ite (FS.nmT (Ft.p_tsB h_s79 rfl) fun s84 h_s84 =>
          FS.call h_s84 (fS_J_modsOf_146_26 _ _ _ _ _ hrec ) (FtR fs54))
         (FS.none))
        (FS.none)))
      (FS.none))
     (FS.none))
    (FS.none)
theorem fS_L_modsOf_26   : ∀ (n : Nat) (x1 : Int32) (x2 : Int32) (σ : TS), FS fs54 σ (L_modsOf_26  n x1 x2 σ)
  | 0, _, _, _ => FS.none
  | n + 1, x1, x2, σ => by
    rw [L_modsOf_26]
    exact FS.ob (Ft.rf _ _) (fS_F_isBad _ ) (le_fs0_fs54) fun r14 s13 h_s13 =>
      FS.ite (FS.nmV fun v17 =>
       FS.ite (FS.call h_s13 (fS_J_modsOf_58_26 _ _ _ _ _ (fun a0 a1 a2 => fS_L_modsOf_26   _ a0 a1 a2) ) (FtR fs54))
       (FS.nmT (Ft.p_tsI h_s13 rfl) fun s86 h_s86 =>
        FS.call h_s86 (fS_J_modsOf_58_26 _ _ _ _ _ (fun a0 a1 a2 => fS_L_modsOf_26   _ a0 a1 a2) ) (FtR fs54)))
      (FS.some h_s13)
theorem fS_F_modsOf (σ : TS)  : FS fs54 σ (F_modsOf σ) := by
  unfold F_modsOf
  exact FS.ob (Ft.rf _ _) (fS_F_isBad _ ) (le_fs0_fs54) fun r2 s1 h_s1 =>
    FS.ite (FS.ob h_s1 (fS_F_isSign _ _ ) (le_fs0_fs54) fun r6 s5 h_s5 =>
     FS.ite (FS.some h_s5)
     (FS.ob h_s5 (fS_F_next _ ) (le_fs16_fs54) fun r10 s9 h_s9 =>
      FS.ob h_s9 (fS_L_modsOf_26  _ _ _ _) (FtR fs54) fun q89 s90 h_s90 =>
      FS.ob h_s90 (fS_F_pass _ _ ) (le_fs19_fs54) fun r93 s92 h_s92 =>
      FS.some h_s92))
    (FS.some h_s1)
theorem fS_L_component_0   : ∀ (n : Nat) (x1 : Int32) (x2 : Int32) (σ : TS), FS fs55 σ (L_component_0  n x1 x2 σ)
  | 0, _, _, _ => FS.none
  | n + 1, x1, x2, σ => by
    rw [L_component_0]
    exact FS.ob (Ft.rf _ _) (fS_F_isBad _ ) (le_fs0_fs55) fun r2 s1 h_s1 =>
      FS.ite (FS.ob h_s1 (fS_F_flag _ ) (le_fs0_fs55) fun r6 s5 h_s5 =>
       FS.ite (FS.some h_s5)
       (FS.ob h_s5 (fS_F_flag _ ) (le_fs0_fs55) fun r10 s9 h_s9 =>
        FS.ite (FS.ite (FS.ite (FS.ite (FS.nmT (Ft.p_tsA h_s9 rfl) fun s16 h_s16 =>
            FS.ob h_s16 (fS_F_next _ ) (le_fs16_fs55) fun r18 s17 h_s17 =>
            FS.call h_s17 (fS_L_component_0  _ _ _ _) (FtR fs55))
           (FS.none))
          (FS.none))
         (FS.ob h_s9 (fS_F_cantStand _ ) (le_fs1_fs55) fun r22 s21 h_s21 =>
          FS.some h_s21))
        (FS.none)))
      (FS.some h_s1)
theorem fS_L_component_429   : ∀ (n : Nat) (x2 : Int32) (x4 : Int32) (x9 : Int32) (σ : TS), FS fs1 σ (L_component_429  n x2 x4 x9 σ)
  | 0, _, _, _, _ => FS.none
  | n + 1, x2, x4, x9, σ => by
    rw [L_component_429]
    exact FS.ite (FS.some (Ft.rf _ _))
      (FS.ite (FS.ite (FS.ite (FS.ite (FS.ite (FS.ob (Ft.rf _ _) (fS_F_bad _ _ _ ) (FtR fs1) fun r93 s92 h_s92 =>
            FS.nmV fun v96 =>
            FS.call h_s92 (fS_L_component_429  _ _ _ _ _) (FtR fs1))
           (FS.nmV fun v91 =>
            FS.call (Ft.rf _ _) (fS_L_component_429  _ _ _ _ _) (FtR fs1)))
          (FS.none))
         (FS.none))
        (FS.nmV fun v88 =>
         FS.call (Ft.rf _ _) (fS_L_component_429  _ _ _ _ _) (FtR fs1)))
       (FS.none))
theorem fS_J_component_406 (x1 : Int32) (x2 : Int32) (x4 : Int32) (y0 : Int32) (σ : TS)  : FS fs1 σ (J_component_406 x1 x2 x4 y0 σ) := by
  unfold J_component_406
  exact FS.ite (FS.ite (FS.nmV fun v85 =>
      FS.ob (Ft.rf _ _) (fS_L_component_429  _ _ _ _ _) (FtR fs1) fun q100 s101 h_s101 =>
      FS.some h_s101)
     (FS.none))
    (FS.ob (Ft.rf _ _) (fS_F_bad _ _ _ ) (FtR fs1) fun r105 s104 h_s104 =>
     FS.some h_s104)
theorem fS_J_component_401 (x1 : Int32) (x2 : Int32) (x4 : Int32) (σ : TS)  : FS fs1 σ (J_component_401 x1 x2 x4 σ) := by
  unfold J_component_401
  exact FS.call (Ft.rf _ _) (fS_J_component_406 _ _ _ _ _ ) (FtR fs1)
theorem fS_J_component_405 (x1 : Int32) (x2 : Int32) (x4 : Int32) (σ : TS)  : FS fs1 σ (J_component_405 x1 x2 x4 σ) := by
  unfold J_component_405
  exact FS.call (Ft.rf _ _) (fS_J_component_406 _ _ _ _ _ ) (FtR fs1)
theorem fS_J_component_392 (x1 : Int32) (x2 : Int32) (x3 : Int32) (x4 : Int32) (x5 : Int32) (σ : TS)  : FS fs1 σ (J_component_392 x1 x2 x3 x4 x5 σ) := by
  unfold J_component_392
  exact FS.ite (FS.call (Ft.rf _ _) (fS_J_component_405 _ _ _ _ ) (FtR fs1))
    (FS.ite (FS.call (Ft.rf _ _) (fS_J_component_401 _ _ _ _ ) (FtR fs1))
     (FS.call (Ft.rf _ _) (fS_J_component_405 _ _ _ _ ) (FtR fs1)))
theorem fS_J_component_373 (x1 : Int32) (x2 : Int32) (x3 : Int32) (x4 : Int32) (x5 : Int32) (σ : TS)  : FS fs1 σ (J_component_373 x1 x2 x3 x4 x5 σ) := by
  unfold J_component_373
  exact FS.ite (FS.ite (FS.ite (FS.call (Ft.rf _ _) (fS_J_component_401 _ _ _ _ ) (FtR fs1))
      (FS.ite (FS.call (Ft.rf _ _) (fS_J_component_392 _ _ _ _ _ _ ) (FtR fs1))
       (FS.call (Ft.rf _ _) (fS_J_component_401 _ _ _ _ ) (FtR fs1))))
     (FS.call (Ft.rf _ _) (fS_J_component_392 _ _ _ _ _ _ ) (FtR fs1)))
    (FS.none)
theorem fS_J_component_335 (x1 : Int32) (x2 : Int32) (x3 : Int32) (x4 : Int32) (x5 : Int32) (x6 : Int32) (y0 : Int32) (σ : TS)  : FS fs1 σ (J_component_335 x1 x2 x3 x4 x5 x6 y0 σ) := by
  unfold J_component_335
  exact FS.ite (FS.ite (FS.call (Ft.rf _ _) (fS_J_component_373 _ _ _ _ _ _ ) (FtR fs1))
     (FS.ite (FS.ite (FS.ite (FS.ite (FS.ite (FS.call (Ft.rf _ _) (fS_J_component_401 _ _ _ _ ) (FtR fs1))
          (FS.call (Ft.rf _ _) (fS_J_component_373 _ _ _ _ _ _ ) (FtR fs1)))
         (FS.none))
        (FS.call (Ft.rf _ _) (fS_J_component_401 _ _ _ _ ) (FtR fs1)))
       (FS.call (Ft.rf _ _) (fS_J_component_401 _ _ _ _ ) (FtR fs1)))
      (FS.none)))
    (FS.call (Ft.rf _ _) (fS_J_component_401 _ _ _ _ ) (FtR fs1))
theorem fS_J_component_330 (x1 : Int32) (x2 : Int32) (x3 : Int32) (x4 : Int32) (x5 : Int32) (x6 : Int32) (σ : TS)  : FS fs1 σ (J_component_330 x1 x2 x3 x4 x5 x6 σ) := by
  unfold J_component_330
  exact FS.call (Ft.rf _ _) (fS_J_component_335 _ _ _ _ _ _ _ _ ) (FtR fs1)
theorem fS_J_component_334 (x1 : Int32) (x2 : Int32) (x3 : Int32) (x4 : Int32) (x5 : Int32) (x6 : Int32) (σ : TS)  : FS fs1 σ (J_component_334 x1 x2 x3 x4 x5 x6 σ) := by
  unfold J_component_334
  exact FS.call (Ft.rf _ _) (fS_J_component_335 _ _ _ _ _ _ _ _ ) (FtR fs1)
theorem fS_J_component_314 (x1 : Int32) (x2 : Int32) (x3 : Int32) (x4 : Int32) (x5 : Int32) (x6 : Int32) (σ : TS)  : FS fs1 σ (J_component_314 x1 x2 x3 x4 x5 x6 σ) := by
  unfold J_component_314
  exact FS.ite (FS.call (Ft.rf _ _) (fS_J_component_334 _ _ _ _ _ _ _ ) (FtR fs1))
    (FS.ite (FS.call (Ft.rf _ _) (fS_J_component_334 _ _ _ _ _ _ _ ) (FtR fs1))
     (FS.call (Ft.rf _ _) (fS_J_component_330 _ _ _ _ _ _ _ ) (FtR fs1)))
theorem fS_J_component_302 (x1 : Int32) (x2 : Int32) (x3 : Int32) (x4 : Int32) (x5 : Int32) (x6 : Int32) (σ : TS)  : FS fs1 σ (J_component_302 x1 x2 x3 x4 x5 x6 σ) := by
  unfold J_component_302
  exact FS.ite (FS.call (Ft.rf _ _) (fS_J_component_314 _ _ _ _ _ _ _ ) (FtR fs1))
    (FS.ite (FS.call (Ft.rf _ _) (fS_J_component_314 _ _ _ _ _ _ _ ) (FtR fs1))
     (FS.call (Ft.rf _ _) (fS_J_component_330 _ _ _ _ _ _ _ ) (FtR fs1)))
theorem fS_J_component_286 (x1 : Int32) (x2 : Int32) (x3 : Int32) (x4 : Int32) (x5 : Int32) (x6 : Int32) (σ : TS)  : FS fs1 σ (J_component_286 x1 x2 x3 x4 x5 x6 σ) := by
  unfold J_component_286
  exact FS.ite (FS.call (Ft.rf _ _) (fS_J_component_302 _ _ _ _ _ _ _ ) (FtR fs1))
    (FS.ite (FS.ite (FS.call (Ft.rf _ _) (fS_J_component_330 _ _ _ _ _ _ _ ) (FtR fs1))
      (FS.call (Ft.rf _ _) (fS_J_component_302 _ _ _ _ _ _ _ ) (FtR fs1)))
     (FS.none))
theorem fS_J_component_239 (x1 : Int32) (x2 : Int32) (x3 : Int32) (x4 : Int32) (x5 : Int32) (σ : TS)  : FS fs19 σ (J_component_239 x1 x2 x3 x4 x5 σ) := by
  unfold J_component_239
  exact FS.ob (Ft.rf _ _) (fS_F_pass _ _ ) (FtR fs19) fun r71 s70 h_s70 =>
    FS.ob h_s70 (fS_F_isBad _ ) (le_fs0_fs19) fun r75 s74 h_s74 =>
    FS.ite (FS.ite (FS.nmV fun v79 =>
      FS.ob h_s74 (fS_F_bitCount _ _ ) (le_fs0_fs19) fun r81 s80 h_s80 =>
      FS.ite (FS.call h_s80 (fS_J_component_330 _ _ _ _ _ _ _ ) (le_fs1_fs19))
      (FS.ite (FS.call h_s80 (fS_J_component_286 _ _ _ _ _ _ _ ) (le_fs1_fs19))
       (FS.ite (FS.call h_s80 (fS_J_component_330 _ _ _ _ _ _ _ ) (le_fs1_fs19))
        (FS.call h_s80 (fS_J_component_286 _ _ _ _ _ _ _ ) (le_fs1_fs19)))))
     (FS.none))
    (FS.some h_s74)
theorem fS_J_component_218 (x1 : Int32) (x2 : Int32) (x3 : Int32) (x4 : Int32) (y0 : Int32) (σ : TS)  : FS fs56 σ (J_component_218 x1 x2 x3 x4 y0 σ) := by
  unfold J_component_218
  exact FS.ite (FS.call (Ft.rf _ _) (fS_J_component_239 _ _ _ _ _ _ ) (le_fs19_fs56))
    (FS.ob (Ft.rf _ _) (fS_F_next _ ) (le_fs16_fs56) fun r134 s133 h_s133 =>
     FS.ob h_s133 (fS_F_expression  _) (le_fs26_fs56) fun r138 s137 h_s137 =>
     FS.ite (FS.nmT (Ft.p_tsA h_s137 rfl) fun s142 h_s142 =>
      FS.call h_s142 (fS_J_component_239 _ _ _ _ _ _ ) (le_fs19_fs56))
     (FS.none))
theorem fS_J_component_217 (x1 : Int32) (x2 : Int32) (x3 : Int32) (x4 : Int32) (σ : TS)  : FS fs56 σ (J_component_217 x1 x2 x3 x4 σ) := by
  unfold J_component_217
  exact FS.call (Ft.rf _ _) (fS_J_component_218 _ _ _ _ _ _ ) (FtR fs56)
theorem fS_J_component_187 (x1 : Int32) (x2 : Int32) (x3 : Int32) (x4 : Int32) (σ : TS)  : FS fs57 σ (J_component_187 x1 x2 x3 x4 σ) := by
  unfold J_component_187
  exact FS.ob (Ft.rf _ _) (fS_F_modsOf _ ) (le_fs54_fs57) fun r61 s60 h_s60 =>
    FS.ite (FS.nmT (Ft.p_tsA h_s60 rfl) fun s65 h_s65 =>
     FS.ob h_s65 (fS_F_isBad _ ) (le_fs0_fs57) fun r67 s66 h_s66 =>
     FS.ite (FS.ob h_s66 (fS_F_isSign _ _ ) (le_fs0_fs57) fun r145 s144 h_s144 =>
      FS.ite (FS.call h_s144 (fS_J_component_217 _ _ _ _ _ ) (le_fs56_fs57))
      (FS.call h_s144 (fS_J_component_218 _ _ _ _ _ _ ) (le_fs56_fs57)))
     (FS.call h_s66 (fS_J_component_217 _ _ _ _ _ ) (le_fs56_fs57)))
    (FS.none)
theorem fS_J_component_169 (x1 : Int32) (x2 : Int32) (x3 : Int32) (x4 : Int32) (σ : TS)  : FS fs58 σ (J_component_169 x1 x2 x3 x4 σ) := by
  unfold J_component_169
  exact FS.ob (Ft.rf _ _) (fS_F_passWhole _ _ ) (le_fs19_fs58) fun r155 s154 h_s154 =>
    FS.ite (FS.nmT (Ft.p_tsA h_s154 rfl) fun s159 h_s159 =>
     FS.ob h_s159 (fS_F_pass _ _ ) (le_fs19_fs58) fun r161 s160 h_s160 =>
     FS.call h_s160 (fS_J_component_187 _ _ _ _ _ ) (le_fs57_fs58))
    (FS.none)
theorem fS_J_component_110 (x1 : Int32) (x2 : Int32) (x3 : Int32) (σ : TS)  : FS fs59 σ (J_component_110 x1 x2 x3 σ) := by
  unfold J_component_110
  exact FS.nmV fun v45 =>
    FS.ob (Ft.rf _ _) (fS_F_passName _ ) (le_fs19_fs59) fun r47 s46 h_s46 =>
    FS.ite (FS.nmT (Ft.p_tsB h_s46 rfl) fun s51 h_s51 =>
     FS.ob h_s51 (fS_F_isBad _ ) (le_fs0_fs59) fun r53 s52 h_s52 =>
     FS.ite (FS.ob h_s52 (fS_F_isSign _ _ ) (le_fs0_fs59) fun r57 s56 h_s56 =>
      FS.ite (FS.call h_s56 (fS_J_component_187 _ _ _ _ _ ) (le_fs57_fs59))
      (FS.ob h_s56 (fS_F_next _ ) (le_fs16_fs59) fun r151 s150 h_s150 =>
       FS.ite (FS.ite (FS.call h_s150 (fS_J_component_169 _ _ _ _ _ ) (le_fs58_fs59))
        (FS.ob h_s150 (fS_F_cantStand _ ) (le_fs1_fs59) fun r165 s164 h_s164 =>
         FS.call h_s164 (fS_J_component_169 _ _ _ _ _ ) (le_fs58_fs59)))
       (FS.call h_s150 (fS_J_component_169 _ _ _ _ _ ) (le_fs58_fs59))))
     (FS.some h_s52))
    (FS.none)
theorem fS_J_component_52 (x1 : Int32) (x2 : Int32) (σ : TS)  : FS fs60 σ (J_component_52 x1 x2 σ) := by
  unfold J_component_52
  exact FS.ob (Ft.rf _ _) (fS_F_isBad _ ) (le_fs0_fs60) fun r32 s31 h_s31 =>
    FS.ite (FS.ob h_s31 (fS_F_isWord _ _ ) (le_fs0_fs60) fun r36 s35 h_s35 =>
     FS.ite (FS.ob h_s35 (fS_F_passName _ ) (le_fs19_fs60) fun r40 s39 h_s39 =>
      FS.ite (FS.nmT (Ft.p_tsB h_s39 rfl) fun s44 h_s44 =>
       FS.call h_s44 (fS_J_component_110 _ _ _ _ ) (le_fs59_fs60))
      (FS.none))
     (FS.ob h_s35 (fS_F_next _ ) (le_fs16_fs60) fun r173 s172 h_s172 =>
      FS.ite (FS.nmT (Ft.p_tsB h_s172 rfl) fun s177 h_s177 =>
       FS.ob h_s177 (fS_F_isSign _ _ ) (le_fs0_fs60) fun r179 s178 h_s178 =>
       FS.ite (FS.call h_s178 (fS_J_component_110 _ _ _ _ ) (le_fs59_fs60))
       (FS.ob h_s178 (fS_F_readUnit _ _ ) (le_fs53_fs60) fun r183 s182 h_s182 =>
        FS.call h_s182 (fS_J_component_110 _ _ _ _ ) (le_fs59_fs60)))
      (FS.none)))
    (FS.some h_s31)
theorem fS_F_component (x1 : Int32) (x2 : Int32) (σ : TS)  : FS fs61 σ (F_component x1 x2 σ) := by
  unfold F_component
  exact FS.obS (Ft.rf _ _) (fS_L_component_0  _ _ _ _) (le_fs55_fs61) (fun r190 s29 h_s29 => FS.some h_s29) fun q28 s29 h_s29 =>
    FS.call h_s29 (fS_J_component_52 _ _ _ ) (le_fs60_fs61)
theorem fS_L_memberVariable_5   : ∀ (n : Nat) (x1 : Int32) (x2 : Int32) (x3 : Int32) (x4 : Int32) (σ : TS), FS fs0 σ (L_memberVariable_5  n x1 x2 x3 x4 σ)
  | 0, _, _, _, _, _ => FS.none
  | n + 1, x1, x2, x3, x4, σ => by
    rw [L_memberVariable_5]
    exact FS.ite (FS.some (Ft.rf _ _))
      (FS.ite (FS.ite (FS.ite (FS.some (Ft.rf _ _))
         (FS.nmV fun v2 =>
          FS.nmV fun v3 =>
          FS.call (Ft.rf _ _) (fS_L_memberVariable_5  _ _ _ _ _ _) (FtR fs0)))
        (FS.nmV fun v5 =>
         FS.call (Ft.rf _ _) (fS_L_memberVariable_5  _ _ _ _ _ _) (FtR fs0)))
       (FS.none))
theorem fS_F_memberVariable (x1 : Int32) (x2 : Int32) (σ : TS)  : FS fs0 σ (F_memberVariable x1 x2 σ) := by
  unfold F_memberVariable
  exact FS.obS (Ft.rf _ _) (fS_L_memberVariable_5  _ _ _ _ _ _) (FtR fs0) (fun r12 s9 h_s9 => FS.some h_s9) fun q8 s9 h_s9 =>
    FS.some h_s9
theorem fS_J_setEquations_176_138 (rec : Int32 → Int32 → Int32 → Int32 → Int32 → TS → Option (Int32 × TS)) (x1 : Int32) (x2 : Int32) (x4 : Int32) (x5 : Int32) (x6 : Int32) (y1 : Int32) (σ : TS) (hrec : ∀ (a0 : Int32) (a1 : Int32) (a2 : Int32) (a3 : Int32) (a4 : Int32) (a5 : TS), FS fs36 a5 (rec a0 a1 a2 a3 a4 a5)) : FS fs36 σ (J_setEquations_176_138 rec x1 x2 x4 x5 x6 y1 σ) := by
  unfold J_setEquations_176_138
  exact FS.ob (Ft.rf _ _) (fS_F_memberVariable _ _ _ ) (le_fs0_fs36) fun r27 s26 h_s26 =>
    FS.ob h_s26 (fS_F_make _ _ _ _ _ ) (FtR fs36) fun r31 s30 h_s30 =>
    FS.ob h_s30 (fS_F_make _ _ _ _ _ ) (FtR fs36) fun r35 s34 h_s34 =>
    FS.nmV fun v38 =>
    FS.call h_s34 (hrec _ _ _ _ _ _) (FtR fs36)
theorem fS_L_setEquations_138   : ∀ (n : Nat) (x1 : Int32) (x2 : Int32) (x4 : Int32) (x5 : Int32) (x6 : Int32) (σ : TS), FS fs36 σ (L_setEquations_138  n x1 x2 x4 x5 x6 σ)
  | 0, _, _, _, _, _, _ => FS.none
  | n + 1, x1, x2, x4, x5, x6, σ => by
    rw [L_setEquations_138]
    exact FS.ite (FS.some (Ft.rf _ _))
      (FS.ob (Ft.rf _ _) (fS_F_headOf _ _ ) (le_fs0_fs36) fun r23 s22 h_s22 =>
       FS.ite (FS.ite (FS.call h_s22 (fS_J_setEquations_176_138 _ _ _ _ _ _ _ _ (fun a0 a1 a2 a3 a4 a5 => fS_L_setEquations_138   _ a0 a1 a2 a3 a4 a5) ) (FtR fs36))
        (FS.call h_s22 (fS_J_setEquations_176_138 _ _ _ _ _ _ _ _ (fun a0 a1 a2 a3 a4 a5 => fS_L_setEquations_138   _ a0 a1 a2 a3 a4 a5) ) (FtR fs36)))
       (FS.nmV fun v40 =>
        FS.call h_s22 (fS_L_setEquations_138  _ _ _ _ _ _ _) (FtR fs36)))
theorem fS_L_setEquations_43   : ∀ (n : Nat) (x1 : Int32) (x2 : Int32) (x3 : Int32) (x4 : Int32) (σ : TS), FS fs62 σ (L_setEquations_43  n x1 x2 x3 x4 σ)
  | 0, _, _, _, _, _ => FS.none
  | n + 1, x1, x2, x3, x4, σ => by
    rw [L_setEquations_43]
    exact FS.ite (FS.some (Ft.rf _ _))
      (FS.ob (Ft.rf _ _) (fS_F_isBad _ ) (le_fs0_fs62) fun r54 s53 h_s53 =>
       FS.ite (FS.ob h_s53 (fS_F_headOf _ _ ) (le_fs0_fs62) fun r58 s57 h_s57 =>
        FS.ite (FS.ob h_s57 (fS_F_make _ _ _ _ _ ) (le_fs36_fs62) fun r62 s61 h_s61 =>
         FS.ob h_s61 (fS_F_memberVariable _ _ _ ) (le_fs0_fs62) fun r66 s65 h_s65 =>
         FS.ob h_s65 (fS_F_make _ _ _ _ _ ) (le_fs36_fs62) fun r70 s69 h_s69 =>
         FS.ob h_s69 (fS_F_addEquation _ _ _ ) (le_fs4_fs62) fun r74 s73 h_s73 =>
         FS.nmV fun v77 =>
         FS.call h_s73 (fS_L_setEquations_43  _ _ _ _ _ _) (FtR fs62))
        (FS.nmV fun v78 =>
         FS.call h_s57 (fS_L_setEquations_43  _ _ _ _ _ _) (FtR fs62)))
       (FS.some h_s53))
theorem fS_L_setEquations_2   : ∀ (n : Nat) (x1 : Int32) (x2 : Int32) (σ : TS), FS fs62 σ (L_setEquations_2  n x1 x2 σ)
  | 0, _, _, _ => FS.none
  | n + 1, x1, x2, σ => by
    rw [L_setEquations_2]
    exact FS.ob (Ft.rf _ _) (fS_F_memberVariable _ _ _ ) (le_fs0_fs62) fun r2 s1 h_s1 =>
      FS.ite (FS.some h_s1)
      (FS.ob h_s1 (fS_F_isBad _ ) (le_fs0_fs62) fun r6 s5 h_s5 =>
       FS.ite (FS.ob h_s5 (fS_F_memberVariable _ _ _ ) (le_fs0_fs62) fun r10 s9 h_s9 =>
        FS.ite (FS.ite (FS.nmV fun v52 =>
          FS.ob h_s9 (fS_L_setEquations_43  _ _ _ _ _ _) (FtR fs62) fun q82 s83 h_s83 =>
          FS.nmV fun v85 =>
          FS.call h_s83 (fS_L_setEquations_2  _ _ _ _) (FtR fs62))
         (FS.ob h_s9 (fS_F_make _ _ _ _ _ ) (le_fs36_fs62) fun r15 s14 h_s14 =>
          FS.ob h_s14 (fS_F_make _ _ _ _ _ ) (le_fs36_fs62) fun r19 s18 h_s18 =>
          FS.ob h_s18 (fS_L_setEquations_138  _ _ _ _ _ _ _) (le_fs36_fs62) fun q43 s44 h_s44 =>
          FS.ob h_s44 (fS_F_addEquation _ _ _ ) (le_fs4_fs62) fun r47 s46 h_s46 =>
          FS.nmV fun v50 =>
          FS.call h_s46 (fS_L_setEquations_2  _ _ _ _) (FtR fs62)))
        (FS.none))
       (FS.some h_s5))
theorem fS_F_setEquations (x1 : Int32) (σ : TS)  : FS fs62 σ (F_setEquations x1 σ) := by
  unfold F_setEquations
  exact FS.ob (Ft.rf _ _) (fS_L_setEquations_2  _ _ _ _) (FtR fs62) fun q90 s91 h_s91 =>
    FS.some h_s91
theorem fS_L_connections_61   : ∀ (n : Nat) (x1 : Int32) (x2 : Int32) (x3 : Int32) (x4 : Int32) (σ : TS), FS fs0 σ (L_connections_61  n x1 x2 x3 x4 σ)
  | 0, _, _, _, _, _ => FS.none
  | n + 1, x1, x2, x3, x4, σ => by
    rw [L_connections_61]
    exact FS.ite (FS.some (Ft.rf _ _))
      (FS.ob (Ft.rf _ _) (fS_F_headOf _ _ ) (FtR fs0) fun r12 s11 h_s11 =>
       FS.ite (FS.nmV fun v16 =>
        FS.nmV fun v17 =>
        FS.call h_s11 (fS_L_connections_61  _ _ _ _ _ _) (FtR fs0))
       (FS.nmV fun v15 =>
        FS.call h_s11 (fS_L_connections_61  _ _ _ _ _ _) (FtR fs0)))
theorem fS_L_connections_134   : ∀ (n : Nat) (x1 : Int32) (x2 : Int32) (x4 : Int32) (σ : TS), FS fs62 σ (L_connections_134  n x1 x2 x4 σ)
  | 0, _, _, _, _ => FS.none
  | n + 1, x1, x2, x4, σ => by
    rw [L_connections_134]
    exact FS.ob (Ft.rf _ _) (fS_F_memberVariable _ _ _ ) (le_fs0_fs62) fun r25 s24 h_s24 =>
      FS.ite (FS.some h_s24)
      (FS.ob h_s24 (fS_F_isBad _ ) (le_fs0_fs62) fun r29 s28 h_s28 =>
       FS.ite (FS.ob h_s28 (fS_F_memberVariable _ _ _ ) (le_fs0_fs62) fun r33 s32 h_s32 =>
        FS.ite (FS.ite (FS.nmV fun v50 =>
          FS.call h_s32 (fS_L_connections_134  _ _ _ _ _) (FtR fs62))
         (FS.ob h_s32 (fS_F_make _ _ _ _ _ ) (le_fs36_fs62) fun r38 s37 h_s37 =>
          FS.ob h_s37 (fS_F_make _ _ _ _ _ ) (le_fs36_fs62) fun r42 s41 h_s41 =>
          FS.ob h_s41 (fS_F_addEquation _ _ _ ) (le_fs4_fs62) fun r46 s45 h_s45 =>
          FS.nmV fun v49 =>
          FS.call h_s45 (fS_L_connections_134  _ _ _ _ _) (FtR fs62)))
        (FS.none))
       (FS.some h_s28))
theorem fS_L_connections_7   : ∀ (n : Nat) (x1 : Int32) (σ : TS), FS fs63 σ (L_connections_7  n x1 σ)
  | 0, _, _ => FS.none
  | n + 1, x1, σ => by
    rw [L_connections_7]
    exact FS.ite (FS.some (Ft.rf _ _))
      (FS.ob (Ft.rf _ _) (fS_F_isBad _ ) (le_fs0_fs63) fun r3 s2 h_s2 =>
       FS.ite (FS.nmV fun v6 =>
        FS.ite (FS.ite (FS.ite (FS.ite (FS.ite (FS.ob h_s2 (fS_L_connections_61  _ _ _ _ _ _) (le_fs0_fs63) fun q20 s21 h_s21 =>
             FS.ite (FS.ite (FS.ob h_s21 (fS_L_connections_134  _ _ _ _ _) (le_fs62_fs63) fun q54 s55 h_s55 =>
               FS.nmV fun v57 =>
               FS.call h_s55 (fS_L_connections_7  _ _ _) (FtR fs63))
              (FS.nmV fun v23 =>
               FS.call h_s21 (fS_L_connections_7  _ _ _) (FtR fs63)))
             (FS.ite (FS.nmT (Ft.p_tsA h_s21 rfl) fun s61 h_s61 =>
               FS.nmT (Ft.p_tsI h_s61 rfl) fun s62 h_s62 =>
               FS.ob h_s62 (fS_F_setEquations _ _ ) (le_fs62_fs63) fun r64 s63 h_s63 =>
               FS.nmV fun v67 =>
               FS.call h_s63 (fS_L_connections_7  _ _ _) (FtR fs63))
              (FS.none)))
            (FS.nmV fun v70 =>
             FS.call h_s2 (fS_L_connections_7  _ _ _) (FtR fs63)))
           (FS.none))
          (FS.nmV fun v9 =>
           FS.call h_s2 (fS_L_connections_7  _ _ _) (FtR fs63)))
         (FS.none))
        (FS.none))
       (FS.some h_s2))
theorem fS_F_connections (σ : TS)  : FS fs63 σ (F_connections σ) := by
  unfold F_connections
  exact FS.nmT (Ft.p_tsI (Ft.rf _ _) rfl) fun s1 h_s1 =>
    FS.ob h_s1 (fS_L_connections_7  _ _ _) (FtR fs63) fun q75 s76 h_s76 =>
    FS.some h_s76
theorem fS_F_leafUnknown (x1 : Int32) (σ : TS)  : FS fs0 σ (F_leafUnknown x1 σ) := by
  unfold F_leafUnknown
  exact FS.ite (FS.ite (FS.ite (FS.some (Ft.rf _ _))
      (FS.none))
     (FS.ite (FS.ite (FS.ite (FS.nmV fun v5 =>
         FS.ite (FS.ite (FS.ite (FS.some (Ft.rf _ _))
           (FS.none))
          (FS.some (Ft.rf _ _)))
         (FS.none))
        (FS.none))
       (FS.none))
      (FS.none)))
    (FS.none)
theorem fS_B_contains (cf_contains : Int32 → Int32 → TS → Option (Int32 × TS)) (x1 : Int32) (x2 : Int32) (σ : TS) (hcf_contains : ∀ (a0 : Int32) (a1 : Int32) (a2 : TS), FS fs0 a2 (cf_contains a0 a1 a2)) : FS fs0 σ (B_contains cf_contains x1 x2 σ) := by
  unfold B_contains
  exact FS.ite (FS.nmV fun v2 =>
     FS.ite (FS.some (Ft.rf _ _))
     (FS.ite (FS.some (Ft.rf _ _))
      (FS.ite (FS.ite (FS.ite (FS.ite (FS.ob (Ft.rf _ _) (fS_F_leafUnknown _ _ ) (FtR fs0) fun r9 s8 h_s8 =>
           FS.ite (FS.some h_s8)
           (FS.some h_s8))
          (FS.some (Ft.rf _ _)))
         (FS.none))
        (FS.none))
       (FS.ite (FS.ob (Ft.rf _ _) (fS_F_leafUnknown _ _ ) (FtR fs0) fun r16 s15 h_s15 =>
         FS.ite (FS.some h_s15)
         (FS.some h_s15))
        (FS.ite (FS.some (Ft.rf _ _))
         (FS.ite (FS.ite (FS.ob (Ft.rf _ _) (hcf_contains _ _ _) (FtR fs0) fun r24 s23 h_s23 =>
            FS.ite (FS.ite (FS.ob h_s23 (hcf_contains _ _ _) (FtR fs0) fun r29 s28 h_s28 =>
              FS.ite (FS.some h_s28)
              (FS.some h_s28))
             (FS.none))
            (FS.some h_s23))
           (FS.none))
          (FS.ite (FS.ite (FS.ob (Ft.rf _ _) (hcf_contains _ _ _) (FtR fs0) fun r37 s36 h_s36 =>
             FS.ite (FS.ite (FS.ob h_s36 (hcf_contains _ _ _) (FtR fs0) fun r42 s41 h_s41 =>
               FS.ite (FS.some h_s41)
               (FS.some h_s41))
              (FS.none))
             (FS.some h_s36))
            (FS.none))
           (FS.ite (FS.ite (FS.ob (Ft.rf _ _) (hcf_contains _ _ _) (FtR fs0) fun r50 s49 h_s49 =>
              FS.some h_s49)
             (FS.none))
            (FS.ite (FS.ite (FS.ob (Ft.rf _ _) (hcf_contains _ _ _) (FtR fs0) fun r56 s55 h_s55 =>
               FS.ite (FS.ite (FS.ob h_s55 (hcf_contains _ _ _) (FtR fs0) fun r61 s60 h_s60 =>
                 FS.ite (FS.some h_s60)
                 (FS.some h_s60))
                (FS.none))
               (FS.some h_s55))
              (FS.none))
             (FS.ite (FS.ite (FS.ob (Ft.rf _ _) (hcf_contains _ _ _) (FtR fs0) fun r69 s68 h_s68 =>
                FS.ite (FS.ite (FS.ob h_s68 (hcf_contains _ _ _) (FtR fs0) fun r74 s73 h_s73 =>
                  FS.ite (FS.some h_s73)
                  (FS.some h_s73))
                 (FS.none))
                (FS.some h_s68))
               (FS.none))
              (FS.ite (FS.ite (FS.ob (Ft.rf _ _) (hcf_contains _ _ _) (FtR fs0) fun r82 s81 h_s81 =>
                 FS.some h_s81)
                (FS.none))
               (FS.ite (FS.ite (FS.ob (Ft.rf _ _) (hcf_contains _ _ _) (FtR fs0) fun r88 s87 h_s87 =>
                  FS.some h_s87)
                 (FS.none))
                (FS.ite (FS.ite (FS.ob (Ft.rf _ _) (hcf_contains _ _ _) (FtR fs0) fun r94 s93 h_s93 =>
                   FS.some h_s93)
                  (FS.none))
                 (FS.ite (FS.ite (FS.ob (Ft.rf _ _) (hcf_contains _ _ _) (FtR fs0) fun r100 s99 h_s99 =>
                    FS.some h_s99)
                   (FS.none))
                  (FS.ite (FS.ite (FS.ob (Ft.rf _ _) (hcf_contains _ _ _) (FtR fs0) fun r106 s105 h_s105 =>
                     FS.ite (FS.ite (FS.ob h_s105 (hcf_contains _ _ _) (FtR fs0) fun r111 s110 h_s110 =>
                       FS.ite (FS.some h_s110)
                       (FS.some h_s110))
                      (FS.none))
                     (FS.some h_s105))
                    (FS.none))
                   (FS.ite (FS.ite (FS.ob (Ft.rf _ _) (hcf_contains _ _ _) (FtR fs0) fun r119 s118 h_s118 =>
                      FS.ite (FS.ite (FS.ob h_s118 (hcf_contains _ _ _) (FtR fs0) fun r124 s123 h_s123 =>
                        FS.ite (FS.some h_s123)
                        (FS.some h_s123))
                       (FS.none))
                      (FS.some h_s118))
                     (FS.none))
                    (FS.ite (FS.ite (FS.ob (Ft.rf _ _) (hcf_contains _ _ _) (FtR fs0) fun r132 s131 h_s131 =>
                       FS.ite (FS.ite (FS.ob h_s131 (hcf_contains _ _ _) (FtR fs0) fun r137 s136 h_s136 =>
                         FS.ite (FS.ite (FS.ob h_s136 (hcf_contains _ _ _) (FtR fs0) fun r142 s141 h_s141 =>
                           FS.ite (FS.some h_s141)
                           (FS.some h_s141))
                          (FS.none))
                         (FS.some h_s136))
                        (FS.none))
                       (FS.some h_s131))
                      (FS.none))
                     (FS.ite (FS.ite (FS.ob (Ft.rf _ _) (hcf_contains _ _ _) (FtR fs0) fun r151 s150 h_s150 =>
                        FS.ite (FS.ite (FS.ob h_s150 (hcf_contains _ _ _) (FtR fs0) fun r156 s155 h_s155 =>
                          FS.ite (FS.some h_s155)
                          (FS.some h_s155))
                         (FS.none))
                        (FS.some h_s150))
                       (FS.none))
                      (FS.ite (FS.ite (FS.ob (Ft.rf _ _) (hcf_contains _ _ _) (FtR fs0) fun r164 s163 h_s163 =>
                         FS.ite (FS.ite (FS.ob h_s163 (hcf_contains _ _ _) (FtR fs0) fun r169 s168 h_s168 =>
                           FS.ite (FS.some h_s168)
                           (FS.some h_s168))
                          (FS.none))
                         (FS.some h_s163))
                        (FS.none))
                       (FS.ite (FS.ite (FS.ob (Ft.rf _ _) (hcf_contains _ _ _) (FtR fs0) fun r177 s176 h_s176 =>
                          FS.ite (FS.ite (FS.ob h_s176 (hcf_contains _ _ _) (FtR fs0) fun r182 s181 h_s181 =>
                            FS.ite (FS.some h_s181)
                            (FS.some h_s181))
                           (FS.none))
                          (FS.some h_s176))
                         (FS.none))
                        (FS.ite (FS.ite (FS.ob (Ft.rf _ _) (hcf_contains _ _ _) (FtR fs0) fun r190 s189 h_s189 =>
                           FS.ite (FS.ite (FS.ob h_s189 (hcf_contains _ _ _) (FtR fs0) fun r195 s194 h_s194 =>
                             FS.ite (FS.some h_s194)
                             (FS.some h_s194))
                            (FS.none))
                           (FS.some h_s189))
                          (FS.none))
                         (FS.ite (FS.ite (FS.ob (Ft.rf _ _) (hcf_contains _ _ _) (FtR fs0) fun r203 s202 h_s202 =>
                            FS.ite (FS.ite (FS.ob h_s202 (hcf_contains _ _ _) (FtR fs0) fun r208 s207 h_s207 =>
                              FS.ite (FS.some h_s207)
                              (FS.some h_s207))
                             (FS.none))
                            (FS.some h_s202))
                           (FS.none))
                          (FS.ite (FS.ite (FS.ob (Ft.rf _ _) (hcf_contains _ _ _) (FtR fs0) fun r216 s215 h_s215 =>
                             FS.ite (FS.ite (FS.ob h_s215 (hcf_contains _ _ _) (FtR fs0) fun r221 s220 h_s220 =>
                               FS.ite (FS.some h_s220)
                               (FS.some h_s220))
                              (FS.none))
                             (FS.some h_s215))
                            (FS.none))
                           (FS.ite (FS.ite (FS.ob (Ft.rf _ _) (hcf_contains _ _ _) (FtR fs0) fun r229 s228 h_s228 =>
                              FS.some h_s228)
                             (FS.none))
                            (FS.ite (FS.some (Ft.rf _ _))
                             (FS.ite (FS.ite (FS.ob (Ft.rf _ _) (hcf_contains _ _ _) (FtR fs0) fun r236 s235 h_s235 =>
                                FS.ite (FS.ite (FS.ob h_s235 (hcf_contains _ _ _) (FtR fs0) fun r241 s240 h_s240 =>
                                  FS.ite (FS.some h_s240)
                                  (FS.some h_s240))
                                 (FS.none))
                                (FS.some h_s235))
                               (FS.none))
                              (FS.ite (FS.ite (FS.ob (Ft.rf _ _) (hcf_contains _ _ _) (FtR fs0) fun r249 s248 h_s248 =>
                                 FS.ite (FS.ite (FS.ob h_s248 (hcf_contains _ _ _) (FtR fs0) fun r254 s253 h_s253 =>
                                   FS.ite (FS.some h_s253)
                                   (FS.some h_s253))
                                  (FS.none))
                                 (FS.some h_s248))
                                (FS.none))
                               (FS.ite (FS.ite (FS.ob (Ft.rf _ _) (hcf_contains _ _ _) (FtR fs0) fun r262 s261 h_s261 =>
                                  FS.ite (FS.ite (FS.ob h_s261 (hcf_contains _ _ _) (FtR fs0) fun r267 s266 h_s266 =>
                                    FS.ite (FS.some h_s266)
                                    (FS.some h_s266))
                                   (FS.none))
                                  (FS.some h_s261))
                                 (FS.none))
                                (FS.ite (FS.ite (FS.ob (Ft.rf _ _) (hcf_contains _ _ _) (FtR fs0) fun r275 s274 h_s274 =>
                                   FS.ite (FS.ite (FS.ob h_s274 (hcf_contains _ _ _) (FtR fs0) fun r280 s279 h_s279 =>
                                     FS.ite (FS.some h_s279)
                                     (FS.some h_s279))
                                    (FS.none))
                                   (FS.some h_s274))
                                  (FS.none))
                                 (FS.ite (FS.ite (FS.ob (Ft.rf _ _) (hcf_contains _ _ _) (FtR fs0) fun r288 s287 h_s287 =>
                                    FS.ite (FS.ite (FS.ob h_s287 (hcf_contains _ _ _) (FtR fs0) fun r293 s292 h_s292 =>
                                      FS.ite (FS.some h_s292)
                                      (FS.some h_s292))
                                     (FS.none))
                                    (FS.some h_s287))
                                   (FS.none))
                                  (FS.ite (FS.ob (Ft.rf _ _) (fS_F_leafUnknown _ _ ) (FtR fs0) fun r300 s299 h_s299 =>
                                    FS.ite (FS.some h_s299)
                                    (FS.some h_s299))
                                   (FS.ite (FS.ob (Ft.rf _ _) (hcf_contains _ _ _) (FtR fs0) fun r306 s305 h_s305 =>
                                     FS.ite (FS.ite (FS.ob h_s305 (hcf_contains _ _ _) (FtR fs0) fun r311 s310 h_s310 =>
                                       FS.ite (FS.some h_s310)
                                       (FS.some h_s310))
                                      (FS.none))
                                     (FS.some h_s305))
                                    (FS.none)))))))))))))))))))))))))))))))))
    (FS.none)
theorem fS_G_contains : ∀ d : Nat, (∀ (a0 : Int32) (a1 : Int32) (a2 : TS), FS fs0 a2 ((G_contains d) a0 a1 a2)) := by
  intro d
  induction d with
  | zero => exact fun _ _ _ => FS.none
  | succ d ih => exact fun a0 a1 a2 => fS_B_contains _ a0 a1 a2 (fun b0 b1 b2 => ih b0 b1 b2)
theorem fS_F_contains (a0 : Int32) (a1 : Int32) (a2 : TS) : FS fs0 a2 (F_contains a0 a1 a2) := (fS_G_contains 300) a0 a1 a2
theorem fS_J_count_53 (x1 : Int32) (σ : TS)  : FS fs0 σ (J_count_53 x1 σ) := by
  unfold J_count_53
  exact FS.ite (FS.some (Ft.rf _ _))
    (FS.ite (FS.some (Ft.rf _ _))
     (FS.ite (FS.some (Ft.rf _ _))
      (FS.ite (FS.some (Ft.rf _ _))
       (FS.ite (FS.some (Ft.rf _ _))
        (FS.ite (FS.some (Ft.rf _ _))
         (FS.ite (FS.some (Ft.rf _ _))
          (FS.ite (FS.some (Ft.rf _ _))
           (FS.ite (FS.some (Ft.rf _ _))
            (FS.ite (FS.some (Ft.rf _ _))
             (FS.ite (FS.some (Ft.rf _ _))
              (FS.ite (FS.some (Ft.rf _ _))
               (FS.ite (FS.some (Ft.rf _ _))
                (FS.ite (FS.some (Ft.rf _ _))
                 (FS.ite (FS.some (Ft.rf _ _))
                  (FS.ite (FS.some (Ft.rf _ _))
                   (FS.ite (FS.some (Ft.rf _ _))
                    (FS.ite (FS.some (Ft.rf _ _))
                     (FS.ite (FS.some (Ft.rf _ _))
                      (FS.ite (FS.some (Ft.rf _ _))
                       (FS.some (Ft.rf _ _)))))))))))))))))))))
theorem fS_J_count_37 (x1 : Int32) (σ : TS)  : FS fs0 σ (J_count_37 x1 σ) := by
  unfold J_count_37
  exact FS.ite (FS.call (Ft.rf _ _) (fS_J_count_53 _ _ ) (FtR fs0))
    (FS.ite (FS.some (Ft.rf _ _))
     (FS.call (Ft.rf _ _) (fS_J_count_53 _ _ ) (FtR fs0)))
theorem fS_J_count_24 (x1 : Int32) (σ : TS)  : FS fs0 σ (J_count_24 x1 σ) := by
  unfold J_count_24
  exact FS.ite (FS.call (Ft.rf _ _) (fS_J_count_37 _ _ ) (FtR fs0))
    (FS.ite (FS.some (Ft.rf _ _))
     (FS.call (Ft.rf _ _) (fS_J_count_37 _ _ ) (FtR fs0)))
theorem fS_F_count (x1 : Int32) (σ : TS)  : FS fs0 σ (F_count x1 σ) := by
  unfold F_count
  exact FS.ite (FS.some (Ft.rf _ _))
    (FS.ite (FS.ite (FS.call (Ft.rf _ _) (fS_J_count_24 _ _ ) (FtR fs0))
      (FS.ite (FS.some (Ft.rf _ _))
       (FS.call (Ft.rf _ _) (fS_J_count_24 _ _ ) (FtR fs0))))
     (FS.some (Ft.rf _ _)))
theorem fS_F_numeralNode (x1 : Int32) (σ : TS)  : FS fs36 σ (F_numeralNode x1 σ) := by
  unfold F_numeralNode
  exact FS.ob (Ft.rf _ _) (fS_F_make _ _ _ _ _ ) (FtR fs36) fun r2 s1 h_s1 =>
    FS.some h_s1
theorem fS_F_newUnknown (x1 : Int32) (x2 : Int32) (x3 : Int32) (σ : TS)  : FS fs64 σ (F_newUnknown x1 x2 x3 σ) := by
  unfold F_newUnknown
  exact FS.ite (FS.ob (Ft.rf _ _) (fS_F_bad _ _ _ ) (le_fs1_fs64) fun r27 s26 h_s26 =>
     FS.some h_s26)
    (FS.nmV fun v1 =>
     FS.nmT (Ft.p_tsI (Ft.rf _ _) rfl) fun s2 h_s2 =>
     FS.ite (FS.nmT (Ft.p_tsA h_s2 rfl) fun s4 h_s4 =>
      FS.ite (FS.nmT (Ft.p_tsA h_s4 rfl) fun s6 h_s6 =>
       FS.ite (FS.nmT (Ft.p_tsA h_s6 rfl) fun s8 h_s8 =>
        FS.ite (FS.nmT (Ft.p_tsA h_s8 rfl) fun s10 h_s10 =>
         FS.ite (FS.nmT (Ft.p_tsA h_s10 rfl) fun s12 h_s12 =>
          FS.ite (FS.ite (FS.some h_s12)
           (FS.ob h_s12 (fS_F_bad _ _ _ ) (le_fs1_fs64) fun r14 s13 h_s13 =>
            FS.some h_s13))
          (FS.ite (FS.nmT (Ft.p_tsA h_s12 rfl) fun s19 h_s19 =>
            FS.ite (FS.some h_s19)
            (FS.ob h_s19 (fS_F_bad _ _ _ ) (le_fs1_fs64) fun r21 s20 h_s20 =>
             FS.some h_s20))
           (FS.none)))
         (FS.none))
        (FS.none))
       (FS.none))
      (FS.none))
     (FS.none))
theorem fS_F_unknownNode (x1 : Int32) (σ : TS)  : FS fs36 σ (F_unknownNode x1 σ) := by
  unfold F_unknownNode
  exact FS.ob (Ft.rf _ _) (fS_F_make _ _ _ _ _ ) (FtR fs36) fun r2 s1 h_s1 =>
    FS.some h_s1
theorem fS_J_derived_307 (cf_derived : Int32 → TS → Option (Int32 × TS)) (x3 : Int32) (x4 : Int32) (σ : TS) (hcf_derived : ∀ (a0 : Int32) (a1 : TS), FS fs65 a1 (cf_derived a0 a1)) : FS fs65 σ (J_derived_307 cf_derived x3 x4 σ) := by
  unfold J_derived_307
  exact FS.ob (Ft.rf _ _) (fS_F_isBad _ ) (le_fs0_fs65) fun r24 s23 h_s23 =>
    FS.ite (FS.ite (FS.ob h_s23 (fS_F_unknownNode _ _ ) (le_fs36_fs65) fun r29 s28 h_s28 =>
      FS.ite (FS.some h_s28)
      (FS.ob h_s28 (fS_F_make _ _ _ _ _ ) (le_fs36_fs65) fun r33 s32 h_s32 =>
       FS.some h_s32))
     (FS.none))
    (FS.some h_s23)
theorem fS_J_derived_276 (cf_derived : Int32 → TS → Option (Int32 × TS)) (x3 : Int32) (y0 : Int32) (σ : TS) (hcf_derived : ∀ (a0 : Int32) (a1 : TS), FS fs65 a1 (cf_derived a0 a1)) : FS fs65 σ (J_derived_276 cf_derived x3 y0 σ) := by
  unfold J_derived_276
  exact FS.ite (FS.ite (FS.call (Ft.rf _ _) (fS_J_derived_307 _ _ _ _ hcf_derived ) (FtR fs65))
     (FS.ite (FS.ite (FS.ob (Ft.rf _ _) (fS_F_newUnknown _ _ _ _ ) (le_fs64_fs65) fun r41 s40 h_s40 =>
        FS.call h_s40 (fS_J_derived_307 _ _ _ _ hcf_derived ) (FtR fs65))
       (FS.none))
      (FS.none)))
    (FS.none)
theorem fS_J_derived_275 (cf_derived : Int32 → TS → Option (Int32 × TS)) (x3 : Int32) (σ : TS) (hcf_derived : ∀ (a0 : Int32) (a1 : TS), FS fs65 a1 (cf_derived a0 a1)) : FS fs65 σ (J_derived_275 cf_derived x3 σ) := by
  unfold J_derived_275
  exact FS.call (Ft.rf _ _) (fS_J_derived_276 _ _ _ _ hcf_derived ) (FtR fs65)
theorem fS_J_derived_245 (cf_derived : Int32 → TS → Option (Int32 × TS)) (x1 : Int32) (x2 : Int32) (σ : TS) (hcf_derived : ∀ (a0 : Int32) (a1 : TS), FS fs65 a1 (cf_derived a0 a1)) : FS fs65 σ (J_derived_245 cf_derived x1 x2 σ) := by
  unfold J_derived_245
  exact FS.ob (Ft.rf _ _) (fS_F_leafUnknown _ _ ) (le_fs0_fs65) fun r19 s18 h_s18 =>
    FS.ite (FS.call h_s18 (fS_J_derived_275 _ _ _ hcf_derived ) (FtR fs65))
    (FS.ite (FS.ite (FS.ite (FS.call h_s18 (fS_J_derived_275 _ _ _ hcf_derived ) (FtR fs65))
       (FS.call h_s18 (fS_J_derived_276 _ _ _ _ hcf_derived ) (FtR fs65)))
      (FS.none))
     (FS.none))
theorem fS_B_derived (cf_derived : Int32 → TS → Option (Int32 × TS)) (x1 : Int32) (σ : TS) (hcf_derived : ∀ (a0 : Int32) (a1 : TS), FS fs65 a1 (cf_derived a0 a1)) : FS fs65 σ (B_derived cf_derived x1 σ) := by
  unfold B_derived
  exact FS.ob (Ft.rf _ _) (fS_F_isBad _ ) (le_fs0_fs65) fun r2 s1 h_s1 =>
    FS.ite (FS.ite (FS.nmV fun v6 =>
      FS.ite (FS.ob h_s1 (fS_F_numeralNode _ _ ) (le_fs36_fs65) fun r9 s8 h_s8 =>
       FS.some h_s8)
      (FS.ite (FS.ob h_s1 (fS_F_numeralNode _ _ ) (le_fs36_fs65) fun r14 s13 h_s13 =>
        FS.some h_s13)
       (FS.ite (FS.ite (FS.ite (FS.ite (FS.ite (FS.call h_s1 (fS_J_derived_245 _ _ _ _ hcf_derived ) (FtR fs65))
            (FS.ob h_s1 (fS_F_numeralNode _ _ ) (le_fs36_fs65) fun r52 s51 h_s51 =>
             FS.some h_s51))
           (FS.none))
          (FS.none))
         (FS.call h_s1 (fS_J_derived_245 _ _ _ _ hcf_derived ) (FtR fs65)))
        (FS.ite (FS.ite (FS.ite (FS.ite (FS.ite (FS.call h_s1 (fS_J_derived_245 _ _ _ _ hcf_derived ) (FtR fs65))
             (FS.ob h_s1 (fS_F_numeralNode _ _ ) (le_fs36_fs65) fun r61 s60 h_s60 =>
              FS.some h_s60))
            (FS.none))
           (FS.none))
          (FS.call h_s1 (fS_J_derived_245 _ _ _ _ hcf_derived ) (FtR fs65)))
         (FS.ite (FS.ite (FS.ite (FS.ite (FS.ite (FS.ite (FS.ite (FS.ob h_s1 (fS_F_numeralNode _ _ ) (le_fs36_fs65) fun r76 s75 h_s75 =>
                 FS.some h_s75)
                (FS.ob h_s1 (fS_F_numeralNode _ _ ) (le_fs36_fs65) fun r80 s79 h_s79 =>
                 FS.ob h_s79 (fS_F_make _ _ _ _ _ ) (le_fs36_fs65) fun r84 s83 h_s83 =>
                 FS.some h_s83))
               (FS.none))
              (FS.none))
             (FS.ob h_s1 (fS_F_numeralNode _ _ ) (le_fs36_fs65) fun r70 s69 h_s69 =>
              FS.some h_s69))
            (FS.none))
           (FS.none))
          (FS.ite (FS.ite (FS.ob h_s1 (hcf_derived _ _) (FtR fs65) fun r92 s91 h_s91 =>
             FS.ite (FS.ob h_s91 (hcf_derived _ _) (FtR fs65) fun r97 s96 h_s96 =>
              FS.ob h_s96 (fS_F_make _ _ _ _ _ ) (le_fs36_fs65) fun r101 s100 h_s100 =>
              FS.some h_s100)
             (FS.none))
            (FS.none))
           (FS.ite (FS.ite (FS.ob h_s1 (hcf_derived _ _) (FtR fs65) fun r107 s106 h_s106 =>
              FS.ite (FS.ob h_s106 (hcf_derived _ _) (FtR fs65) fun r112 s111 h_s111 =>
               FS.ob h_s111 (fS_F_make _ _ _ _ _ ) (le_fs36_fs65) fun r116 s115 h_s115 =>
               FS.some h_s115)
              (FS.none))
             (FS.none))
            (FS.ite (FS.ite (FS.ob h_s1 (hcf_derived _ _) (FtR fs65) fun r122 s121 h_s121 =>
               FS.ob h_s121 (fS_F_make _ _ _ _ _ ) (le_fs36_fs65) fun r126 s125 h_s125 =>
               FS.some h_s125)
              (FS.none))
             (FS.ite (FS.ite (FS.ob h_s1 (hcf_derived _ _) (FtR fs65) fun r132 s131 h_s131 =>
                FS.ite (FS.ob h_s131 (hcf_derived _ _) (FtR fs65) fun r137 s136 h_s136 =>
                 FS.ite (FS.ob h_s136 (fS_F_make _ _ _ _ _ ) (le_fs36_fs65) fun r142 s141 h_s141 =>
                  FS.ite (FS.ob h_s141 (fS_F_make _ _ _ _ _ ) (le_fs36_fs65) fun r147 s146 h_s146 =>
                   FS.ob h_s146 (fS_F_make _ _ _ _ _ ) (le_fs36_fs65) fun r151 s150 h_s150 =>
                   FS.some h_s150)
                  (FS.none))
                 (FS.none))
                (FS.none))
               (FS.none))
              (FS.ite (FS.ite (FS.ob h_s1 (hcf_derived _ _) (FtR fs65) fun r157 s156 h_s156 =>
                 FS.ite (FS.ob h_s156 (hcf_derived _ _) (FtR fs65) fun r162 s161 h_s161 =>
                  FS.ite (FS.ite (FS.ob h_s161 (fS_F_make _ _ _ _ _ ) (le_fs36_fs65) fun r168 s167 h_s167 =>
                    FS.ob h_s167 (fS_F_make _ _ _ _ _ ) (le_fs36_fs65) fun r172 s171 h_s171 =>
                    FS.ob h_s171 (fS_F_make _ _ _ _ _ ) (le_fs36_fs65) fun r176 s175 h_s175 =>
                    FS.ite (FS.ob h_s175 (fS_F_make _ _ _ _ _ ) (le_fs36_fs65) fun r181 s180 h_s180 =>
                     FS.some h_s180)
                    (FS.none))
                   (FS.none))
                  (FS.none))
                 (FS.none))
                (FS.none))
               (FS.ite (FS.ite (FS.ob h_s1 (hcf_derived _ _) (FtR fs65) fun r187 s186 h_s186 =>
                  FS.ite (FS.ob h_s186 (fS_F_make _ _ _ _ _ ) (le_fs36_fs65) fun r192 s191 h_s191 =>
                   FS.ob h_s191 (fS_F_make _ _ _ _ _ ) (le_fs36_fs65) fun r196 s195 h_s195 =>
                   FS.some h_s195)
                  (FS.none))
                 (FS.none))
                (FS.ite (FS.ite (FS.ob h_s1 (hcf_derived _ _) (FtR fs65) fun r202 s201 h_s201 =>
                   FS.ite (FS.ob h_s201 (fS_F_make _ _ _ _ _ ) (le_fs36_fs65) fun r207 s206 h_s206 =>
                    FS.ob h_s206 (fS_F_numeralNode _ _ ) (le_fs36_fs65) fun r211 s210 h_s210 =>
                    FS.ob h_s210 (fS_F_make _ _ _ _ _ ) (le_fs36_fs65) fun r215 s214 h_s214 =>
                    FS.ob h_s214 (fS_F_make _ _ _ _ _ ) (le_fs36_fs65) fun r219 s218 h_s218 =>
                    FS.some h_s218)
                   (FS.none))
                  (FS.none))
                 (FS.ite (FS.ob h_s1 (fS_F_numeralNode _ _ ) (le_fs36_fs65) fun r224 s223 h_s223 =>
                   FS.some h_s223)
                  (FS.ite (FS.ob h_s1 (fS_F_numeralNode _ _ ) (le_fs36_fs65) fun r229 s228 h_s228 =>
                    FS.some h_s228)
                   (FS.ite (FS.ite (FS.ob h_s1 (hcf_derived _ _) (FtR fs65) fun r235 s234 h_s234 =>
                      FS.ite (FS.ob h_s234 (hcf_derived _ _) (FtR fs65) fun r240 s239 h_s239 =>
                       FS.ite (FS.ite (FS.ite (FS.ob h_s239 (fS_F_make _ _ _ _ _ ) (le_fs36_fs65) fun r256 s255 h_s255 =>
                          FS.ob h_s255 (fS_F_make _ _ _ _ _ ) (le_fs36_fs65) fun r260 s259 h_s259 =>
                          FS.some h_s259)
                         (FS.none))
                        (FS.none))
                       (FS.ite (FS.ite (FS.ob h_s239 (fS_F_make _ _ _ _ _ ) (le_fs36_fs65) fun r246 s245 h_s245 =>
                          FS.ob h_s245 (fS_F_make _ _ _ _ _ ) (le_fs36_fs65) fun r250 s249 h_s249 =>
                          FS.some h_s249)
                         (FS.none))
                        (FS.none)))
                      (FS.none))
                     (FS.none))
                    (FS.ite (FS.ite (FS.ob h_s1 (hcf_derived _ _) (FtR fs65) fun r267 s266 h_s266 =>
                       FS.ite (FS.ob h_s266 (hcf_derived _ _) (FtR fs65) fun r272 s271 h_s271 =>
                        FS.ite (FS.ite (FS.ite (FS.ob h_s271 (fS_F_make _ _ _ _ _ ) (le_fs36_fs65) fun r288 s287 h_s287 =>
                           FS.ob h_s287 (fS_F_make _ _ _ _ _ ) (le_fs36_fs65) fun r292 s291 h_s291 =>
                           FS.some h_s291)
                          (FS.none))
                         (FS.none))
                        (FS.ite (FS.ite (FS.ob h_s271 (fS_F_make _ _ _ _ _ ) (le_fs36_fs65) fun r278 s277 h_s277 =>
                           FS.ob h_s277 (fS_F_make _ _ _ _ _ ) (le_fs36_fs65) fun r282 s281 h_s281 =>
                           FS.some h_s281)
                          (FS.none))
                         (FS.none)))
                       (FS.none))
                      (FS.none))
                     (FS.ite (FS.ite (FS.ob h_s1 (hcf_derived _ _) (FtR fs65) fun r299 s298 h_s298 =>
                        FS.ite (FS.ite (FS.ob h_s298 (hcf_derived _ _) (FtR fs65) fun r305 s304 h_s304 =>
                          FS.ob h_s304 (fS_F_make _ _ _ _ _ ) (le_fs36_fs65) fun r309 s308 h_s308 =>
                          FS.some h_s308)
                         (FS.none))
                        (FS.none))
                       (FS.none))
                      (FS.ite (FS.ite (FS.ob h_s1 (hcf_derived _ _) (FtR fs65) fun r315 s314 h_s314 =>
                         FS.ite (FS.ite (FS.ob h_s314 (hcf_derived _ _) (FtR fs65) fun r321 s320 h_s320 =>
                           FS.ob h_s320 (fS_F_make _ _ _ _ _ ) (le_fs36_fs65) fun r325 s324 h_s324 =>
                           FS.some h_s324)
                          (FS.none))
                         (FS.none))
                        (FS.none))
                       (FS.ite (FS.ite (FS.ob h_s1 (hcf_derived _ _) (FtR fs65) fun r331 s330 h_s330 =>
                          FS.ite (FS.ite (FS.ob h_s330 (hcf_derived _ _) (FtR fs65) fun r337 s336 h_s336 =>
                            FS.ob h_s336 (fS_F_make _ _ _ _ _ ) (le_fs36_fs65) fun r341 s340 h_s340 =>
                            FS.some h_s340)
                           (FS.none))
                          (FS.none))
                         (FS.none))
                        (FS.ite (FS.ite (FS.ob h_s1 (hcf_derived _ _) (FtR fs65) fun r347 s346 h_s346 =>
                           FS.ite (FS.ite (FS.ob h_s346 (hcf_derived _ _) (FtR fs65) fun r353 s352 h_s352 =>
                             FS.ob h_s352 (fS_F_make _ _ _ _ _ ) (le_fs36_fs65) fun r357 s356 h_s356 =>
                             FS.some h_s356)
                            (FS.none))
                           (FS.none))
                          (FS.none))
                         (FS.ite (FS.ite (FS.ob h_s1 (hcf_derived _ _) (FtR fs65) fun r363 s362 h_s362 =>
                            FS.ite (FS.ite (FS.ob h_s362 (hcf_derived _ _) (FtR fs65) fun r369 s368 h_s368 =>
                              FS.ob h_s368 (fS_F_make _ _ _ _ _ ) (le_fs36_fs65) fun r373 s372 h_s372 =>
                              FS.some h_s372)
                             (FS.none))
                            (FS.none))
                           (FS.none))
                          (FS.ite (FS.ite (FS.ob h_s1 (hcf_derived _ _) (FtR fs65) fun r379 s378 h_s378 =>
                             FS.ite (FS.ite (FS.ob h_s378 (hcf_derived _ _) (FtR fs65) fun r385 s384 h_s384 =>
                               FS.ob h_s384 (fS_F_make _ _ _ _ _ ) (le_fs36_fs65) fun r389 s388 h_s388 =>
                               FS.some h_s388)
                              (FS.none))
                             (FS.none))
                            (FS.none))
                           (FS.ite (FS.ite (FS.ob h_s1 (hcf_derived _ _) (FtR fs65) fun r395 s394 h_s394 =>
                              FS.ite (FS.ite (FS.ob h_s394 (hcf_derived _ _) (FtR fs65) fun r401 s400 h_s400 =>
                                FS.ob h_s400 (fS_F_make _ _ _ _ _ ) (le_fs36_fs65) fun r405 s404 h_s404 =>
                                FS.some h_s404)
                               (FS.none))
                              (FS.none))
                             (FS.none))
                            (FS.ite (FS.ite (FS.ob h_s1 (hcf_derived _ _) (FtR fs65) fun r411 s410 h_s410 =>
                               FS.ite (FS.ite (FS.ob h_s410 (hcf_derived _ _) (FtR fs65) fun r417 s416 h_s416 =>
                                 FS.ob h_s416 (fS_F_make _ _ _ _ _ ) (le_fs36_fs65) fun r421 s420 h_s420 =>
                                 FS.some h_s420)
                                (FS.none))
                               (FS.none))
                              (FS.none))
                             (FS.ite (FS.ite (FS.ob h_s1 (hcf_derived _ _) (FtR fs65) fun r427 s426 h_s426 =>
                                FS.ite (FS.ite (FS.ob h_s426 (hcf_derived _ _) (FtR fs65) fun r433 s432 h_s432 =>
                                  FS.ob h_s432 (fS_F_make _ _ _ _ _ ) (le_fs36_fs65) fun r437 s436 h_s436 =>
                                  FS.some h_s436)
                                 (FS.none))
                                (FS.none))
                               (FS.none))
                              (FS.ite (FS.ite (FS.ob h_s1 (hcf_derived _ _) (FtR fs65) fun r443 s442 h_s442 =>
                                 FS.ite (FS.ite (FS.ob h_s442 (hcf_derived _ _) (FtR fs65) fun r449 s448 h_s448 =>
                                   FS.ob h_s448 (fS_F_make _ _ _ _ _ ) (le_fs36_fs65) fun r453 s452 h_s452 =>
                                   FS.some h_s452)
                                  (FS.none))
                                 (FS.none))
                                (FS.none))
                               (FS.ite (FS.ite (FS.ob h_s1 (hcf_derived _ _) (FtR fs65) fun r459 s458 h_s458 =>
                                  FS.ite (FS.ite (FS.ob h_s458 (hcf_derived _ _) (FtR fs65) fun r465 s464 h_s464 =>
                                    FS.ob h_s464 (fS_F_make _ _ _ _ _ ) (le_fs36_fs65) fun r469 s468 h_s468 =>
                                    FS.some h_s468)
                                   (FS.none))
                                  (FS.none))
                                 (FS.none))
                                (FS.ite (FS.ite (FS.ob h_s1 (hcf_derived _ _) (FtR fs65) fun r475 s474 h_s474 =>
                                   FS.ite (FS.ite (FS.ob h_s474 (hcf_derived _ _) (FtR fs65) fun r481 s480 h_s480 =>
                                     FS.ob h_s480 (fS_F_make _ _ _ _ _ ) (le_fs36_fs65) fun r485 s484 h_s484 =>
                                     FS.some h_s484)
                                    (FS.none))
                                   (FS.none))
                                  (FS.none))
                                 (FS.ite (FS.ite (FS.ob h_s1 (hcf_derived _ _) (FtR fs65) fun r491 s490 h_s490 =>
                                    FS.ite (FS.ite (FS.ob h_s490 (hcf_derived _ _) (FtR fs65) fun r497 s496 h_s496 =>
                                      FS.ob h_s496 (fS_F_make _ _ _ _ _ ) (le_fs36_fs65) fun r501 s500 h_s500 =>
                                      FS.some h_s500)
                                     (FS.none))
                                    (FS.none))
                                   (FS.none))
                                  (FS.ite (FS.ite (FS.ob h_s1 (hcf_derived _ _) (FtR fs65) fun r507 s506 h_s506 =>
                                     FS.ite (FS.ite (FS.ob h_s506 (hcf_derived _ _) (FtR fs65) fun r513 s512 h_s512 =>
                                       FS.ob h_s512 (fS_F_make _ _ _ _ _ ) (le_fs36_fs65) fun r517 s516 h_s516 =>
                                       FS.some h_s516)
                                      (FS.none))
                                     (FS.none))
                                    (FS.none))
                                   (FS.ite (FS.ite (FS.ite (FS.ite (FS.ite (FS.call h_s1 (fS_J_derived_245 _ _ _ _ hcf_derived ) (FtR fs65))
                                        (FS.ob h_s1 (fS_F_numeralNode _ _ ) (le_fs36_fs65) fun r524 s523 h_s523 =>
                                         FS.some h_s523))
                                       (FS.none))
                                      (FS.none))
                                     (FS.call h_s1 (fS_J_derived_245 _ _ _ _ hcf_derived ) (FtR fs65)))
                                    (FS.ite (FS.ob h_s1 (hcf_derived _ _) (FtR fs65) fun r531 s530 h_s530 =>
                                      FS.ite (FS.ite (FS.ob h_s530 (hcf_derived _ _) (FtR fs65) fun r537 s536 h_s536 =>
                                        FS.ob h_s536 (fS_F_make _ _ _ _ _ ) (le_fs36_fs65) fun r541 s540 h_s540 =>
                                        FS.some h_s540)
                                       (FS.none))
                                      (FS.none))
                                     (FS.none)))))))))))))))))))))))))))))))))
     (FS.none))
    (FS.some h_s1)
theorem fS_G_derived : ∀ d : Nat, (∀ (a0 : Int32) (a1 : TS), FS fs65 a1 ((G_derived d) a0 a1)) := by
  intro d
  induction d with
  | zero => exact fun _ _ => FS.none
  | succ d ih => exact fun a0 a1 => fS_B_derived _ a0 a1 (fun b0 b1 => ih b0 b1)
theorem fS_F_derived (a0 : Int32) (a1 : TS) : FS fs65 a1 (F_derived a0 a1) := (fS_G_derived 300) a0 a1
theorem fS_B_printedSize (cf_printedSize : Int32 → TS → Option (Int64 × TS)) (x1 : Int32) (σ : TS) (hcf_printedSize : ∀ (a0 : Int32) (a1 : TS), FS fs0 a1 (cf_printedSize a0 a1)) : FS fs0 σ (B_printedSize cf_printedSize x1 σ) := by
  unfold B_printedSize
  exact FS.ite (FS.nmV fun v2 =>
     FS.ite (FS.some (Ft.rf _ _))
     (FS.ite (FS.some (Ft.rf _ _))
      (FS.ite (FS.ite (FS.ite (FS.ite (FS.ite (FS.ite (FS.ite (FS.some (Ft.rf _ _))
             (FS.some (Ft.rf _ _)))
            (FS.none))
           (FS.none))
          (FS.some (Ft.rf _ _)))
         (FS.none))
        (FS.none))
       (FS.ite (FS.ite (FS.ite (FS.ite (FS.ite (FS.ite (FS.ite (FS.some (Ft.rf _ _))
              (FS.some (Ft.rf _ _)))
             (FS.none))
            (FS.none))
           (FS.some (Ft.rf _ _)))
          (FS.none))
         (FS.none))
        (FS.ite (FS.ite (FS.ite (FS.ite (FS.ite (FS.ite (FS.ite (FS.some (Ft.rf _ _))
               (FS.some (Ft.rf _ _)))
              (FS.none))
             (FS.none))
            (FS.some (Ft.rf _ _)))
           (FS.none))
          (FS.none))
         (FS.ite (FS.ite (FS.ob (Ft.rf _ _) (hcf_printedSize _ _) (FtR fs0) fun r29 s28 h_s28 =>
            FS.ite (FS.ob h_s28 (hcf_printedSize _ _) (FtR fs0) fun r34 s33 h_s33 =>
             FS.some h_s33)
            (FS.none))
           (FS.none))
          (FS.ite (FS.ite (FS.ob (Ft.rf _ _) (hcf_printedSize _ _) (FtR fs0) fun r40 s39 h_s39 =>
             FS.ite (FS.ob h_s39 (hcf_printedSize _ _) (FtR fs0) fun r45 s44 h_s44 =>
              FS.some h_s44)
             (FS.none))
            (FS.none))
           (FS.ite (FS.ite (FS.ob (Ft.rf _ _) (hcf_printedSize _ _) (FtR fs0) fun r51 s50 h_s50 =>
              FS.some h_s50)
             (FS.none))
            (FS.ite (FS.ite (FS.ob (Ft.rf _ _) (hcf_printedSize _ _) (FtR fs0) fun r57 s56 h_s56 =>
               FS.ite (FS.ob h_s56 (hcf_printedSize _ _) (FtR fs0) fun r62 s61 h_s61 =>
                FS.some h_s61)
               (FS.none))
              (FS.none))
             (FS.ite (FS.ite (FS.ob (Ft.rf _ _) (hcf_printedSize _ _) (FtR fs0) fun r68 s67 h_s67 =>
                FS.ite (FS.ob h_s67 (hcf_printedSize _ _) (FtR fs0) fun r73 s72 h_s72 =>
                 FS.some h_s72)
                (FS.none))
               (FS.none))
              (FS.ite (FS.ite (FS.ob (Ft.rf _ _) (hcf_printedSize _ _) (FtR fs0) fun r79 s78 h_s78 =>
                 FS.some h_s78)
                (FS.none))
               (FS.ite (FS.ite (FS.ob (Ft.rf _ _) (hcf_printedSize _ _) (FtR fs0) fun r85 s84 h_s84 =>
                  FS.some h_s84)
                 (FS.none))
                (FS.ite (FS.ite (FS.ob (Ft.rf _ _) (hcf_printedSize _ _) (FtR fs0) fun r91 s90 h_s90 =>
                   FS.some h_s90)
                  (FS.none))
                 (FS.ite (FS.ite (FS.ob (Ft.rf _ _) (hcf_printedSize _ _) (FtR fs0) fun r97 s96 h_s96 =>
                    FS.some h_s96)
                   (FS.none))
                  (FS.ite (FS.ite (FS.ob (Ft.rf _ _) (hcf_printedSize _ _) (FtR fs0) fun r103 s102 h_s102 =>
                     FS.ite (FS.ob h_s102 (hcf_printedSize _ _) (FtR fs0) fun r108 s107 h_s107 =>
                      FS.some h_s107)
                     (FS.none))
                    (FS.none))
                   (FS.ite (FS.ite (FS.ob (Ft.rf _ _) (hcf_printedSize _ _) (FtR fs0) fun r114 s113 h_s113 =>
                      FS.ite (FS.ob h_s113 (hcf_printedSize _ _) (FtR fs0) fun r119 s118 h_s118 =>
                       FS.some h_s118)
                      (FS.none))
                     (FS.none))
                    (FS.ite (FS.ite (FS.ob (Ft.rf _ _) (hcf_printedSize _ _) (FtR fs0) fun r125 s124 h_s124 =>
                       FS.ite (FS.ob h_s124 (hcf_printedSize _ _) (FtR fs0) fun r130 s129 h_s129 =>
                        FS.ite (FS.ob h_s129 (hcf_printedSize _ _) (FtR fs0) fun r135 s134 h_s134 =>
                         FS.some h_s134)
                        (FS.none))
                       (FS.none))
                      (FS.none))
                     (FS.ite (FS.ite (FS.ob (Ft.rf _ _) (hcf_printedSize _ _) (FtR fs0) fun r141 s140 h_s140 =>
                        FS.ite (FS.ob h_s140 (hcf_printedSize _ _) (FtR fs0) fun r146 s145 h_s145 =>
                         FS.some h_s145)
                        (FS.none))
                       (FS.none))
                      (FS.ite (FS.ite (FS.ob (Ft.rf _ _) (hcf_printedSize _ _) (FtR fs0) fun r152 s151 h_s151 =>
                         FS.ite (FS.ob h_s151 (hcf_printedSize _ _) (FtR fs0) fun r157 s156 h_s156 =>
                          FS.some h_s156)
                         (FS.none))
                        (FS.none))
                       (FS.ite (FS.ite (FS.ob (Ft.rf _ _) (hcf_printedSize _ _) (FtR fs0) fun r163 s162 h_s162 =>
                          FS.ite (FS.ob h_s162 (hcf_printedSize _ _) (FtR fs0) fun r168 s167 h_s167 =>
                           FS.some h_s167)
                          (FS.none))
                         (FS.none))
                        (FS.ite (FS.ite (FS.ob (Ft.rf _ _) (hcf_printedSize _ _) (FtR fs0) fun r174 s173 h_s173 =>
                           FS.ite (FS.ob h_s173 (hcf_printedSize _ _) (FtR fs0) fun r179 s178 h_s178 =>
                            FS.some h_s178)
                           (FS.none))
                          (FS.none))
                         (FS.ite (FS.ite (FS.ob (Ft.rf _ _) (hcf_printedSize _ _) (FtR fs0) fun r185 s184 h_s184 =>
                            FS.ite (FS.ob h_s184 (hcf_printedSize _ _) (FtR fs0) fun r190 s189 h_s189 =>
                             FS.some h_s189)
                            (FS.none))
                           (FS.none))
                          (FS.ite (FS.ite (FS.ob (Ft.rf _ _) (hcf_printedSize _ _) (FtR fs0) fun r196 s195 h_s195 =>
                             FS.ite (FS.ob h_s195 (hcf_printedSize _ _) (FtR fs0) fun r201 s200 h_s200 =>
                              FS.some h_s200)
                             (FS.none))
                            (FS.none))
                           (FS.ite (FS.ite (FS.ob (Ft.rf _ _) (hcf_printedSize _ _) (FtR fs0) fun r207 s206 h_s206 =>
                              FS.some h_s206)
                             (FS.none))
                            (FS.ite (FS.some (Ft.rf _ _))
                             (FS.ite (FS.ite (FS.ob (Ft.rf _ _) (hcf_printedSize _ _) (FtR fs0) fun r214 s213 h_s213 =>
                                FS.ite (FS.ob h_s213 (hcf_printedSize _ _) (FtR fs0) fun r219 s218 h_s218 =>
                                 FS.some h_s218)
                                (FS.none))
                               (FS.none))
                              (FS.ite (FS.ite (FS.ob (Ft.rf _ _) (hcf_printedSize _ _) (FtR fs0) fun r225 s224 h_s224 =>
                                 FS.ite (FS.ob h_s224 (hcf_printedSize _ _) (FtR fs0) fun r230 s229 h_s229 =>
                                  FS.some h_s229)
                                 (FS.none))
                                (FS.none))
                               (FS.ite (FS.ite (FS.ob (Ft.rf _ _) (hcf_printedSize _ _) (FtR fs0) fun r236 s235 h_s235 =>
                                  FS.ite (FS.ob h_s235 (hcf_printedSize _ _) (FtR fs0) fun r241 s240 h_s240 =>
                                   FS.some h_s240)
                                  (FS.none))
                                 (FS.none))
                                (FS.ite (FS.ite (FS.ob (Ft.rf _ _) (hcf_printedSize _ _) (FtR fs0) fun r247 s246 h_s246 =>
                                   FS.ite (FS.ob h_s246 (hcf_printedSize _ _) (FtR fs0) fun r252 s251 h_s251 =>
                                    FS.some h_s251)
                                   (FS.none))
                                  (FS.none))
                                 (FS.ite (FS.ite (FS.ob (Ft.rf _ _) (hcf_printedSize _ _) (FtR fs0) fun r258 s257 h_s257 =>
                                    FS.ite (FS.ob h_s257 (hcf_printedSize _ _) (FtR fs0) fun r263 s262 h_s262 =>
                                     FS.some h_s262)
                                    (FS.none))
                                   (FS.none))
                                  (FS.ite (FS.some (Ft.rf _ _))
                                   (FS.ite (FS.ob (Ft.rf _ _) (hcf_printedSize _ _) (FtR fs0) fun r269 s268 h_s268 =>
                                     FS.ite (FS.ob h_s268 (hcf_printedSize _ _) (FtR fs0) fun r274 s273 h_s273 =>
                                      FS.some h_s273)
                                     (FS.none))
                                    (FS.none)))))))))))))))))))))))))))))))))
    (FS.none)
theorem fS_G_printedSize : ∀ d : Nat, (∀ (a0 : Int32) (a1 : TS), FS fs0 a1 ((G_printedSize d) a0 a1)) := by
  intro d
  induction d with
  | zero => exact fun _ _ => FS.none
  | succ d ih => exact fun a0 a1 => fS_B_printedSize _ a0 a1 (fun b0 b1 => ih b0 b1)
theorem fS_F_printedSize (a0 : Int32) (a1 : TS) : FS fs0 a1 (F_printedSize a0 a1) := (fS_G_printedSize 800) a0 a1
theorem fS_B_printedHeight (cf_printedHeight : Int32 → TS → Option (Int32 × TS)) (x1 : Int32) (σ : TS) (hcf_printedHeight : ∀ (a0 : Int32) (a1 : TS), FS fs0 a1 (cf_printedHeight a0 a1)) : FS fs0 σ (B_printedHeight cf_printedHeight x1 σ) := by
  unfold B_printedHeight
  exact FS.ite (FS.nmV fun v2 =>
     FS.ite (FS.some (Ft.rf _ _))
     (FS.ite (FS.some (Ft.rf _ _))
      (FS.ite (FS.ite (FS.ite (FS.ite (FS.ite (FS.ite (FS.ite (FS.some (Ft.rf _ _))
             (FS.some (Ft.rf _ _)))
            (FS.none))
           (FS.none))
          (FS.some (Ft.rf _ _)))
         (FS.none))
        (FS.none))
       (FS.ite (FS.ite (FS.ite (FS.ite (FS.ite (FS.ite (FS.ite (FS.some (Ft.rf _ _))
              (FS.some (Ft.rf _ _)))
             (FS.none))
            (FS.none))
           (FS.some (Ft.rf _ _)))
          (FS.none))
         (FS.none))
        (FS.ite (FS.ite (FS.ite (FS.ite (FS.ite (FS.ite (FS.ite (FS.some (Ft.rf _ _))
               (FS.some (Ft.rf _ _)))
              (FS.none))
             (FS.none))
            (FS.some (Ft.rf _ _)))
           (FS.none))
          (FS.none))
         (FS.ite (FS.ite (FS.ob (Ft.rf _ _) (hcf_printedHeight _ _) (FtR fs0) fun r29 s28 h_s28 =>
            FS.ite (FS.ob h_s28 (hcf_printedHeight _ _) (FtR fs0) fun r34 s33 h_s33 =>
             FS.some h_s33)
            (FS.none))
           (FS.none))
          (FS.ite (FS.ite (FS.ob (Ft.rf _ _) (hcf_printedHeight _ _) (FtR fs0) fun r40 s39 h_s39 =>
             FS.ite (FS.ob h_s39 (hcf_printedHeight _ _) (FtR fs0) fun r45 s44 h_s44 =>
              FS.some h_s44)
             (FS.none))
            (FS.none))
           (FS.ite (FS.ite (FS.ob (Ft.rf _ _) (hcf_printedHeight _ _) (FtR fs0) fun r51 s50 h_s50 =>
              FS.some h_s50)
             (FS.none))
            (FS.ite (FS.ite (FS.ob (Ft.rf _ _) (hcf_printedHeight _ _) (FtR fs0) fun r57 s56 h_s56 =>
               FS.ite (FS.ob h_s56 (hcf_printedHeight _ _) (FtR fs0) fun r62 s61 h_s61 =>
                FS.some h_s61)
               (FS.none))
              (FS.none))
             (FS.ite (FS.ite (FS.ob (Ft.rf _ _) (hcf_printedHeight _ _) (FtR fs0) fun r68 s67 h_s67 =>
                FS.ite (FS.ob h_s67 (hcf_printedHeight _ _) (FtR fs0) fun r73 s72 h_s72 =>
                 FS.some h_s72)
                (FS.none))
               (FS.none))
              (FS.ite (FS.ite (FS.ob (Ft.rf _ _) (hcf_printedHeight _ _) (FtR fs0) fun r79 s78 h_s78 =>
                 FS.some h_s78)
                (FS.none))
               (FS.ite (FS.ite (FS.ob (Ft.rf _ _) (hcf_printedHeight _ _) (FtR fs0) fun r85 s84 h_s84 =>
                  FS.some h_s84)
                 (FS.none))
                (FS.ite (FS.ite (FS.ob (Ft.rf _ _) (hcf_printedHeight _ _) (FtR fs0) fun r91 s90 h_s90 =>
                   FS.some h_s90)
                  (FS.none))
                 (FS.ite (FS.ite (FS.ob (Ft.rf _ _) (hcf_printedHeight _ _) (FtR fs0) fun r97 s96 h_s96 =>
                    FS.some h_s96)
                   (FS.none))
                  (FS.ite (FS.ite (FS.ob (Ft.rf _ _) (hcf_printedHeight _ _) (FtR fs0) fun r103 s102 h_s102 =>
                     FS.ite (FS.ob h_s102 (hcf_printedHeight _ _) (FtR fs0) fun r108 s107 h_s107 =>
                      FS.some h_s107)
                     (FS.none))
                    (FS.none))
                   (FS.ite (FS.ite (FS.ob (Ft.rf _ _) (hcf_printedHeight _ _) (FtR fs0) fun r114 s113 h_s113 =>
                      FS.ite (FS.ob h_s113 (hcf_printedHeight _ _) (FtR fs0) fun r119 s118 h_s118 =>
                       FS.some h_s118)
                      (FS.none))
                     (FS.none))
                    (FS.ite (FS.ite (FS.ob (Ft.rf _ _) (hcf_printedHeight _ _) (FtR fs0) fun r125 s124 h_s124 =>
                       FS.ite (FS.ob h_s124 (hcf_printedHeight _ _) (FtR fs0) fun r130 s129 h_s129 =>
                        FS.ite (FS.ob h_s129 (hcf_printedHeight _ _) (FtR fs0) fun r135 s134 h_s134 =>
                         FS.some h_s134)
                        (FS.none))
                       (FS.none))
                      (FS.none))
                     (FS.ite (FS.ite (FS.ob (Ft.rf _ _) (hcf_printedHeight _ _) (FtR fs0) fun r141 s140 h_s140 =>
                        FS.ite (FS.ob h_s140 (hcf_printedHeight _ _) (FtR fs0) fun r146 s145 h_s145 =>
                         FS.some h_s145)
                        (FS.none))
                       (FS.none))
                      (FS.ite (FS.ite (FS.ob (Ft.rf _ _) (hcf_printedHeight _ _) (FtR fs0) fun r152 s151 h_s151 =>
                         FS.ite (FS.ob h_s151 (hcf_printedHeight _ _) (FtR fs0) fun r157 s156 h_s156 =>
                          FS.some h_s156)
                         (FS.none))
                        (FS.none))
                       (FS.ite (FS.ite (FS.ob (Ft.rf _ _) (hcf_printedHeight _ _) (FtR fs0) fun r163 s162 h_s162 =>
                          FS.ite (FS.ob h_s162 (hcf_printedHeight _ _) (FtR fs0) fun r168 s167 h_s167 =>
                           FS.some h_s167)
                          (FS.none))
                         (FS.none))
                        (FS.ite (FS.ite (FS.ob (Ft.rf _ _) (hcf_printedHeight _ _) (FtR fs0) fun r174 s173 h_s173 =>
                           FS.ite (FS.ob h_s173 (hcf_printedHeight _ _) (FtR fs0) fun r179 s178 h_s178 =>
                            FS.some h_s178)
                           (FS.none))
                          (FS.none))
                         (FS.ite (FS.ite (FS.ob (Ft.rf _ _) (hcf_printedHeight _ _) (FtR fs0) fun r185 s184 h_s184 =>
                            FS.ite (FS.ob h_s184 (hcf_printedHeight _ _) (FtR fs0) fun r190 s189 h_s189 =>
                             FS.some h_s189)
                            (FS.none))
                           (FS.none))
                          (FS.ite (FS.ite (FS.ob (Ft.rf _ _) (hcf_printedHeight _ _) (FtR fs0) fun r196 s195 h_s195 =>
                             FS.ite (FS.ob h_s195 (hcf_printedHeight _ _) (FtR fs0) fun r201 s200 h_s200 =>
                              FS.some h_s200)
                             (FS.none))
                            (FS.none))
                           (FS.ite (FS.ite (FS.ob (Ft.rf _ _) (hcf_printedHeight _ _) (FtR fs0) fun r207 s206 h_s206 =>
                              FS.some h_s206)
                             (FS.none))
                            (FS.ite (FS.some (Ft.rf _ _))
                             (FS.ite (FS.ite (FS.ob (Ft.rf _ _) (hcf_printedHeight _ _) (FtR fs0) fun r214 s213 h_s213 =>
                                FS.ite (FS.ob h_s213 (hcf_printedHeight _ _) (FtR fs0) fun r219 s218 h_s218 =>
                                 FS.some h_s218)
                                (FS.none))
                               (FS.none))
                              (FS.ite (FS.ite (FS.ob (Ft.rf _ _) (hcf_printedHeight _ _) (FtR fs0) fun r225 s224 h_s224 =>
                                 FS.ite (FS.ob h_s224 (hcf_printedHeight _ _) (FtR fs0) fun r230 s229 h_s229 =>
                                  FS.some h_s229)
                                 (FS.none))
                                (FS.none))
                               (FS.ite (FS.ite (FS.ob (Ft.rf _ _) (hcf_printedHeight _ _) (FtR fs0) fun r236 s235 h_s235 =>
                                  FS.ite (FS.ob h_s235 (hcf_printedHeight _ _) (FtR fs0) fun r241 s240 h_s240 =>
                                   FS.some h_s240)
                                  (FS.none))
                                 (FS.none))
                                (FS.ite (FS.ite (FS.ob (Ft.rf _ _) (hcf_printedHeight _ _) (FtR fs0) fun r247 s246 h_s246 =>
                                   FS.ite (FS.ob h_s246 (hcf_printedHeight _ _) (FtR fs0) fun r252 s251 h_s251 =>
                                    FS.some h_s251)
                                   (FS.none))
                                  (FS.none))
                                 (FS.ite (FS.ite (FS.ob (Ft.rf _ _) (hcf_printedHeight _ _) (FtR fs0) fun r258 s257 h_s257 =>
                                    FS.ite (FS.ob h_s257 (hcf_printedHeight _ _) (FtR fs0) fun r263 s262 h_s262 =>
                                     FS.some h_s262)
                                    (FS.none))
                                   (FS.none))
                                  (FS.ite (FS.some (Ft.rf _ _))
                                   (FS.ite (FS.ob (Ft.rf _ _) (hcf_printedHeight _ _) (FtR fs0) fun r269 s268 h_s268 =>
                                     FS.ite (FS.ob h_s268 (hcf_printedHeight _ _) (FtR fs0) fun r274 s273 h_s273 =>
                                      FS.some h_s273)
                                     (FS.none))
                                    (FS.none)))))))))))))))))))))))))))))))))
    (FS.none)
theorem fS_G_printedHeight : ∀ d : Nat, (∀ (a0 : Int32) (a1 : TS), FS fs0 a1 ((G_printedHeight d) a0 a1)) := by
  intro d
  induction d with
  | zero => exact fun _ _ => FS.none
  | succ d ih => exact fun a0 a1 => fS_B_printedHeight _ a0 a1 (fun b0 b1 => ih b0 b1)
theorem fS_F_printedHeight (a0 : Int32) (a1 : TS) : FS fs0 a1 (F_printedHeight a0 a1) := (fS_G_printedHeight 800) a0 a1
theorem fS_B_standsIn (cf_standsIn : Int32 → TS → Option (Unit × TS)) (x1 : Int32) (σ : TS) (hcf_standsIn : ∀ (a0 : Int32) (a1 : TS), FS fs66 a1 (cf_standsIn a0 a1)) : FS fs66 σ (B_standsIn cf_standsIn x1 σ) := by
  unfold B_standsIn
  exact FS.ite (FS.nmV fun v2 =>
     FS.ite (FS.some (Ft.rf _ _))
     (FS.ite (FS.some (Ft.rf _ _))
      (FS.ite (FS.ite (FS.ite (FS.ite (FS.ite (FS.ite (FS.ite (FS.ite (FS.nmT (Ft.p_tsA (Ft.rf _ _) rfl) fun s12 h_s12 =>
               FS.some h_s12)
              (FS.none))
             (FS.none))
            (FS.none))
           (FS.none))
          (FS.some (Ft.rf _ _)))
         (FS.none))
        (FS.none))
       (FS.ite (FS.ite (FS.ite (FS.ite (FS.ite (FS.ite (FS.nmT (Ft.p_tsA (Ft.rf _ _) rfl) fun s20 h_s20 =>
              FS.some h_s20)
             (FS.none))
            (FS.none))
           (FS.none))
          (FS.none))
         (FS.none))
        (FS.ite (FS.some (Ft.rf _ _))
         (FS.ite (FS.ite (FS.ob (Ft.rf _ _) (hcf_standsIn _ _) (FtR fs66) fun r25 s24 h_s24 =>
            FS.ite (FS.ob h_s24 (hcf_standsIn _ _) (FtR fs66) fun r30 s29 h_s29 =>
             FS.some h_s29)
            (FS.none))
           (FS.none))
          (FS.ite (FS.ite (FS.ob (Ft.rf _ _) (hcf_standsIn _ _) (FtR fs66) fun r36 s35 h_s35 =>
             FS.ite (FS.ob h_s35 (hcf_standsIn _ _) (FtR fs66) fun r41 s40 h_s40 =>
              FS.some h_s40)
             (FS.none))
            (FS.none))
           (FS.ite (FS.ite (FS.ob (Ft.rf _ _) (hcf_standsIn _ _) (FtR fs66) fun r47 s46 h_s46 =>
              FS.some h_s46)
             (FS.none))
            (FS.ite (FS.ite (FS.ob (Ft.rf _ _) (hcf_standsIn _ _) (FtR fs66) fun r53 s52 h_s52 =>
               FS.ite (FS.ob h_s52 (hcf_standsIn _ _) (FtR fs66) fun r58 s57 h_s57 =>
                FS.some h_s57)
               (FS.none))
              (FS.none))
             (FS.ite (FS.ite (FS.ob (Ft.rf _ _) (hcf_standsIn _ _) (FtR fs66) fun r64 s63 h_s63 =>
                FS.ite (FS.ob h_s63 (hcf_standsIn _ _) (FtR fs66) fun r69 s68 h_s68 =>
                 FS.some h_s68)
                (FS.none))
               (FS.none))
              (FS.ite (FS.ite (FS.ob (Ft.rf _ _) (hcf_standsIn _ _) (FtR fs66) fun r75 s74 h_s74 =>
                 FS.some h_s74)
                (FS.none))
               (FS.ite (FS.ite (FS.ob (Ft.rf _ _) (hcf_standsIn _ _) (FtR fs66) fun r81 s80 h_s80 =>
                  FS.some h_s80)
                 (FS.none))
                (FS.ite (FS.ite (FS.ob (Ft.rf _ _) (hcf_standsIn _ _) (FtR fs66) fun r87 s86 h_s86 =>
                   FS.some h_s86)
                  (FS.none))
                 (FS.ite (FS.ite (FS.ob (Ft.rf _ _) (hcf_standsIn _ _) (FtR fs66) fun r93 s92 h_s92 =>
                    FS.some h_s92)
                   (FS.none))
                  (FS.ite (FS.ite (FS.ob (Ft.rf _ _) (hcf_standsIn _ _) (FtR fs66) fun r99 s98 h_s98 =>
                     FS.ite (FS.ob h_s98 (hcf_standsIn _ _) (FtR fs66) fun r104 s103 h_s103 =>
                      FS.some h_s103)
                     (FS.none))
                    (FS.none))
                   (FS.ite (FS.ite (FS.ob (Ft.rf _ _) (hcf_standsIn _ _) (FtR fs66) fun r110 s109 h_s109 =>
                      FS.ite (FS.ob h_s109 (hcf_standsIn _ _) (FtR fs66) fun r115 s114 h_s114 =>
                       FS.some h_s114)
                      (FS.none))
                     (FS.none))
                    (FS.ite (FS.ite (FS.ob (Ft.rf _ _) (hcf_standsIn _ _) (FtR fs66) fun r121 s120 h_s120 =>
                       FS.ite (FS.ob h_s120 (hcf_standsIn _ _) (FtR fs66) fun r126 s125 h_s125 =>
                        FS.ite (FS.ob h_s125 (hcf_standsIn _ _) (FtR fs66) fun r131 s130 h_s130 =>
                         FS.some h_s130)
                        (FS.none))
                       (FS.none))
                      (FS.none))
                     (FS.ite (FS.ite (FS.ob (Ft.rf _ _) (hcf_standsIn _ _) (FtR fs66) fun r137 s136 h_s136 =>
                        FS.ite (FS.ob h_s136 (hcf_standsIn _ _) (FtR fs66) fun r142 s141 h_s141 =>
                         FS.some h_s141)
                        (FS.none))
                       (FS.none))
                      (FS.ite (FS.ite (FS.ob (Ft.rf _ _) (hcf_standsIn _ _) (FtR fs66) fun r148 s147 h_s147 =>
                         FS.ite (FS.ob h_s147 (hcf_standsIn _ _) (FtR fs66) fun r153 s152 h_s152 =>
                          FS.some h_s152)
                         (FS.none))
                        (FS.none))
                       (FS.ite (FS.ite (FS.ob (Ft.rf _ _) (hcf_standsIn _ _) (FtR fs66) fun r159 s158 h_s158 =>
                          FS.ite (FS.ob h_s158 (hcf_standsIn _ _) (FtR fs66) fun r164 s163 h_s163 =>
                           FS.some h_s163)
                          (FS.none))
                         (FS.none))
                        (FS.ite (FS.ite (FS.ob (Ft.rf _ _) (hcf_standsIn _ _) (FtR fs66) fun r170 s169 h_s169 =>
                           FS.ite (FS.ob h_s169 (hcf_standsIn _ _) (FtR fs66) fun r175 s174 h_s174 =>
                            FS.some h_s174)
                           (FS.none))
                          (FS.none))
                         (FS.ite (FS.ite (FS.ob (Ft.rf _ _) (hcf_standsIn _ _) (FtR fs66) fun r181 s180 h_s180 =>
                            FS.ite (FS.ob h_s180 (hcf_standsIn _ _) (FtR fs66) fun r186 s185 h_s185 =>
                             FS.some h_s185)
                            (FS.none))
                           (FS.none))
                          (FS.ite (FS.ite (FS.ob (Ft.rf _ _) (hcf_standsIn _ _) (FtR fs66) fun r192 s191 h_s191 =>
                             FS.ite (FS.ob h_s191 (hcf_standsIn _ _) (FtR fs66) fun r197 s196 h_s196 =>
                              FS.some h_s196)
                             (FS.none))
                            (FS.none))
                           (FS.ite (FS.ite (FS.ob (Ft.rf _ _) (hcf_standsIn _ _) (FtR fs66) fun r203 s202 h_s202 =>
                              FS.some h_s202)
                             (FS.none))
                            (FS.ite (FS.some (Ft.rf _ _))
                             (FS.ite (FS.ite (FS.ob (Ft.rf _ _) (hcf_standsIn _ _) (FtR fs66) fun r210 s209 h_s209 =>
                                FS.ite (FS.ob h_s209 (hcf_standsIn _ _) (FtR fs66) fun r215 s214 h_s214 =>
                                 FS.some h_s214)
                                (FS.none))
                               (FS.none))
                              (FS.ite (FS.ite (FS.ob (Ft.rf _ _) (hcf_standsIn _ _) (FtR fs66) fun r221 s220 h_s220 =>
                                 FS.ite (FS.ob h_s220 (hcf_standsIn _ _) (FtR fs66) fun r226 s225 h_s225 =>
                                  FS.some h_s225)
                                 (FS.none))
                                (FS.none))
                               (FS.ite (FS.ite (FS.ob (Ft.rf _ _) (hcf_standsIn _ _) (FtR fs66) fun r232 s231 h_s231 =>
                                  FS.ite (FS.ob h_s231 (hcf_standsIn _ _) (FtR fs66) fun r237 s236 h_s236 =>
                                   FS.some h_s236)
                                  (FS.none))
                                 (FS.none))
                                (FS.ite (FS.ite (FS.ob (Ft.rf _ _) (hcf_standsIn _ _) (FtR fs66) fun r243 s242 h_s242 =>
                                   FS.ite (FS.ob h_s242 (hcf_standsIn _ _) (FtR fs66) fun r248 s247 h_s247 =>
                                    FS.some h_s247)
                                   (FS.none))
                                  (FS.none))
                                 (FS.ite (FS.ite (FS.ob (Ft.rf _ _) (hcf_standsIn _ _) (FtR fs66) fun r254 s253 h_s253 =>
                                    FS.ite (FS.ob h_s253 (hcf_standsIn _ _) (FtR fs66) fun r259 s258 h_s258 =>
                                     FS.some h_s258)
                                    (FS.none))
                                   (FS.none))
                                  (FS.ite (FS.ite (FS.ite (FS.nmT (Ft.p_tsA (Ft.rf _ _) rfl) fun s265 h_s265 =>
                                      FS.some h_s265)
                                     (FS.none))
                                    (FS.none))
                                   (FS.ite (FS.ob (Ft.rf _ _) (hcf_standsIn _ _) (FtR fs66) fun r268 s267 h_s267 =>
                                     FS.ite (FS.ob h_s267 (hcf_standsIn _ _) (FtR fs66) fun r273 s272 h_s272 =>
                                      FS.some h_s272)
                                     (FS.none))
                                    (FS.none)))))))))))))))))))))))))))))))))
    (FS.none)
theorem fS_G_standsIn : ∀ d : Nat, (∀ (a0 : Int32) (a1 : TS), FS fs66 a1 ((G_standsIn d) a0 a1)) := by
  intro d
  induction d with
  | zero => exact fun _ _ => FS.none
  | succ d ih => exact fun a0 a1 => fS_B_standsIn _ a0 a1 (fun b0 b1 => ih b0 b1)
theorem fS_F_standsIn (a0 : Int32) (a1 : TS) : FS fs66 a1 (F_standsIn a0 a1) := (fS_G_standsIn 300) a0 a1
theorem fS_L_learn_2   : ∀ (n : Nat) (x1 : Int32) (x2 : Int32) (σ : TS), FS fs66 σ (L_learn_2  n x1 x2 σ)
  | 0, _, _, _ => FS.none
  | n + 1, x1, x2, σ => by
    rw [L_learn_2]
    exact FS.ite (FS.some (Ft.rf _ _))
      (FS.ite (FS.nmT (Ft.p_tsA (Ft.rf _ _) rfl) fun s2 h_s2 =>
        FS.nmV fun v3 =>
        FS.call h_s2 (fS_L_learn_2  _ _ _ _) (FtR fs66))
       (FS.none))
