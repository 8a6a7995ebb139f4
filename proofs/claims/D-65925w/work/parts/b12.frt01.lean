/-! Layer B: frames of the twin -/
set_option maxRecDepth 100000
theorem fS_L_learn_44   : ∀ (n : Nat) (x1 : Int32) (x2 : Int32) (σ : TS), FS fs67 σ (L_learn_44  n x1 x2 σ)
  | 0, _, _, _ => FS.none
  | n + 1, x1, x2, σ => by
    rw [L_learn_44]
    exact FS.ite (FS.some (Ft.rf _ _))
      (FS.ite (FS.ite (FS.nmT (Ft.p_tsA (Ft.rf _ _) rfl) fun s21 h_s21 =>
         FS.nmV fun v22 =>
         FS.call h_s21 (fS_L_learn_44  _ _ _ _) (FtR fs67))
        (FS.none))
       (FS.none))
theorem fS_F_learn (x1 : Int32) (σ : TS)  : FS fs68 σ (F_learn x1 σ) := by
  unfold F_learn
  exact FS.ob (Ft.rf _ _) (fS_L_learn_2  _ _ _ _) (le_fs66_fs68) fun q5 s6 h_s6 =>
    FS.ite (FS.ob h_s6 (fS_F_standsIn  _ _) (le_fs66_fs68) fun r10 s9 h_s9 =>
     FS.ite (FS.ob h_s9 (fS_F_standsIn  _ _) (le_fs66_fs68) fun r15 s14 h_s14 =>
      FS.ob h_s14 (fS_L_learn_44  _ _ _ _) (le_fs67_fs68) fun q24 s25 h_s25 =>
      FS.some h_s25)
     (FS.none))
    (FS.none)
theorem fS_F_differentiate (x1 : Int32) (σ : TS)  : FS fs69 σ (F_differentiate x1 σ) := by
  unfold F_differentiate
  exact FS.ite (FS.ob (Ft.rf _ _) (fS_F_bad _ _ _ ) (le_fs1_fs69) fun r71 s70 h_s70 =>
     FS.some h_s70)
    (FS.nmV fun v1 =>
     FS.nmT (Ft.p_tsI (Ft.rf _ _) rfl) fun s2 h_s2 =>
     FS.ite (FS.nmT (Ft.p_tsA h_s2 rfl) fun s4 h_s4 =>
      FS.ite (FS.ob h_s4 (fS_F_derived  _ _) (le_fs65_fs69) fun r7 s6 h_s6 =>
       FS.ite (FS.nmT (Ft.p_tsA h_s6 rfl) fun s11 h_s11 =>
        FS.ite (FS.ob h_s11 (fS_F_derived  _ _) (le_fs65_fs69) fun r14 s13 h_s13 =>
         FS.ite (FS.nmT (Ft.p_tsA h_s13 rfl) fun s18 h_s18 =>
          FS.ite (FS.nmT (Ft.p_tsA h_s18 rfl) fun s20 h_s20 =>
           FS.ite (FS.nmT (Ft.p_tsA h_s20 rfl) fun s22 h_s22 =>
            FS.ite (FS.nmT (Ft.p_tsA h_s22 rfl) fun s24 h_s24 =>
             FS.ob h_s24 (fS_F_isBad _ ) (le_fs0_fs69) fun r26 s25 h_s25 =>
             FS.ite (FS.ite (FS.ob h_s25 (fS_F_printedSize  _ _) (le_fs0_fs69) fun r31 s30 h_s30 =>
               FS.ite (FS.ob h_s30 (fS_F_printedSize  _ _) (le_fs0_fs69) fun r36 s35 h_s35 =>
                FS.nmT (Ft.p_tsL h_s35 rfl) fun s39 h_s39 =>
                FS.ite (FS.ob h_s39 (fS_F_bad _ _ _ ) (le_fs1_fs69) fun r41 s40 h_s40 =>
                 FS.some h_s40)
                (FS.ite (FS.ob h_s39 (fS_F_printedHeight  _ _) (le_fs0_fs69) fun r46 s45 h_s45 =>
                  FS.ite (FS.ob h_s45 (fS_F_bad _ _ _ ) (le_fs1_fs69) fun r50 s49 h_s49 =>
                   FS.some h_s49)
                  (FS.ite (FS.ob h_s45 (fS_F_printedHeight  _ _) (le_fs0_fs69) fun r55 s54 h_s54 =>
                    FS.ite (FS.ob h_s54 (fS_F_learn _ _ ) (le_fs68_fs69) fun r59 s58 h_s58 =>
                     FS.some h_s58)
                    (FS.ob h_s54 (fS_F_bad _ _ _ ) (le_fs1_fs69) fun r63 s62 h_s62 =>
                     FS.some h_s62))
                   (FS.none)))
                 (FS.none)))
               (FS.none))
              (FS.none))
             (FS.some h_s25))
            (FS.none))
           (FS.none))
          (FS.none))
         (FS.none))
        (FS.none))
       (FS.none))
      (FS.none))
     (FS.none))
theorem fS_L_differs_2   : ∀ (n : Nat) (x1 : Int32) (σ : TS), FS fs2 σ (L_differs_2  n x1 σ)
  | 0, _, _ => FS.none
  | n + 1, x1, σ => by
    rw [L_differs_2]
    exact FS.ite (FS.some (Ft.rf _ _))
      (FS.ob (Ft.rf _ _) (fS_F_isBad _ ) (le_fs0_fs2) fun r2 s1 h_s1 =>
       FS.ite (FS.ite (FS.ite (FS.ite (FS.nmV fun v22 =>
           FS.call h_s1 (fS_L_differs_2  _ _ _) (FtR fs2))
          (FS.ite (FS.ob h_s1 (fS_F_finds  _ _ _) (FtR fs2) fun r9 s8 h_s8 =>
            FS.ite (FS.ite (FS.nmV fun v14 =>
              FS.call h_s8 (fS_L_differs_2  _ _ _) (FtR fs2))
             (FS.ob h_s8 (fS_F_isBad _ ) (le_fs0_fs2) fun r16 s15 h_s15 =>
              FS.ite (FS.some h_s15)
              (FS.nmV fun v19 =>
               FS.call h_s15 (fS_L_differs_2  _ _ _) (FtR fs2))))
            (FS.none))
           (FS.none)))
         (FS.none))
        (FS.none))
       (FS.some h_s1))
theorem fS_F_differs (σ : TS)  : FS fs2 σ (F_differs σ) := by
  unfold F_differs
  exact FS.obS (Ft.rf _ _) (fS_L_differs_2  _ _ _) (FtR fs2) (fun r30 s27 h_s27 => FS.some h_s27) fun q26 s27 h_s27 =>
    FS.some h_s27
theorem fS_J_element_162 (x1 : Int32) (σ : TS)  : FS fs70 σ (J_element_162 x1 σ) := by
  unfold J_element_162
  exact FS.ob (Ft.rf _ _) (fS_F_isBad _ ) (le_fs0_fs70) fun r26 s25 h_s25 =>
    FS.ite (FS.nmT (Ft.p_tsI h_s25 rfl) fun s29 h_s29 =>
     FS.ite (FS.ite (FS.nmT (Ft.p_tsA h_s29 rfl) fun s32 h_s32 =>
       FS.some h_s32)
      (FS.none))
     (FS.none))
    (FS.some h_s25)
theorem fS_F_element (x1 : Int32) (σ : TS)  : FS fs71 σ (F_element x1 σ) := by
  unfold F_element
  exact FS.ite (FS.ite (FS.ite (FS.ob (Ft.rf _ _) (fS_F_cantStand _ ) (le_fs1_fs71) fun r58 s57 h_s57 =>
       FS.some h_s57)
      (FS.ite (FS.ob (Ft.rf _ _) (fS_F_cantStand _ ) (le_fs1_fs71) fun r62 s61 h_s61 =>
        FS.some h_s61)
       (FS.ob (Ft.rf _ _) (fS_F_isWord _ _ ) (le_fs0_fs71) fun r66 s65 h_s65 =>
        FS.ite (FS.ob h_s65 (fS_F_bad _ _ _ ) (le_fs1_fs71) fun r70 s69 h_s69 =>
         FS.some h_s69)
        (FS.ob h_s65 (fS_F_cantStand _ ) (le_fs1_fs71) fun r74 s73 h_s73 =>
         FS.some h_s73))))
     (FS.nmV fun v2 =>
      FS.ite (FS.nmT (Ft.p_tsA (Ft.rf _ _) rfl) fun s4 h_s4 =>
       FS.ite (FS.nmT (Ft.p_tsA h_s4 rfl) fun s6 h_s6 =>
        FS.ite (FS.nmT (Ft.p_tsA h_s6 rfl) fun s8 h_s8 =>
         FS.ite (FS.nmT (Ft.p_tsA h_s8 rfl) fun s10 h_s10 =>
          FS.ite (FS.nmT (Ft.p_tsA h_s10 rfl) fun s12 h_s12 =>
           FS.ob h_s12 (fS_F_isWord _ _ ) (le_fs0_fs71) fun r14 s13 h_s13 =>
           FS.ite (FS.nmT (Ft.p_tsA h_s13 rfl) fun s18 h_s18 =>
            FS.ite (FS.ite (FS.ob h_s18 (fS_F_component _ _ _ ) (le_fs61_fs71) fun r22 s21 h_s21 =>
              FS.call h_s21 (fS_J_element_162 _ _ ) (le_fs70_fs71))
             (FS.ob h_s18 (fS_F_next _ ) (le_fs16_fs71) fun r35 s34 h_s34 =>
              FS.ob h_s34 (fS_F_passName _ ) (le_fs19_fs71) fun r39 s38 h_s38 =>
              FS.ite (FS.nmT (Ft.p_tsB h_s38 rfl) fun s43 h_s43 =>
               FS.ite (FS.nmT (Ft.p_tsB h_s43 rfl) fun s45 h_s45 =>
                FS.ob h_s45 (fS_F_modsOf _ ) (le_fs54_fs71) fun r47 s46 h_s46 =>
                FS.ite (FS.nmT (Ft.p_tsA h_s46 rfl) fun s51 h_s51 =>
                 FS.ob h_s51 (fS_F_pass _ _ ) (le_fs19_fs71) fun r53 s52 h_s52 =>
                 FS.call h_s52 (fS_J_element_162 _ _ ) (le_fs70_fs71))
                (FS.none))
               (FS.none))
              (FS.none)))
            (FS.none))
           (FS.none))
          (FS.none))
         (FS.none))
        (FS.none))
       (FS.none))
      (FS.none)))
    (FS.none)
theorem fS_L_eliminate_21   : ∀ (n : Nat) (x1 : Int32) (x2 : Int32) (x3 : Int32) (x4 : Int32) (σ : TS), FS fs0 σ (L_eliminate_21  n x1 x2 x3 x4 σ)
  | 0, _, _, _, _, _ => FS.none
  | n + 1, x1, x2, x3, x4, σ => by
    rw [L_eliminate_21]
    exact FS.ite (FS.some (Ft.rf _ _))
      (FS.ite (FS.ite (FS.ite (FS.nmV fun v8 =>
          FS.call (Ft.rf _ _) (fS_L_eliminate_21  _ _ _ _ _ _) (FtR fs0))
         (FS.nmV fun v9 =>
          FS.call (Ft.rf _ _) (fS_L_eliminate_21  _ _ _ _ _ _) (FtR fs0)))
        (FS.none))
       (FS.none))
theorem fS_L_eliminate_99   : ∀ (n : Nat) (x1 : Int32) (x2 : Int32) (x3 : Int32) (x4 : Int32) (σ : TS), FS fs72 σ (L_eliminate_99  n x1 x2 x3 x4 σ)
  | 0, _, _, _, _, _ => FS.none
  | n + 1, x1, x2, x3, x4, σ => by
    rw [L_eliminate_99]
    exact FS.ite (FS.some (Ft.rf _ _))
      (FS.ite (FS.some (Ft.rf _ _))
       (FS.ite (FS.nmV fun v17 =>
         FS.ite (FS.ite (FS.nmT (Ft.p_tsA (Ft.rf _ _) rfl) fun s20 h_s20 =>
           FS.ite (FS.nmT (Ft.p_tsA h_s20 rfl) fun s22 h_s22 =>
            FS.nmV fun v23 =>
            FS.call h_s22 (fS_L_eliminate_99  _ _ _ _ _ _) (FtR fs72))
           (FS.none))
          (FS.none))
         (FS.none))
        (FS.none)))
theorem fS_L_eliminate_240   : ∀ (n : Nat) (x1 : Int32) (x2 : Int32) (x4 : Int32) (x5 : Int32) (x6 : Int32) (σ : TS), FS fs73 σ (L_eliminate_240  n x1 x2 x4 x5 x6 σ)
  | 0, _, _, _, _, _, _ => FS.none
  | n + 1, x1, x2, x4, x5, x6, σ => by
    rw [L_eliminate_240]
    exact FS.ite (FS.some (Ft.rf _ _))
      (FS.ob (Ft.rf _ _) (fS_F_isBad _ ) (le_fs0_fs73) fun r44 s43 h_s43 =>
       FS.ite (FS.ite (FS.ob h_s43 (fS_F_times _ _ _ ) (le_fs1_fs73) fun r49 s48 h_s48 =>
         FS.ob h_s48 (fS_F_isBad _ ) (le_fs0_fs73) fun r53 s52 h_s52 =>
         FS.ite (FS.ite (FS.ob h_s52 (fS_F_fit _ _ ) (le_fs1_fs73) fun r59 s58 h_s58 =>
           FS.ite (FS.nmT (Ft.p_tsA h_s58 rfl) fun s63 h_s63 =>
            FS.nmV fun v64 =>
            FS.call h_s63 (fS_L_eliminate_240  _ _ _ _ _ _ _) (FtR fs73))
           (FS.none))
          (FS.none))
         (FS.nmV fun v56 =>
          FS.call h_s52 (fS_L_eliminate_240  _ _ _ _ _ _ _) (FtR fs73)))
        (FS.none))
       (FS.some h_s43))
theorem fS_L_eliminate_177   : ∀ (n : Nat) (x1 : Int32) (x2 : Int32) (x4 : Int32) (σ : TS), FS fs73 σ (L_eliminate_177  n x1 x2 x4 σ)
  | 0, _, _, _, _ => FS.none
  | n + 1, x1, x2, x4, σ => by
    rw [L_eliminate_177]
    exact FS.ite (FS.some (Ft.rf _ _))
      (FS.ob (Ft.rf _ _) (fS_F_isBad _ ) (le_fs0_fs73) fun r31 s30 h_s30 =>
       FS.ite (FS.ite (FS.ite (FS.ob h_s30 (fS_F_over _ _ _ ) (le_fs1_fs73) fun r37 s36 h_s36 =>
          FS.ite (FS.nmT (Ft.p_tsA h_s36 rfl) fun s41 h_s41 =>
           FS.nmV fun v42 =>
           FS.ob h_s41 (fS_L_eliminate_240  _ _ _ _ _ _ _) (FtR fs73) fun q68 s69 h_s69 =>
           FS.nmV fun v71 =>
           FS.call h_s69 (fS_L_eliminate_177  _ _ _ _ _) (FtR fs73))
          (FS.none))
         (FS.none))
        (FS.none))
       (FS.some h_s30))
theorem fS_J_eliminate_172_2 (rec : Int32 → Int32 → TS → Option ((Unit ⊕ Unit) × TS)) (x1 : Int32) (x2 : Int32) (σ : TS) (hrec : ∀ (a0 : Int32) (a1 : Int32) (a2 : TS), FS fs73 a2 (rec a0 a1 a2)) : FS fs73 σ (J_eliminate_172_2 rec x1 x2 σ) := by
  unfold J_eliminate_172_2
  exact FS.nmV fun v29 =>
    FS.ob (Ft.rf _ _) (fS_L_eliminate_177  _ _ _ _ _) (FtR fs73) fun q75 s76 h_s76 =>
    FS.nmV fun v78 =>
    FS.call h_s76 (hrec _ _ _) (FtR fs73)
theorem fS_L_eliminate_2   : ∀ (n : Nat) (x1 : Int32) (x2 : Int32) (σ : TS), FS fs73 σ (L_eliminate_2  n x1 x2 σ)
  | 0, _, _, _ => FS.none
  | n + 1, x1, x2, σ => by
    rw [L_eliminate_2]
    exact FS.ite (FS.some (Ft.rf _ _))
      (FS.ob (Ft.rf _ _) (fS_F_isBad _ ) (le_fs0_fs73) fun r2 s1 h_s1 =>
       FS.ite (FS.nmV fun v5 =>
        FS.ob h_s1 (fS_L_eliminate_21  _ _ _ _ _ _) (le_fs0_fs73) fun q12 s13 h_s13 =>
        FS.ite (FS.ite (FS.ob h_s13 (fS_F_bad _ _ _ ) (le_fs1_fs73) fun r82 s81 h_s81 =>
          FS.some h_s81)
         (FS.ob h_s13 (fS_L_eliminate_99  _ _ _ _ _ _) (le_fs72_fs73) fun q26 s27 h_s27 =>
          FS.call h_s27 (fS_J_eliminate_172_2 _ _ _ _ (fun a0 a1 a2 => fS_L_eliminate_2   _ a0 a1 a2) ) (FtR fs73)))
        (FS.none))
       (FS.some h_s1))
theorem fS_L_eliminate_369   : ∀ (n : Nat) (x1 : Int32) (x2 : Int32) (x3 : Int32) (x4 : Int32) (σ : TS), FS fs1 σ (L_eliminate_369  n x1 x2 x3 x4 σ)
  | 0, _, _, _, _, _ => FS.none
  | n + 1, x1, x2, x3, x4, σ => by
    rw [L_eliminate_369]
    exact FS.ite (FS.some (Ft.rf _ _))
      (FS.ob (Ft.rf _ _) (fS_F_isBad _ ) (le_fs0_fs1) fun r101 s100 h_s100 =>
       FS.ite (FS.ite (FS.ite (FS.ob h_s100 (fS_F_times _ _ _ ) (FtR fs1) fun r107 s106 h_s106 =>
          FS.ob h_s106 (fS_F_isBad _ ) (le_fs0_fs1) fun r111 s110 h_s110 =>
          FS.ite (FS.ob h_s110 (fS_F_fit _ _ ) (FtR fs1) fun r116 s115 h_s115 =>
           FS.nmV fun v119 =>
           FS.call h_s115 (fS_L_eliminate_369  _ _ _ _ _ _) (FtR fs1))
          (FS.nmV fun v114 =>
           FS.call h_s110 (fS_L_eliminate_369  _ _ _ _ _ _) (FtR fs1)))
         (FS.none))
        (FS.none))
       (FS.some h_s100))
theorem fS_J_eliminate_432_340 (rec : Int32 → Int32 → TS → Option (Unit × TS)) (x1 : Int32) (x2 : Int32) (x3 : Int32) (σ : TS) (hrec : ∀ (a0 : Int32) (a1 : Int32) (a2 : TS), FS fs74 a2 (rec a0 a1 a2)) : FS fs74 σ (J_eliminate_432_340 rec x1 x2 x3 σ) := by
  unfold J_eliminate_432_340
  exact FS.ob (Ft.rf _ _) (fS_F_isBad _ ) (le_fs0_fs74) fun r127 s126 h_s126 =>
    FS.ite (FS.ite (FS.ob h_s126 (fS_F_over _ _ _ ) (le_fs1_fs74) fun r132 s131 h_s131 =>
      FS.ite (FS.nmT (Ft.p_tsA h_s131 rfl) fun s136 h_s136 =>
       FS.nmV fun v137 =>
       FS.call h_s136 (hrec _ _ _) (FtR fs74))
      (FS.none))
     (FS.none))
    (FS.ite (FS.nmT (Ft.p_tsA h_s126 rfl) fun s139 h_s139 =>
      FS.nmV fun v140 =>
      FS.call h_s139 (hrec _ _ _) (FtR fs74))
     (FS.none))
theorem fS_L_eliminate_340   : ∀ (n : Nat) (x1 : Int32) (x2 : Int32) (σ : TS), FS fs74 σ (L_eliminate_340  n x1 x2 σ)
  | 0, _, _, _ => FS.none
  | n + 1, x1, x2, σ => by
    rw [L_eliminate_340]
    exact FS.ite (FS.some (Ft.rf _ _))
      (FS.ob (Ft.rf _ _) (fS_F_isBad _ ) (le_fs0_fs74) fun r94 s93 h_s93 =>
       FS.ite (FS.ite (FS.nmV fun v98 =>
         FS.nmV fun v99 =>
         FS.ob h_s93 (fS_L_eliminate_369  _ _ _ _ _ _) (le_fs1_fs74) fun q123 s124 h_s124 =>
         FS.call h_s124 (fS_J_eliminate_432_340 _ _ _ _ _ (fun a0 a1 a2 => fS_L_eliminate_340   _ a0 a1 a2) ) (FtR fs74))
        (FS.none))
       (FS.some h_s93))
theorem fS_J_eliminate_336 (x1 : Int32) (σ : TS)  : FS fs74 σ (J_eliminate_336 x1 σ) := by
  unfold J_eliminate_336
  exact FS.nmV fun v92 =>
    FS.ob (Ft.rf _ _) (fS_L_eliminate_340  _ _ _ _) (FtR fs74) fun q145 s146 h_s146 =>
    FS.some h_s146
theorem fS_F_eliminate (x1 : Int32) (σ : TS)  : FS fs75 σ (F_eliminate x1 σ) := by
  unfold F_eliminate
  exact FS.obS (Ft.rf _ _) (fS_L_eliminate_2  _ _ _ _) (le_fs73_fs75) (fun r150 s90 h_s90 => FS.some h_s90) fun q89 s90 h_s90 =>
    FS.call h_s90 (fS_J_eliminate_336 _ _ ) (le_fs74_fs75)
theorem fS_F_end (x1 : Int32) (σ : TS)  : FS fs76 σ (F_end x1 σ) := by
  unfold F_end
  exact FS.ite (FS.some (Ft.rf _ _))
    (FS.ite (FS.nmT (Ft.p_tsI (Ft.rf _ _) rfl) fun s1 h_s1 =>
      FS.some h_s1)
     (FS.some (Ft.rf _ _)))
theorem fS_B_straight (cf_straight : Int32 → Int32 → TS → Option (Int32 × TS)) (x1 : Int32) (x2 : Int32) (σ : TS) (hcf_straight : ∀ (a0 : Int32) (a1 : Int32) (a2 : TS), FS fs0 a2 (cf_straight a0 a1 a2)) : FS fs0 σ (B_straight cf_straight x1 x2 σ) := by
  unfold B_straight
  exact FS.ob (Ft.rf _ _) (fS_F_contains  _ _ _) (FtR fs0) fun r2 s1 h_s1 =>
    FS.ite (FS.some h_s1)
    (FS.ite (FS.ite (FS.some h_s1)
      (FS.ite (FS.some h_s1)
       (FS.ite (FS.some h_s1)
        (FS.ite (FS.ite (FS.ob h_s1 (hcf_straight _ _ _) (FtR fs0) fun r12 s11 h_s11 =>
           FS.ite (FS.some h_s11)
           (FS.ite (FS.ob h_s11 (hcf_straight _ _ _) (FtR fs0) fun r17 s16 h_s16 =>
             FS.ite (FS.some h_s16)
             (FS.some h_s16))
            (FS.none)))
          (FS.none))
         (FS.ite (FS.ite (FS.ob h_s1 (hcf_straight _ _ _) (FtR fs0) fun r25 s24 h_s24 =>
            FS.ite (FS.some h_s24)
            (FS.ite (FS.ob h_s24 (hcf_straight _ _ _) (FtR fs0) fun r30 s29 h_s29 =>
              FS.ite (FS.some h_s29)
              (FS.some h_s29))
             (FS.none)))
           (FS.none))
          (FS.ite (FS.ite (FS.ob h_s1 (hcf_straight _ _ _) (FtR fs0) fun r38 s37 h_s37 =>
             FS.some h_s37)
            (FS.none))
           (FS.ite (FS.ite (FS.ob h_s1 (fS_F_contains  _ _ _) (FtR fs0) fun r44 s43 h_s43 =>
              FS.ite (FS.ite (FS.ob h_s43 (hcf_straight _ _ _) (FtR fs0) fun r49 s48 h_s48 =>
                FS.some h_s48)
               (FS.none))
              (FS.ite (FS.ob h_s43 (fS_F_contains  _ _ _) (FtR fs0) fun r54 s53 h_s53 =>
                FS.ite (FS.ite (FS.ob h_s53 (hcf_straight _ _ _) (FtR fs0) fun r59 s58 h_s58 =>
                  FS.ite (FS.some h_s58)
                  (FS.some h_s58))
                 (FS.none))
                (FS.some h_s53))
               (FS.none)))
             (FS.none))
            (FS.ite (FS.ite (FS.ob h_s1 (fS_F_contains  _ _ _) (FtR fs0) fun r68 s67 h_s67 =>
               FS.ite (FS.ite (FS.ob h_s67 (hcf_straight _ _ _) (FtR fs0) fun r73 s72 h_s72 =>
                 FS.ite (FS.some h_s72)
                 (FS.some h_s72))
                (FS.none))
               (FS.some h_s67))
              (FS.none))
             (FS.ite (FS.some h_s1)
              (FS.ite (FS.some h_s1)
               (FS.ite (FS.some h_s1)
                (FS.ite (FS.some h_s1)
                 (FS.ite (FS.some h_s1)
                  (FS.ite (FS.some h_s1)
                   (FS.ite (FS.ite (FS.ob h_s1 (fS_F_contains  _ _ _) (FtR fs0) fun r87 s86 h_s86 =>
                      FS.ite (FS.ite (FS.ob h_s86 (hcf_straight _ _ _) (FtR fs0) fun r92 s91 h_s91 =>
                        FS.ite (FS.some h_s91)
                        (FS.ite (FS.ob h_s91 (hcf_straight _ _ _) (FtR fs0) fun r97 s96 h_s96 =>
                          FS.ite (FS.some h_s96)
                          (FS.some h_s96))
                         (FS.none)))
                       (FS.none))
                      (FS.some h_s86))
                     (FS.none))
                    (FS.ite (FS.some h_s1)
                     (FS.ite (FS.some h_s1)
                      (FS.ite (FS.some h_s1)
                       (FS.ite (FS.some h_s1)
                        (FS.ite (FS.some h_s1)
                         (FS.ite (FS.some h_s1)
                          (FS.ite (FS.some h_s1)
                           (FS.ite (FS.some h_s1)
                            (FS.ite (FS.some h_s1)
                             (FS.ite (FS.some h_s1)
                              (FS.ite (FS.some h_s1)
                               (FS.ite (FS.some h_s1)
                                (FS.ite (FS.some h_s1)
                                 (FS.ite (FS.some h_s1)
                                  (FS.some h_s1))))))))))))))))))))))))))))))
     (FS.none))
theorem fS_G_straight : ∀ d : Nat, (∀ (a0 : Int32) (a1 : Int32) (a2 : TS), FS fs0 a2 ((G_straight d) a0 a1 a2)) := by
  intro d
  induction d with
  | zero => exact fun _ _ _ => FS.none
  | succ d ih => exact fun a0 a1 a2 => fS_B_straight _ a0 a1 a2 (fun b0 b1 b2 => ih b0 b1 b2)
theorem fS_F_straight (a0 : Int32) (a1 : Int32) (a2 : TS) : FS fs0 a2 (F_straight a0 a1 a2) := (fS_G_straight 300) a0 a1 a2
theorem fS_F_isLinear (x1 : Int32) (x2 : Int32) (σ : TS)  : FS fs0 σ (F_isLinear x1 x2 σ) := by
  unfold F_isLinear
  exact FS.ite (FS.ob (Ft.rf _ _) (fS_F_straight  _ _ _) (FtR fs0) fun r3 s2 h_s2 =>
     FS.ite (FS.some h_s2)
     (FS.ite (FS.ob h_s2 (fS_F_straight  _ _ _) (FtR fs0) fun r8 s7 h_s7 =>
       FS.ite (FS.some h_s7)
       (FS.some h_s7))
      (FS.none)))
    (FS.none)
theorem fS_L_endBlock_30   : ∀ (n : Nat) (x1 : Int32) (x2 : Int32) (x3 : Int32) (x4 : Int32) (σ : TS), FS fs77 σ (L_endBlock_30  n x1 x2 x3 x4 σ)
  | 0, _, _, _, _, _ => FS.none
  | n + 1, x1, x2, x3, x4, σ => by
    rw [L_endBlock_30]
    exact FS.ite (FS.some (Ft.rf _ _))
      (FS.nmT (Ft.p_tsI (Ft.rf _ _) rfl) fun s5 h_s5 =>
       FS.ite (FS.nmV fun v7 =>
        FS.ite (FS.nmT (Ft.p_tsA h_s5 rfl) fun s9 h_s9 =>
         FS.ite (FS.nmT (Ft.p_tsA h_s9 rfl) fun s11 h_s11 =>
          FS.nmV fun v12 =>
          FS.ite (FS.call h_s11 (fS_L_endBlock_30  _ _ _ _ _ _) (FtR fs77))
          (FS.call h_s11 (fS_L_endBlock_30  _ _ _ _ _ _) (FtR fs77)))
         (FS.none))
        (FS.none))
       (FS.none))
theorem fS_L_endBlock_107   : ∀ (n : Nat) (x2 : Int32) (x3 : Int32) (x5 : Int32) (x6 : Int32) (σ : TS), FS fs78 σ (L_endBlock_107  n x2 x3 x5 x6 σ)
  | 0, _, _, _, _, _ => FS.none
  | n + 1, x2, x3, x5, x6, σ => by
    rw [L_endBlock_107]
    exact FS.ite (FS.some (Ft.rf _ _))
      (FS.ite (FS.ite (FS.ite (FS.ite (FS.ite (FS.nmT (Ft.p_tsA (Ft.rf _ _) rfl) fun s26 h_s26 =>
            FS.nmV fun v27 =>
            FS.nmV fun v28 =>
            FS.call h_s26 (fS_L_endBlock_107  _ _ _ _ _ _) (FtR fs78))
           (FS.none))
          (FS.nmV fun v29 =>
           FS.call (Ft.rf _ _) (fS_L_endBlock_107  _ _ _ _ _ _) (FtR fs78)))
         (FS.none))
        (FS.nmV fun v22 =>
         FS.call (Ft.rf _ _) (fS_L_endBlock_107  _ _ _ _ _ _) (FtR fs78)))
       (FS.none))
theorem fS_L_endBlock_167   : ∀ (n : Nat) (x2 : Int32) (x3 : Int32) (x5 : Int32) (x6 : Int32) (σ : TS), FS fs79 σ (L_endBlock_167  n x2 x3 x5 x6 σ)
  | 0, _, _, _, _, _ => FS.none
  | n + 1, x2, x3, x5, x6, σ => by
    rw [L_endBlock_167]
    exact FS.ite (FS.some (Ft.rf _ _))
      (FS.ite (FS.ite (FS.nmV fun v38 =>
         FS.call (Ft.rf _ _) (fS_L_endBlock_167  _ _ _ _ _ _) (FtR fs79))
        (FS.ite (FS.ite (FS.nmV fun v40 =>
           FS.call (Ft.rf _ _) (fS_L_endBlock_167  _ _ _ _ _ _) (FtR fs79))
          (FS.ite (FS.ite (FS.ite (FS.ite (FS.nmT (Ft.p_tsA (Ft.rf _ _) rfl) fun s44 h_s44 =>
               FS.nmV fun v45 =>
               FS.nmV fun v46 =>
               FS.call h_s44 (fS_L_endBlock_167  _ _ _ _ _ _) (FtR fs79))
              (FS.none))
             (FS.nmV fun v47 =>
              FS.call (Ft.rf _ _) (fS_L_endBlock_167  _ _ _ _ _ _) (FtR fs79)))
            (FS.none))
           (FS.none)))
         (FS.none)))
       (FS.none))
theorem fS_J_endBlock_257 (x2 : Int32) (x3 : Int32) (σ : TS)  : FS fs80 σ (J_endBlock_257 x2 x3 σ) := by
  unfold J_endBlock_257
  exact FS.ite (FS.ite (FS.ite (FS.ite (FS.ite (FS.ob (Ft.rf _ _) (fS_F_isLinear _ _ _ ) (le_fs0_fs80) fun r63 s62 h_s62 =>
         FS.ite (FS.ite (FS.nmT (Ft.p_tsA h_s62 rfl) fun s67 h_s67 =>
           FS.some h_s67)
          (FS.none))
         (FS.ite (FS.nmT (Ft.p_tsA h_s62 rfl) fun s69 h_s69 =>
           FS.some h_s69)
          (FS.none)))
        (FS.none))
       (FS.none))
      (FS.none))
     (FS.none))
    (FS.ite (FS.nmT (Ft.p_tsA (Ft.rf _ _) rfl) fun s57 h_s57 =>
      FS.some h_s57)
     (FS.none))
theorem fS_F_endBlock (x1 : Int32) (σ : TS)  : FS fs81 σ (F_endBlock x1 σ) := by
  unfold F_endBlock
  exact FS.nmV fun v1 =>
    FS.nmT (Ft.p_tsI (Ft.rf _ _) rfl) fun s2 h_s2 =>
    FS.ite (FS.nmT (Ft.p_tsA h_s2 rfl) fun s4 h_s4 =>
     FS.ob h_s4 (fS_L_endBlock_30  _ _ _ _ _ _) (le_fs77_fs81) fun q15 s16 h_s16 =>
     FS.ite (FS.nmT (Ft.p_tsA h_s16 rfl) fun s19 h_s19 =>
      FS.nmV fun v20 =>
      FS.ob h_s19 (fS_L_endBlock_107  _ _ _ _ _ _) (le_fs78_fs81) fun q33 s34 h_s34 =>
      FS.nmV fun v36 =>
      FS.ob h_s34 (fS_L_endBlock_167  _ _ _ _ _ _) (le_fs79_fs81) fun q52 s53 h_s53 =>
      FS.nmT (Ft.p_tsI h_s53 rfl) fun s55 h_s55 =>
      FS.ite (FS.call h_s55 (fS_J_endBlock_257 _ _ _ ) (le_fs80_fs81))
      (FS.ob h_s55 (fS_F_bad _ _ _ ) (le_fs1_fs81) fun r73 s72 h_s72 =>
       FS.call h_s72 (fS_J_endBlock_257 _ _ _ ) (le_fs80_fs81)))
     (FS.none))
    (FS.none)
theorem fS_J_eq_20 (x1 : Int32) (x2 : Int32) (x3 : Int32) (x4 : Int32) (σ : TS)  : FS fs82 σ (J_eq_20 x1 x2 x3 x4 σ) := by
  unfold J_eq_20
  exact FS.ite (FS.nmT (Ft.p_tsA (Ft.rf _ _) rfl) fun s2 h_s2 =>
     FS.ite (FS.nmT (Ft.p_tsA h_s2 rfl) fun s4 h_s4 =>
      FS.ite (FS.nmT (Ft.p_tsA h_s4 rfl) fun s6 h_s6 =>
       FS.ite (FS.nmT (Ft.p_tsA h_s6 rfl) fun s8 h_s8 =>
        FS.ite (FS.nmT (Ft.p_tsA h_s8 rfl) fun s10 h_s10 =>
         FS.nmT (Ft.p_tsI h_s10 rfl) fun s11 h_s11 =>
         FS.some h_s11)
        (FS.none))
       (FS.none))
      (FS.none))
     (FS.none))
    (FS.none)
theorem fS_F_eq (x1 : Int32) (x2 : Int32) (x3 : Int32) (x4 : Int32) (σ : TS)  : FS fs82 σ (F_eq x1 x2 x3 x4 σ) := by
  unfold F_eq
  exact FS.ite (FS.nmT (Ft.p_tsI (Ft.rf _ _) rfl) fun s12 h_s12 =>
     FS.call h_s12 (fS_J_eq_20 _ _ _ _ _ ) (FtR fs82))
    (FS.call (Ft.rf _ _) (fS_J_eq_20 _ _ _ _ _ ) (FtR fs82))
theorem fS_F_orNone (x0 : Int32) (σ : TS)  : FS fs0 σ (F_orNone x0 σ) := by
  unfold F_orNone
  exact FS.ite (FS.some (Ft.rf _ _))
    (FS.some (Ft.rf _ _))
theorem fS_L_equation_80   : ∀ (n : Nat) (x1 : Int32) (x2 : Int32) (x3 : Int32) (x4 : Int32) (σ : TS), FS fs0 σ (L_equation_80  n x1 x2 x3 x4 σ)
  | 0, _, _, _, _, _ => FS.none
  | n + 1, x1, x2, x3, x4, σ => by
    rw [L_equation_80]
    exact FS.ite (FS.some (Ft.rf _ _))
      (FS.ob (Ft.rf _ _) (fS_F_isIn _ _ _ ) (FtR fs0) fun r3 s2 h_s2 =>
       FS.ite (FS.nmV fun v12 =>
        FS.call h_s2 (fS_L_equation_80  _ _ _ _ _ _) (FtR fs0))
       (FS.ite (FS.nmV fun v6 =>
         FS.nmV fun v7 =>
         FS.call h_s2 (fS_L_equation_80  _ _ _ _ _ _) (FtR fs0))
        (FS.ite (FS.some h_s2)
         (FS.nmV fun v8 =>
          FS.nmV fun v9 =>
          FS.call h_s2 (fS_L_equation_80  _ _ _ _ _ _) (FtR fs0)))))
theorem fS_F_equation (x1 : Int32) (x2 : Int32) (σ : TS)  : FS fs0 σ (F_equation x1 x2 σ) := by
  unfold F_equation
  exact FS.ite (FS.some (Ft.rf _ _))
    (FS.ite (FS.some (Ft.rf _ _))
     (FS.ite (FS.ite (FS.ite (FS.ite (FS.ob (Ft.rf _ _) (fS_F_orNone _ _ ) (FtR fs0) fun r35 s34 h_s34 =>
          FS.some h_s34)
         (FS.none))
        (FS.ite (FS.ite (FS.ob (Ft.rf _ _) (fS_F_orNone _ _ ) (FtR fs0) fun r29 s28 h_s28 =>
           FS.some h_s28)
          (FS.none))
         (FS.ite (FS.ite (FS.ob (Ft.rf _ _) (fS_F_orNone _ _ ) (FtR fs0) fun r23 s22 h_s22 =>
            FS.some h_s22)
           (FS.none))
          (FS.obS (Ft.rf _ _) (fS_L_equation_80  _ _ _ _ _ _) (FtR fs0) (fun r20 s16 h_s16 => FS.some h_s16) fun q15 s16 h_s16 =>
           FS.ite (FS.some h_s16)
           (FS.some h_s16)))))
       (FS.some (Ft.rf _ _)))
      (FS.some (Ft.rf _ _))))
theorem fS_L_readWhen_20   : ∀ (n : Nat) (x1 : Int32) (x2 : Int32) (x3 : Int32) (σ : TS), FS fs83 σ (L_readWhen_20  n x1 x2 x3 σ)
  | 0, _, _, _, _ => FS.none
  | n + 1, x1, x2, x3, σ => by
    rw [L_readWhen_20]
    exact FS.ob (Ft.rf _ _) (fS_F_isBad _ ) (le_fs0_fs83) fun r14 s13 h_s13 =>
      FS.ite (FS.ob h_s13 (fS_F_isWord _ _ ) (le_fs0_fs83) fun r18 s17 h_s17 =>
       FS.ite (FS.ob h_s17 (fS_F_isWord _ _ ) (le_fs0_fs83) fun r22 s21 h_s21 =>
        FS.ite (FS.ob h_s21 (fS_F_ref _ ) (le_fs25_fs83) fun r26 s25 h_s25 =>
         FS.ob h_s25 (fS_F_pass _ _ ) (le_fs19_fs83) fun r30 s29 h_s29 =>
         FS.ob h_s29 (fS_F_expression  _) (le_fs26_fs83) fun r34 s33 h_s33 =>
         FS.ob h_s33 (fS_F_pass _ _ ) (le_fs19_fs83) fun r38 s37 h_s37 =>
         FS.ob h_s37 (fS_F_eq _ _ _ _ _ ) (le_fs82_fs83) fun r42 s41 h_s41 =>
         FS.ite (FS.call h_s41 (fS_L_readWhen_20  _ _ _ _ _) (FtR fs83))
         (FS.ite (FS.nmT (Ft.p_tsA h_s41 rfl) fun s46 h_s46 =>
           FS.call h_s46 (fS_L_readWhen_20  _ _ _ _ _) (FtR fs83))
          (FS.none)))
        (FS.ob h_s21 (fS_F_next _ ) (le_fs16_fs83) fun r49 s48 h_s48 =>
         FS.ob h_s48 (fS_F_pass _ _ ) (le_fs19_fs83) fun r53 s52 h_s52 =>
         FS.ob h_s52 (fS_F_ref _ ) (le_fs25_fs83) fun r57 s56 h_s56 =>
         FS.ob h_s56 (fS_F_pass _ _ ) (le_fs19_fs83) fun r61 s60 h_s60 =>
         FS.ob h_s60 (fS_F_expression  _) (le_fs26_fs83) fun r65 s64 h_s64 =>
         FS.ob h_s64 (fS_F_pass _ _ ) (le_fs19_fs83) fun r69 s68 h_s68 =>
         FS.ob h_s68 (fS_F_pass _ _ ) (le_fs19_fs83) fun r73 s72 h_s72 =>
         FS.ob h_s72 (fS_F_eq _ _ _ _ _ ) (le_fs82_fs83) fun r77 s76 h_s76 =>
         FS.ite (FS.call h_s76 (fS_L_readWhen_20  _ _ _ _ _) (FtR fs83))
         (FS.ite (FS.nmT (Ft.p_tsA h_s76 rfl) fun s81 h_s81 =>
           FS.call h_s81 (fS_L_readWhen_20  _ _ _ _ _) (FtR fs83))
          (FS.none))))
       (FS.some h_s17))
      (FS.some h_s13)
theorem fS_F_readWhen (σ : TS)  : FS fs83 σ (F_readWhen σ) := by
  unfold F_readWhen
  exact FS.ob (Ft.rf _ _) (fS_F_next _ ) (le_fs16_fs83) fun r2 s1 h_s1 =>
    FS.ob h_s1 (fS_F_condition  _) (le_fs26_fs83) fun r6 s5 h_s5 =>
    FS.ob h_s5 (fS_F_passWord _ _ ) (le_fs19_fs83) fun r10 s9 h_s9 =>
    FS.ob h_s9 (fS_L_readWhen_20  _ _ _ _ _) (FtR fs83) fun q86 s87 h_s87 =>
    FS.ob h_s87 (fS_F_passWord _ _ ) (le_fs19_fs83) fun r90 s89 h_s89 =>
    FS.ob h_s89 (fS_F_pass _ _ ) (le_fs19_fs83) fun r94 s93 h_s93 =>
    FS.ob h_s93 (fS_F_eq _ _ _ _ _ ) (le_fs82_fs83) fun r98 s97 h_s97 =>
    FS.some h_s97
theorem fS_F_sumOrIf (σ : TS)  : FS fs26 σ (F_sumOrIf σ) := by
  unfold F_sumOrIf
  exact FS.ob (Ft.rf _ _) (fS_F_expression  _) (FtR fs26) fun r2 s1 h_s1 =>
    FS.some h_s1
theorem fS_J_equations_48_4 (cf_readEquation : Int32 → TS → Option (Int32 × TS)) (rec : Int32 → Int32 → Int32 → TS → Option ((Int32 ⊕ Int32) × TS)) (x1 : Int32) (x2 : Int32) (x3 : Int32) (σ : TS) (hcf_readEquation : ∀ (a0 : Int32) (a1 : TS), FS fs84 a1 (cf_readEquation a0 a1)) (hrec : ∀ (a0 : Int32) (a1 : Int32) (a2 : Int32) (a3 : TS), FS fs84 a3 (rec a0 a1 a2 a3)) : FS fs84 σ (J_equations_48_4 cf_readEquation rec x1 x2 x3 σ) := by
  unfold J_equations_48_4
  exact FS.ob (Ft.rf _ _) (hcf_readEquation _ _) (FtR fs84) fun r14 s13 h_s13 =>
    FS.ob h_s13 (fS_F_isBad _ ) (le_fs0_fs84) fun r18 s17 h_s17 =>
    FS.ite (FS.ite (FS.call h_s17 (hrec _ _ _ _) (FtR fs84))
     (FS.ite (FS.nmT (Ft.p_tsA h_s17 rfl) fun s22 h_s22 =>
       FS.call h_s22 (hrec _ _ _ _) (FtR fs84))
      (FS.none)))
    (FS.some h_s17)
theorem fS_L_equations_4 (cf_readEquation : Int32 → TS → Option (Int32 × TS)) (hcf_readEquation : ∀ (a0 : Int32) (a1 : TS), FS fs84 a1 (cf_readEquation a0 a1)) : ∀ (n : Nat) (x1 : Int32) (x2 : Int32) (x3 : Int32) (σ : TS), FS fs84 σ (L_equations_4 cf_readEquation n x1 x2 x3 σ)
  | 0, _, _, _, _ => FS.none
  | n + 1, x1, x2, x3, σ => by
    rw [L_equations_4]
    exact FS.ob (Ft.rf _ _) (fS_F_isBad _ ) (le_fs0_fs84) fun r2 s1 h_s1 =>
      FS.ite (FS.ob h_s1 (fS_F_isWord _ _ ) (le_fs0_fs84) fun r6 s5 h_s5 =>
       FS.ite (FS.ob h_s5 (fS_F_isWord _ _ ) (le_fs0_fs84) fun r10 s9 h_s9 =>
        FS.ite (FS.ite (FS.call h_s9 (fS_J_equations_48_4 _ _ _ _ _ _ hcf_readEquation (fun a0 a1 a2 a3 => fS_L_equations_4 cf_readEquation hcf_readEquation _ a0 a1 a2 a3) ) (FtR fs84))
         (FS.ob h_s9 (fS_F_isWord _ _ ) (le_fs0_fs84) fun r26 s25 h_s25 =>
          FS.ite (FS.call h_s25 (fS_J_equations_48_4 _ _ _ _ _ _ hcf_readEquation (fun a0 a1 a2 a3 => fS_L_equations_4 cf_readEquation hcf_readEquation _ a0 a1 a2 a3) ) (FtR fs84))
          (FS.some h_s25)))
        (FS.some h_s9))
       (FS.some h_s5))
      (FS.some h_s1)
theorem fS_B_equations (cf_readEquation : Int32 → TS → Option (Int32 × TS)) (x1 : Int32) (σ : TS) (hcf_readEquation : ∀ (a0 : Int32) (a1 : TS), FS fs84 a1 (cf_readEquation a0 a1)) : FS fs84 σ (B_equations cf_readEquation x1 σ) := by
  unfold B_equations
  exact FS.obS (Ft.rf _ _) (fS_L_equations_4 _ hcf_readEquation _ _ _ _ _) (FtR fs84) (fun r38 s35 h_s35 => FS.some h_s35) fun q34 s35 h_s35 =>
    FS.some h_s35
theorem fS_J_readEquation_158 (cf_readFor : TS → Option (Int32 × TS)) (cf_readIf : TS → Option (Int32 × TS)) (σ : TS) (hcf_readFor : ∀ (a0 : TS), FS fs84 a0 (cf_readFor a0)) (hcf_readIf : ∀ (a0 : TS), FS fs84 a0 (cf_readIf a0)) : FS fs84 σ (J_readEquation_158 cf_readFor cf_readIf σ) := by
  unfold J_readEquation_158
  exact FS.ob (Ft.rf _ _) (fS_F_sumOrIf _ ) (le_fs26_fs84) fun r23 s22 h_s22 =>
    FS.ob h_s22 (fS_F_pass _ _ ) (le_fs19_fs84) fun r27 s26 h_s26 =>
    FS.ob h_s26 (fS_F_expression  _) (le_fs26_fs84) fun r31 s30 h_s30 =>
    FS.ob h_s30 (fS_F_pass _ _ ) (le_fs19_fs84) fun r35 s34 h_s34 =>
    FS.ob h_s34 (fS_F_eq _ _ _ _ _ ) (le_fs82_fs84) fun r39 s38 h_s38 =>
    FS.some h_s38
theorem fS_B_readEquation (cf_readFor : TS → Option (Int32 × TS)) (cf_readIf : TS → Option (Int32 × TS)) (x1 : Int32) (σ : TS) (hcf_readFor : ∀ (a0 : TS), FS fs84 a0 (cf_readFor a0)) (hcf_readIf : ∀ (a0 : TS), FS fs84 a0 (cf_readIf a0)) : FS fs84 σ (B_readEquation cf_readFor cf_readIf x1 σ) := by
  unfold B_readEquation
  exact FS.ite (FS.ob (Ft.rf _ _) (fS_F_cantStand _ ) (le_fs1_fs84) fun r2 s1 h_s1 =>
     FS.some h_s1)
    (FS.ite (FS.ob (Ft.rf _ _) (fS_F_cantStand _ ) (le_fs1_fs84) fun r97 s96 h_s96 =>
      FS.some h_s96)
     (FS.ite (FS.ob (Ft.rf _ _) (fS_F_bad _ _ _ ) (le_fs1_fs84) fun r92 s91 h_s91 =>
       FS.some h_s91)
      (FS.nmT (Ft.p_tsI (Ft.rf _ _) rfl) fun s5 h_s5 =>
       FS.ob h_s5 (fS_F_isWord _ _ ) (le_fs0_fs84) fun r7 s6 h_s6 =>
       FS.ite (FS.ob h_s6 (fS_F_isWord _ _ ) (le_fs0_fs84) fun r11 s10 h_s10 =>
        FS.ite (FS.ob h_s10 (fS_F_isWord _ _ ) (le_fs0_fs84) fun r15 s14 h_s14 =>
         FS.ite (FS.ob h_s14 (fS_F_isWord _ _ ) (le_fs0_fs84) fun r19 s18 h_s18 =>
          FS.ite (FS.call h_s18 (fS_J_readEquation_158 _ _ _ hcf_readFor hcf_readIf ) (FtR fs84))
          (FS.ite (FS.call h_s18 (fS_J_readEquation_158 _ _ _ hcf_readFor hcf_readIf ) (FtR fs84))
           (FS.ob h_s18 (fS_F_readWhen _ ) (le_fs83_fs84) fun r43 s42 h_s42 =>
            FS.some h_s42)))
         (FS.ob h_s14 (hcf_readIf _) (FtR fs84) fun r49 s48 h_s48 =>
          FS.some h_s48))
        (FS.ob h_s10 (hcf_readFor _) (FtR fs84) fun r54 s53 h_s53 =>
         FS.some h_s53))
       (FS.ob h_s6 (fS_F_next _ ) (le_fs16_fs84) fun r59 s58 h_s58 =>
        FS.ob h_s58 (fS_F_pass _ _ ) (le_fs19_fs84) fun r63 s62 h_s62 =>
        FS.ob h_s62 (fS_F_ref _ ) (le_fs25_fs84) fun r67 s66 h_s66 =>
        FS.ob h_s66 (fS_F_pass _ _ ) (le_fs19_fs84) fun r71 s70 h_s70 =>
        FS.ob h_s70 (fS_F_ref _ ) (le_fs25_fs84) fun r75 s74 h_s74 =>
        FS.ob h_s74 (fS_F_pass _ _ ) (le_fs19_fs84) fun r79 s78 h_s78 =>
        FS.ob h_s78 (fS_F_pass _ _ ) (le_fs19_fs84) fun r83 s82 h_s82 =>
        FS.ob h_s82 (fS_F_eq _ _ _ _ _ ) (le_fs82_fs84) fun r87 s86 h_s86 =>
        FS.some h_s86))))
theorem fS_B_readFor (cf_equations : Int32 → TS → Option (Int32 × TS)) (σ : TS) (hcf_equations : ∀ (a0 : Int32) (a1 : TS), FS fs84 a1 (cf_equations a0 a1)) : FS fs84 σ (B_readFor cf_equations σ) := by
  unfold B_readFor
  exact FS.ob (Ft.rf _ _) (fS_F_deeper _ ) (le_fs18_fs84) fun r2 s1 h_s1 =>
    FS.ob h_s1 (fS_F_next _ ) (le_fs16_fs84) fun r6 s5 h_s5 =>
    FS.ob h_s5 (fS_F_passName _ ) (le_fs19_fs84) fun r10 s9 h_s9 =>
    FS.ob h_s9 (fS_F_passWord _ _ ) (le_fs19_fs84) fun r14 s13 h_s13 =>
    FS.ob h_s13 (fS_F_passWhole _ _ ) (le_fs19_fs84) fun r18 s17 h_s17 =>
    FS.ob h_s17 (fS_F_pass _ _ ) (le_fs19_fs84) fun r22 s21 h_s21 =>
    FS.ob h_s21 (fS_F_passWhole _ _ ) (le_fs19_fs84) fun r26 s25 h_s25 =>
    FS.ob h_s25 (fS_F_passWord _ _ ) (le_fs19_fs84) fun r30 s29 h_s29 =>
    FS.ob h_s29 (fS_F_isBad _ ) (le_fs0_fs84) fun r34 s33 h_s33 =>
    FS.ite (FS.ite (FS.nmT (Ft.p_tsB h_s33 rfl) fun s38 h_s38 =>
      FS.nmT (Ft.p_tsI h_s38 rfl) fun s39 h_s39 =>
      FS.ob h_s39 (hcf_equations _ _) (FtR fs84) fun r41 s40 h_s40 =>
      FS.nmT (Ft.p_tsI h_s40 rfl) fun s44 h_s44 =>
      FS.ob h_s44 (fS_F_passWord _ _ ) (le_fs19_fs84) fun r46 s45 h_s45 =>
      FS.ob h_s45 (fS_F_pass _ _ ) (le_fs19_fs84) fun r50 s49 h_s49 =>
      FS.nmT (Ft.p_tsI h_s49 rfl) fun s53 h_s53 =>
      FS.ob h_s53 (fS_F_eq _ _ _ _ _ ) (le_fs82_fs84) fun r55 s54 h_s54 =>
      FS.ite (FS.nmT (Ft.p_tsB h_s54 rfl) fun s59 h_s59 =>
       FS.some h_s59)
      (FS.none))
     (FS.none))
    (FS.some h_s33)
theorem fS_J_readIf_55 (cf_equations : Int32 → TS → Option (Int32 × TS)) (x1 : Int32) (x2 : Int32) (x3 : Int32) (σ : TS) (hcf_equations : ∀ (a0 : Int32) (a1 : TS), FS fs84 a1 (cf_equations a0 a1)) : FS fs84 σ (J_readIf_55 cf_equations x1 x2 x3 σ) := by
  unfold J_readIf_55
  exact FS.ob (Ft.rf _ _) (fS_F_passWord _ _ ) (le_fs19_fs84) fun r26 s25 h_s25 =>
    FS.ob h_s25 (fS_F_pass _ _ ) (le_fs19_fs84) fun r30 s29 h_s29 =>
    FS.nmT (Ft.p_tsI h_s29 rfl) fun s33 h_s33 =>
    FS.ob h_s33 (fS_F_eq _ _ _ _ _ ) (le_fs82_fs84) fun r35 s34 h_s34 =>
    FS.some h_s34
theorem fS_B_readIf (cf_equations : Int32 → TS → Option (Int32 × TS)) (σ : TS) (hcf_equations : ∀ (a0 : Int32) (a1 : TS), FS fs84 a1 (cf_equations a0 a1)) : FS fs84 σ (B_readIf cf_equations σ) := by
  unfold B_readIf
  exact FS.ob (Ft.rf _ _) (fS_F_deeper _ ) (le_fs18_fs84) fun r2 s1 h_s1 =>
    FS.ob h_s1 (fS_F_next _ ) (le_fs16_fs84) fun r6 s5 h_s5 =>
    FS.ob h_s5 (fS_F_condition  _) (le_fs26_fs84) fun r10 s9 h_s9 =>
    FS.ob h_s9 (fS_F_passWord _ _ ) (le_fs19_fs84) fun r14 s13 h_s13 =>
    FS.ob h_s13 (hcf_equations _ _) (FtR fs84) fun r18 s17 h_s17 =>
    FS.ob h_s17 (fS_F_isBad _ ) (le_fs0_fs84) fun r22 s21 h_s21 =>
    FS.ite (FS.ob h_s21 (fS_F_isWord _ _ ) (le_fs0_fs84) fun r39 s38 h_s38 =>
     FS.ite (FS.call h_s38 (fS_J_readIf_55 _ _ _ _ _ hcf_equations ) (FtR fs84))
     (FS.ob h_s38 (fS_F_next _ ) (le_fs16_fs84) fun r43 s42 h_s42 =>
      FS.ob h_s42 (hcf_equations _ _) (FtR fs84) fun r47 s46 h_s46 =>
      FS.call h_s46 (fS_J_readIf_55 _ _ _ _ _ hcf_equations ) (FtR fs84)))
    (FS.call h_s21 (fS_J_readIf_55 _ _ _ _ _ hcf_equations ) (FtR fs84))
theorem fS_G_equations : ∀ d : Nat, (∀ (a0 : Int32) (a1 : TS), FS fs84 a1 ((G_equations d).1 a0 a1)) ∧ (∀ (a0 : Int32) (a1 : TS), FS fs84 a1 ((G_equations d).2.1 a0 a1)) ∧ (∀ (a0 : TS), FS fs84 a0 ((G_equations d).2.2.1 a0)) ∧ (∀ (a0 : TS), FS fs84 a0 ((G_equations d).2.2.2 a0)) := by
  intro d
  induction d with
  | zero => exact ⟨fun _ _ => FS.none, fun _ _ => FS.none, fun _ => FS.none, fun _ => FS.none⟩
  | succ d ih => exact ⟨fun a0 a1 => fS_B_equations _ a0 a1 (fun b0 b1 => ih.2.1 b0 b1), fun a0 a1 => fS_B_readEquation _ _ a0 a1 (fun b0 => ih.2.2.1 b0) (fun b0 => ih.2.2.2 b0), fun a0 => fS_B_readFor _ a0 (fun b0 b1 => ih.1 b0 b1), fun a0 => fS_B_readIf _ a0 (fun b0 b1 => ih.1 b0 b1)⟩
theorem fS_F_equations (a0 : Int32) (a1 : TS) : FS fs84 a1 (F_equations a0 a1) := (fS_G_equations 60).1 a0 a1
theorem fS_F_readEquation (a0 : Int32) (a1 : TS) : FS fs84 a1 (F_readEquation a0 a1) := (fS_G_equations 60).2.1 a0 a1
theorem fS_F_readFor (a0 : TS) : FS fs84 a0 (F_readFor a0) := (fS_G_equations 60).2.2.1 a0
theorem fS_F_readIf (a0 : TS) : FS fs84 a0 (F_readIf a0) := (fS_G_equations 60).2.2.2 a0
theorem fS_F_leftLessRight (x1 : Int32) (σ : TS)  : FS fs2 σ (F_leftLessRight x1 σ) := by
  unfold F_leftLessRight
  exact FS.ite (FS.ob (Ft.rf _ _) (fS_F_worth  _ _ _) (FtR fs2) fun r3 s2 h_s2 =>
     FS.ite (FS.ob h_s2 (fS_F_worth  _ _ _) (FtR fs2) fun r8 s7 h_s7 =>
      FS.ob h_s7 (fS_F_isBad _ ) (le_fs0_fs2) fun r12 s11 h_s11 =>
      FS.ite (FS.ob h_s11 (fS_F_fit _ _ ) (le_fs1_fs2) fun r16 s15 h_s15 =>
       FS.some h_s15)
      (FS.some h_s11))
     (FS.none))
    (FS.none)
theorem fS_J_solveLinear_87 (x3 : Int32) (x4 : Int32) (y0 : Int32) (σ : TS)  : FS fs85 σ (J_solveLinear_87 x3 x4 y0 σ) := by
  unfold J_solveLinear_87
  exact FS.ob (Ft.rf _ _) (fS_F_isBad _ ) (le_fs0_fs85) fun r32 s31 h_s31 =>
    FS.ite (FS.ite (FS.ob h_s31 (fS_F_bad _ _ _ ) (le_fs1_fs85) fun r42 s41 h_s41 =>
      FS.some h_s41)
     (FS.ob h_s31 (fS_F_over _ _ _ ) (le_fs1_fs85) fun r36 s35 h_s35 =>
      FS.ite (FS.nmT (Ft.p_tsA h_s35 rfl) fun s40 h_s40 =>
       FS.some h_s40)
      (FS.none)))
    (FS.some h_s31)
theorem fS_J_solveLinear_63 (x3 : Int32) (x4 : Int32) (y0 : Int32) (σ : TS)  : FS fs85 σ (J_solveLinear_63 x3 x4 y0 σ) := by
  unfold J_solveLinear_63
  exact FS.ob (Ft.rf _ _) (fS_F_isBad _ ) (le_fs0_fs85) fun r24 s23 h_s23 =>
    FS.ite (FS.ob h_s23 (fS_F_fit _ _ ) (le_fs1_fs85) fun r28 s27 h_s27 =>
     FS.call h_s27 (fS_J_solveLinear_87 _ _ _ _ ) (FtR fs85))
    (FS.call h_s23 (fS_J_solveLinear_87 _ _ _ _ ) (FtR fs85))
theorem fS_F_solveLinear (x1 : Int32) (σ : TS)  : FS fs86 σ (F_solveLinear x1 σ) := by
  unfold F_solveLinear
  exact FS.ite (FS.ite (FS.nmV fun v3 =>
      FS.ite (FS.ite (FS.nmV fun v6 =>
        FS.ite (FS.nmT (Ft.p_tsA (Ft.rf _ _) rfl) fun s8 h_s8 =>
         FS.ob h_s8 (fS_F_leftLessRight _ _ ) (le_fs2_fs86) fun r10 s9 h_s9 =>
         FS.ite (FS.nmT (Ft.p_tsA h_s9 rfl) fun s14 h_s14 =>
          FS.ob h_s14 (fS_F_isBad _ ) (le_fs0_fs86) fun r16 s15 h_s15 =>
          FS.ite (FS.ob h_s15 (fS_F_leftLessRight _ _ ) (le_fs2_fs86) fun r20 s19 h_s19 =>
           FS.call h_s19 (fS_J_solveLinear_63 _ _ _ _ ) (le_fs85_fs86))
          (FS.call h_s15 (fS_J_solveLinear_63 _ _ _ _ ) (le_fs85_fs86)))
         (FS.none))
        (FS.none))
       (FS.none))
      (FS.none))
     (FS.none))
    (FS.none)
theorem fS_J_partial_195 (cf_partial : Int32 → Int32 → TS → Option (Int32 × TS)) (x1 : Int32) (x3 : Int32) (y0 : Int32) (σ : TS) (hcf_partial : ∀ (a0 : Int32) (a1 : Int32) (a2 : TS), FS fs2 a2 (cf_partial a0 a1 a2)) : FS fs2 σ (J_partial_195 cf_partial x1 x3 y0 σ) := by
  unfold J_partial_195
  exact FS.ite (FS.some (Ft.rf _ _))
    (FS.ite (FS.ite (FS.ite (FS.some (Ft.rf _ _))
       (FS.some (Ft.rf _ _)))
      (FS.none))
     (FS.none))
theorem fS_J_partial_179 (cf_partial : Int32 → Int32 → TS → Option (Int32 × TS)) (x1 : Int32) (x2 : Int32) (x3 : Int32) (σ : TS) (hcf_partial : ∀ (a0 : Int32) (a1 : Int32) (a2 : TS), FS fs2 a2 (cf_partial a0 a1 a2)) : FS fs2 σ (J_partial_179 cf_partial x1 x2 x3 σ) := by
  unfold J_partial_179
  exact FS.ob (Ft.rf _ _) (fS_F_leafUnknown _ _ ) (le_fs0_fs2) fun r11 s10 h_s10 =>
    FS.ite (FS.call h_s10 (fS_J_partial_195 _ _ _ _ _ hcf_partial ) (FtR fs2))
    (FS.call h_s10 (fS_J_partial_195 _ _ _ _ _ hcf_partial ) (FtR fs2))
theorem fS_J_partial_382 (cf_partial : Int32 → Int32 → TS → Option (Int32 × TS)) (x1 : Int32) (x2 : Int32) (y0 : Int32) (σ : TS) (hcf_partial : ∀ (a0 : Int32) (a1 : Int32) (a2 : TS), FS fs2 a2 (cf_partial a0 a1 a2)) : FS fs2 σ (J_partial_382 cf_partial x1 x2 y0 σ) := by
  unfold J_partial_382
  exact FS.ite (FS.ob (Ft.rf _ _) (fS_F_worth  _ _ _) (FtR fs2) fun r96 s95 h_s95 =>
     FS.ite (FS.ob h_s95 (hcf_partial _ _ _) (FtR fs2) fun r101 s100 h_s100 =>
      FS.ob h_s100 (fS_F_isBad _ ) (le_fs0_fs2) fun r105 s104 h_s104 =>
      FS.ite (FS.ob h_s104 (fS_F_times _ _ _ ) (le_fs1_fs2) fun r109 s108 h_s108 =>
       FS.ob h_s108 (fS_F_isBad _ ) (le_fs0_fs2) fun r113 s112 h_s112 =>
       FS.ite (FS.ob h_s112 (fS_F_fit _ _ ) (le_fs1_fs2) fun r117 s116 h_s116 =>
        FS.some h_s116)
       (FS.some h_s112))
      (FS.ob h_s104 (fS_F_isBad _ ) (le_fs0_fs2) fun r122 s121 h_s121 =>
       FS.ite (FS.ob h_s121 (fS_F_fit _ _ ) (le_fs1_fs2) fun r126 s125 h_s125 =>
        FS.some h_s125)
       (FS.some h_s121)))
     (FS.none))
    (FS.none)
theorem fS_J_partial_570 (cf_partial : Int32 → Int32 → TS → Option (Int32 × TS)) (x1 : Int32) (y0 : Int32) (σ : TS) (hcf_partial : ∀ (a0 : Int32) (a1 : Int32) (a2 : TS), FS fs2 a2 (cf_partial a0 a1 a2)) : FS fs2 σ (J_partial_570 cf_partial x1 y0 σ) := by
  unfold J_partial_570
  exact FS.ite (FS.ob (Ft.rf _ _) (fS_F_worth  _ _ _) (FtR fs2) fun r179 s178 h_s178 =>
     FS.ob h_s178 (fS_F_isBad _ ) (le_fs0_fs2) fun r183 s182 h_s182 =>
     FS.ite (FS.ob h_s182 (fS_F_over _ _ _ ) (le_fs1_fs2) fun r187 s186 h_s186 =>
      FS.some h_s186)
     (FS.some h_s182))
    (FS.none)
theorem fS_J_partial_546 (cf_partial : Int32 → Int32 → TS → Option (Int32 × TS)) (x1 : Int32) (x4 : Int32) (y0 : Int32) (σ : TS) (hcf_partial : ∀ (a0 : Int32) (a1 : Int32) (a2 : TS), FS fs2 a2 (cf_partial a0 a1 a2)) : FS fs2 σ (J_partial_546 cf_partial x1 x4 y0 σ) := by
  unfold J_partial_546
  exact FS.ob (Ft.rf _ _) (fS_F_isBad _ ) (le_fs0_fs2) fun r170 s169 h_s169 =>
    FS.ite (FS.ob h_s169 (fS_F_fit _ _ ) (le_fs1_fs2) fun r174 s173 h_s173 =>
     FS.call h_s173 (fS_J_partial_570 _ _ _ _ hcf_partial ) (FtR fs2))
    (FS.call h_s169 (fS_J_partial_570 _ _ _ _ hcf_partial ) (FtR fs2))
theorem fS_J_partial_512 (cf_partial : Int32 → Int32 → TS → Option (Int32 × TS)) (x1 : Int32) (x2 : Int32) (x4 : Int32) (y0 : Int32) (σ : TS) (hcf_partial : ∀ (a0 : Int32) (a1 : Int32) (a2 : TS), FS fs2 a2 (cf_partial a0 a1 a2)) : FS fs2 σ (J_partial_512 cf_partial x1 x2 x4 y0 σ) := by
  unfold J_partial_512
  exact FS.ite (FS.ob (Ft.rf _ _) (hcf_partial _ _ _) (FtR fs2) fun r158 s157 h_s157 =>
     FS.ob h_s157 (fS_F_isBad _ ) (le_fs0_fs2) fun r162 s161 h_s161 =>
     FS.ite (FS.ob h_s161 (fS_F_times _ _ _ ) (le_fs1_fs2) fun r166 s165 h_s165 =>
      FS.call h_s165 (fS_J_partial_546 _ _ _ _ _ hcf_partial ) (FtR fs2))
     (FS.call h_s161 (fS_J_partial_546 _ _ _ _ _ hcf_partial ) (FtR fs2)))
    (FS.none)
theorem fS_J_partial_803 (cf_partial : Int32 → Int32 → TS → Option (Int32 × TS)) (x1 : Int32) (x2 : Int32) (y0 : Int32) (σ : TS) (hcf_partial : ∀ (a0 : Int32) (a1 : Int32) (a2 : TS), FS fs2 a2 (cf_partial a0 a1 a2)) : FS fs2 σ (J_partial_803 cf_partial x1 x2 y0 σ) := by
  unfold J_partial_803
  exact FS.ob (Ft.rf _ _) (fS_F_isBad _ ) (le_fs0_fs2) fun r280 s279 h_s279 =>
    FS.ite (FS.ite (FS.ite (FS.ob h_s279 (hcf_partial _ _ _) (FtR fs2) fun r285 s284 h_s284 =>
       FS.some h_s284)
      (FS.none))
     (FS.ite (FS.ob h_s279 (hcf_partial _ _ _) (FtR fs2) fun r290 s289 h_s289 =>
       FS.some h_s289)
      (FS.none)))
    (FS.some h_s279)
theorem fS_B_partial (cf_partial : Int32 → Int32 → TS → Option (Int32 × TS)) (x1 : Int32) (x2 : Int32) (σ : TS) (hcf_partial : ∀ (a0 : Int32) (a1 : Int32) (a2 : TS), FS fs2 a2 (cf_partial a0 a1 a2)) : FS fs2 σ (B_partial cf_partial x1 x2 σ) := by
  unfold B_partial
  exact FS.ob (Ft.rf _ _) (fS_F_isBad _ ) (le_fs0_fs2) fun r2 s1 h_s1 =>
    FS.ite (FS.ite (FS.nmV fun v6 =>
      FS.ite (FS.some h_s1)
      (FS.ite (FS.some h_s1)
       (FS.ite (FS.ite (FS.ite (FS.ite (FS.ite (FS.call h_s1 (fS_J_partial_179 _ _ _ _ _ hcf_partial ) (FtR fs2))
            (FS.some h_s1))
           (FS.none))
          (FS.none))
         (FS.call h_s1 (fS_J_partial_179 _ _ _ _ _ hcf_partial ) (FtR fs2)))
        (FS.ite (FS.ite (FS.ite (FS.ite (FS.ite (FS.call h_s1 (fS_J_partial_179 _ _ _ _ _ hcf_partial ) (FtR fs2))
             (FS.some h_s1))
            (FS.none))
           (FS.none))
          (FS.call h_s1 (fS_J_partial_179 _ _ _ _ _ hcf_partial ) (FtR fs2)))
         (FS.ite (FS.some h_s1)
          (FS.ite (FS.ite (FS.ob h_s1 (hcf_partial _ _ _) (FtR fs2) fun r32 s31 h_s31 =>
             FS.ite (FS.ob h_s31 (hcf_partial _ _ _) (FtR fs2) fun r37 s36 h_s36 =>
              FS.ob h_s36 (fS_F_isBad _ ) (le_fs0_fs2) fun r41 s40 h_s40 =>
              FS.ite (FS.ob h_s40 (fS_F_fit _ _ ) (le_fs1_fs2) fun r45 s44 h_s44 =>
               FS.some h_s44)
              (FS.some h_s40))
             (FS.none))
            (FS.none))
           (FS.ite (FS.ite (FS.ob h_s1 (hcf_partial _ _ _) (FtR fs2) fun r52 s51 h_s51 =>
              FS.ite (FS.ob h_s51 (hcf_partial _ _ _) (FtR fs2) fun r57 s56 h_s56 =>
               FS.ob h_s56 (fS_F_isBad _ ) (le_fs0_fs2) fun r61 s60 h_s60 =>
               FS.ite (FS.ob h_s60 (fS_F_fit _ _ ) (le_fs1_fs2) fun r65 s64 h_s64 =>
                FS.some h_s64)
               (FS.some h_s60))
              (FS.none))
             (FS.none))
            (FS.ite (FS.ite (FS.ob h_s1 (hcf_partial _ _ _) (FtR fs2) fun r72 s71 h_s71 =>
               FS.some h_s71)
              (FS.none))
             (FS.ite (FS.ite (FS.ob h_s1 (hcf_partial _ _ _) (FtR fs2) fun r78 s77 h_s77 =>
                FS.ite (FS.ob h_s77 (fS_F_worth  _ _ _) (FtR fs2) fun r83 s82 h_s82 =>
                 FS.ob h_s82 (fS_F_isBad _ ) (le_fs0_fs2) fun r87 s86 h_s86 =>
                 FS.ite (FS.ob h_s86 (fS_F_times _ _ _ ) (le_fs1_fs2) fun r91 s90 h_s90 =>
                  FS.call h_s90 (fS_J_partial_382 _ _ _ _ _ hcf_partial ) (FtR fs2))
                 (FS.call h_s86 (fS_J_partial_382 _ _ _ _ _ hcf_partial ) (FtR fs2)))
                (FS.none))
               (FS.none))
              (FS.ite (FS.ite (FS.ob h_s1 (hcf_partial _ _ _) (FtR fs2) fun r135 s134 h_s134 =>
                 FS.ite (FS.ob h_s134 (fS_F_worth  _ _ _) (FtR fs2) fun r140 s139 h_s139 =>
                  FS.ite (FS.ob h_s139 (fS_F_worth  _ _ _) (FtR fs2) fun r145 s144 h_s144 =>
                   FS.ob h_s144 (fS_F_isBad _ ) (le_fs0_fs2) fun r149 s148 h_s148 =>
                   FS.ite (FS.ob h_s148 (fS_F_over _ _ _ ) (le_fs1_fs2) fun r153 s152 h_s152 =>
                    FS.call h_s152 (fS_J_partial_512 _ _ _ _ _ _ hcf_partial ) (FtR fs2))
                   (FS.call h_s148 (fS_J_partial_512 _ _ _ _ _ _ hcf_partial ) (FtR fs2)))
                  (FS.none))
                 (FS.none))
                (FS.none))
               (FS.ite (FS.ite (FS.ob h_s1 (fS_F_worth  _ _ _) (FtR fs2) fun r197 s196 h_s196 =>
                  FS.ite (FS.ob h_s196 (hcf_partial _ _ _) (FtR fs2) fun r202 s201 h_s201 =>
                   FS.ob h_s201 (fS_F_isBad _ ) (le_fs0_fs2) fun r206 s205 h_s205 =>
                   FS.ite (FS.ite (FS.ite (FS.ob h_s205 (fS_F_times _ _ _ ) (le_fs1_fs2) fun r210 s209 h_s209 =>
                      FS.some h_s209)
                     (FS.ob h_s205 (fS_F_times _ _ _ ) (le_fs1_fs2) fun r214 s213 h_s213 =>
                      FS.some h_s213))
                    (FS.ob h_s205 (fS_F_times _ _ _ ) (le_fs1_fs2) fun r219 s218 h_s218 =>
                     FS.some h_s218))
                   (FS.some h_s205))
                  (FS.none))
                 (FS.none))
                (FS.ite (FS.ite (FS.ob h_s1 (hcf_partial _ _ _) (FtR fs2) fun r227 s226 h_s226 =>
                   FS.ite (FS.ob h_s226 (fS_F_worth  _ _ _) (FtR fs2) fun r232 s231 h_s231 =>
                    FS.ob h_s231 (fS_F_root _ _ ) (le_fs1_fs2) fun r236 s235 h_s235 =>
                    FS.ob h_s235 (fS_F_isBad _ ) (le_fs0_fs2) fun r240 s239 h_s239 =>
                    FS.ite (FS.ob h_s239 (fS_F_times _ _ _ ) (le_fs1_fs2) fun r244 s243 h_s243 =>
                     FS.ob h_s243 (fS_F_isBad _ ) (le_fs0_fs2) fun r248 s247 h_s247 =>
                     FS.ite (FS.ob h_s247 (fS_F_over _ _ _ ) (le_fs1_fs2) fun r252 s251 h_s251 =>
                      FS.some h_s251)
                     (FS.some h_s247))
                    (FS.ob h_s239 (fS_F_isBad _ ) (le_fs0_fs2) fun r257 s256 h_s256 =>
                     FS.ite (FS.ob h_s256 (fS_F_over _ _ _ ) (le_fs1_fs2) fun r261 s260 h_s260 =>
                      FS.some h_s260)
                     (FS.some h_s256)))
                   (FS.none))
                  (FS.none))
                 (FS.ite (FS.some h_s1)
                  (FS.ite (FS.some h_s1)
                   (FS.ite (FS.ite (FS.ob h_s1 (fS_F_worth  _ _ _) (FtR fs2) fun r271 s270 h_s270 =>
                      FS.ite (FS.ob h_s270 (fS_F_worth  _ _ _) (FtR fs2) fun r276 s275 h_s275 =>
                       FS.ite (FS.ite (FS.call h_s275 (fS_J_partial_803 _ _ _ _ _ hcf_partial ) (FtR fs2))
                        (FS.call h_s275 (fS_J_partial_803 _ _ _ _ _ hcf_partial ) (FtR fs2)))
                       (FS.ite (FS.call h_s275 (fS_J_partial_803 _ _ _ _ _ hcf_partial ) (FtR fs2))
                        (FS.call h_s275 (fS_J_partial_803 _ _ _ _ _ hcf_partial ) (FtR fs2))))
                      (FS.none))
                     (FS.none))
                    (FS.ite (FS.ite (FS.ob h_s1 (fS_F_worth  _ _ _) (FtR fs2) fun r301 s300 h_s300 =>
                       FS.ite (FS.ob h_s300 (fS_F_worth  _ _ _) (FtR fs2) fun r306 s305 h_s305 =>
                        FS.ite (FS.ite (FS.call h_s305 (fS_J_partial_803 _ _ _ _ _ hcf_partial ) (FtR fs2))
                         (FS.call h_s305 (fS_J_partial_803 _ _ _ _ _ hcf_partial ) (FtR fs2)))
                        (FS.ite (FS.call h_s305 (fS_J_partial_803 _ _ _ _ _ hcf_partial ) (FtR fs2))
                         (FS.call h_s305 (fS_J_partial_803 _ _ _ _ _ hcf_partial ) (FtR fs2))))
                       (FS.none))
                      (FS.none))
                     (FS.ite (FS.ite (FS.ob h_s1 (fS_F_holds  _ _ _) (FtR fs2) fun r315 s314 h_s314 =>
                        FS.ite (FS.ite (FS.ob h_s314 (hcf_partial _ _ _) (FtR fs2) fun r320 s319 h_s319 =>
                          FS.some h_s319)
                         (FS.none))
                        (FS.ite (FS.ob h_s314 (hcf_partial _ _ _) (FtR fs2) fun r325 s324 h_s324 =>
                          FS.some h_s324)
                         (FS.none)))
                       (FS.none))
                      (FS.ite (FS.ite (FS.ob h_s1 (fS_F_holds  _ _ _) (FtR fs2) fun r332 s331 h_s331 =>
                         FS.ite (FS.ite (FS.ob h_s331 (hcf_partial _ _ _) (FtR fs2) fun r337 s336 h_s336 =>
                           FS.some h_s336)
                          (FS.none))
                         (FS.ite (FS.ob h_s331 (hcf_partial _ _ _) (FtR fs2) fun r342 s341 h_s341 =>
                           FS.some h_s341)
                          (FS.none)))
                        (FS.none))
                       (FS.ite (FS.ite (FS.ob h_s1 (fS_F_holds  _ _ _) (FtR fs2) fun r349 s348 h_s348 =>
                          FS.ite (FS.ite (FS.ob h_s348 (hcf_partial _ _ _) (FtR fs2) fun r354 s353 h_s353 =>
                            FS.some h_s353)
                           (FS.none))
                          (FS.ite (FS.ob h_s348 (hcf_partial _ _ _) (FtR fs2) fun r359 s358 h_s358 =>
                            FS.some h_s358)
                           (FS.none)))
                         (FS.none))
                        (FS.ite (FS.ite (FS.ob h_s1 (fS_F_holds  _ _ _) (FtR fs2) fun r366 s365 h_s365 =>
                           FS.ite (FS.ite (FS.ob h_s365 (hcf_partial _ _ _) (FtR fs2) fun r371 s370 h_s370 =>
                             FS.some h_s370)
                            (FS.none))
                           (FS.ite (FS.ob h_s365 (hcf_partial _ _ _) (FtR fs2) fun r376 s375 h_s375 =>
                             FS.some h_s375)
                            (FS.none)))
                          (FS.none))
                         (FS.ite (FS.ite (FS.ob h_s1 (fS_F_holds  _ _ _) (FtR fs2) fun r383 s382 h_s382 =>
                            FS.ite (FS.ite (FS.ob h_s382 (hcf_partial _ _ _) (FtR fs2) fun r388 s387 h_s387 =>
                              FS.some h_s387)
                             (FS.none))
                            (FS.ite (FS.ob h_s382 (hcf_partial _ _ _) (FtR fs2) fun r393 s392 h_s392 =>
                              FS.some h_s392)
                             (FS.none)))
                           (FS.none))
                          (FS.ite (FS.ite (FS.ob h_s1 (fS_F_holds  _ _ _) (FtR fs2) fun r400 s399 h_s399 =>
                             FS.ite (FS.ite (FS.ob h_s399 (hcf_partial _ _ _) (FtR fs2) fun r405 s404 h_s404 =>
                               FS.some h_s404)
                              (FS.none))
                             (FS.ite (FS.ob h_s399 (hcf_partial _ _ _) (FtR fs2) fun r410 s409 h_s409 =>
                               FS.some h_s409)
                              (FS.none)))
                            (FS.none))
                           (FS.ite (FS.ite (FS.ob h_s1 (fS_F_holds  _ _ _) (FtR fs2) fun r417 s416 h_s416 =>
                              FS.ite (FS.ite (FS.ob h_s416 (hcf_partial _ _ _) (FtR fs2) fun r422 s421 h_s421 =>
                                FS.some h_s421)
                               (FS.none))
                              (FS.ite (FS.ob h_s416 (hcf_partial _ _ _) (FtR fs2) fun r427 s426 h_s426 =>
                                FS.some h_s426)
                               (FS.none)))
                             (FS.none))
                            (FS.ite (FS.ite (FS.ob h_s1 (fS_F_holds  _ _ _) (FtR fs2) fun r434 s433 h_s433 =>
                               FS.ite (FS.ite (FS.ob h_s433 (hcf_partial _ _ _) (FtR fs2) fun r439 s438 h_s438 =>
                                 FS.some h_s438)
                                (FS.none))
                               (FS.ite (FS.ob h_s433 (hcf_partial _ _ _) (FtR fs2) fun r444 s443 h_s443 =>
                                 FS.some h_s443)
                                (FS.none)))
                              (FS.none))
                             (FS.ite (FS.ite (FS.ob h_s1 (fS_F_holds  _ _ _) (FtR fs2) fun r451 s450 h_s450 =>
                                FS.ite (FS.ite (FS.ob h_s450 (hcf_partial _ _ _) (FtR fs2) fun r456 s455 h_s455 =>
                                  FS.some h_s455)
                                 (FS.none))
                                (FS.ite (FS.ob h_s450 (hcf_partial _ _ _) (FtR fs2) fun r461 s460 h_s460 =>
                                  FS.some h_s460)
                                 (FS.none)))
                               (FS.none))
                              (FS.ite (FS.ite (FS.ob h_s1 (fS_F_holds  _ _ _) (FtR fs2) fun r468 s467 h_s467 =>
                                 FS.ite (FS.ite (FS.ob h_s467 (hcf_partial _ _ _) (FtR fs2) fun r473 s472 h_s472 =>
                                   FS.some h_s472)
                                  (FS.none))
                                 (FS.ite (FS.ob h_s467 (hcf_partial _ _ _) (FtR fs2) fun r478 s477 h_s477 =>
                                   FS.some h_s477)
                                  (FS.none)))
                                (FS.none))
                               (FS.ite (FS.ite (FS.ob h_s1 (fS_F_holds  _ _ _) (FtR fs2) fun r485 s484 h_s484 =>
                                  FS.ite (FS.ite (FS.ob h_s484 (hcf_partial _ _ _) (FtR fs2) fun r490 s489 h_s489 =>
                                    FS.some h_s489)
                                   (FS.none))
                                  (FS.ite (FS.ob h_s484 (hcf_partial _ _ _) (FtR fs2) fun r495 s494 h_s494 =>
                                    FS.some h_s494)
                                   (FS.none)))
                                 (FS.none))
                                (FS.ite (FS.ite (FS.ob h_s1 (fS_F_holds  _ _ _) (FtR fs2) fun r502 s501 h_s501 =>
                                   FS.ite (FS.ite (FS.ob h_s501 (hcf_partial _ _ _) (FtR fs2) fun r507 s506 h_s506 =>
                                     FS.some h_s506)
                                    (FS.none))
                                   (FS.ite (FS.ob h_s501 (hcf_partial _ _ _) (FtR fs2) fun r512 s511 h_s511 =>
                                     FS.some h_s511)
                                    (FS.none)))
                                  (FS.none))
                                 (FS.ite (FS.ite (FS.ob h_s1 (fS_F_holds  _ _ _) (FtR fs2) fun r519 s518 h_s518 =>
                                    FS.ite (FS.ite (FS.ob h_s518 (hcf_partial _ _ _) (FtR fs2) fun r524 s523 h_s523 =>
                                      FS.some h_s523)
                                     (FS.none))
                                    (FS.ite (FS.ob h_s518 (hcf_partial _ _ _) (FtR fs2) fun r529 s528 h_s528 =>
                                      FS.some h_s528)
                                     (FS.none)))
                                   (FS.none))
                                  (FS.ite (FS.ite (FS.ob h_s1 (fS_F_holds  _ _ _) (FtR fs2) fun r536 s535 h_s535 =>
                                     FS.ite (FS.ite (FS.ob h_s535 (hcf_partial _ _ _) (FtR fs2) fun r541 s540 h_s540 =>
                                       FS.some h_s540)
                                      (FS.none))
                                     (FS.ite (FS.ob h_s535 (hcf_partial _ _ _) (FtR fs2) fun r546 s545 h_s545 =>
                                       FS.some h_s545)
                                      (FS.none)))
                                    (FS.none))
                                   (FS.ite (FS.ite (FS.ite (FS.ite (FS.ite (FS.call h_s1 (fS_J_partial_179 _ _ _ _ _ hcf_partial ) (FtR fs2))
                                        (FS.some h_s1))
                                       (FS.none))
                                      (FS.none))
                                     (FS.call h_s1 (fS_J_partial_179 _ _ _ _ _ hcf_partial ) (FtR fs2)))
                                    (FS.ite (FS.ob h_s1 (fS_F_holds  _ _ _) (FtR fs2) fun r557 s556 h_s556 =>
                                      FS.ite (FS.ite (FS.ob h_s556 (hcf_partial _ _ _) (FtR fs2) fun r562 s561 h_s561 =>
                                        FS.some h_s561)
                                       (FS.none))
                                      (FS.ite (FS.ob h_s556 (hcf_partial _ _ _) (FtR fs2) fun r567 s566 h_s566 =>
                                        FS.some h_s566)
                                       (FS.none)))
                                     (FS.none)))))))))))))))))))))))))))))))))
     (FS.none))
    (FS.some h_s1)
theorem fS_G_partial : ∀ d : Nat, (∀ (a0 : Int32) (a1 : Int32) (a2 : TS), FS fs2 a2 ((G_partial d) a0 a1 a2)) := by
  intro d
  induction d with
  | zero => exact fun _ _ _ => FS.none
  | succ d ih => exact fun a0 a1 a2 => fS_B_partial _ a0 a1 a2 (fun b0 b1 b2 => ih b0 b1 b2)
theorem fS_F_partial (a0 : Int32) (a1 : Int32) (a2 : TS) : FS fs2 a2 (F_partial a0 a1 a2) := (fS_G_partial 300) a0 a1 a2
theorem fS_L_solveRounds_84   : ∀ (n : Nat) (x2 : Int32) (x3 : Int32) (x4 : Int32) (x5 : Int32) (x6 : Int32) (x7 : Int32) (σ : TS), FS fs87 σ (L_solveRounds_84  n x2 x3 x4 x5 x6 x7 σ)
  | 0, _, _, _, _, _, _, _ => FS.none
  | n + 1, x2, x3, x4, x5, x6, x7, σ => by
    rw [L_solveRounds_84]
    exact FS.ite (FS.some (Ft.rf _ _))
      (FS.ob (Ft.rf _ _) (fS_F_isBad _ ) (le_fs0_fs87) fun r19 s18 h_s18 =>
       FS.ite (FS.ite (FS.ite (FS.ob h_s18 (fS_F_partial  _ _ _) (le_fs2_fs87) fun r25 s24 h_s24 =>
          FS.ite (FS.ite (FS.ob h_s24 (fS_F_partial  _ _ _) (le_fs2_fs87) fun r31 s30 h_s30 =>
            FS.ob h_s30 (fS_F_isBad _ ) (le_fs0_fs87) fun r35 s34 h_s34 =>
            FS.ite (FS.ob h_s34 (fS_F_fit _ _ ) (le_fs1_fs87) fun r39 s38 h_s38 =>
             FS.ite (FS.nmT (Ft.p_tsA h_s38 rfl) fun s43 h_s43 =>
              FS.nmV fun v44 =>
              FS.call h_s43 (fS_L_solveRounds_84  _ _ _ _ _ _ _ _) (FtR fs87))
             (FS.none))
            (FS.ite (FS.nmT (Ft.p_tsA h_s34 rfl) fun s46 h_s46 =>
              FS.nmV fun v47 =>
              FS.call h_s46 (fS_L_solveRounds_84  _ _ _ _ _ _ _ _) (FtR fs87))
             (FS.none)))
           (FS.none))
          (FS.none))
         (FS.none))
        (FS.none))
       (FS.some h_s18))
theorem fS_L_solveRounds_37   : ∀ (n : Nat) (x2 : Int32) (x3 : Int32) (x4 : Int32) (x5 : Int32) (σ : TS), FS fs87 σ (L_solveRounds_37  n x2 x3 x4 x5 σ)
  | 0, _, _, _, _, _ => FS.none
  | n + 1, x2, x3, x4, x5, σ => by
    rw [L_solveRounds_37]
    exact FS.ite (FS.some (Ft.rf _ _))
      (FS.ob (Ft.rf _ _) (fS_F_isBad _ ) (le_fs0_fs87) fun r7 s6 h_s6 =>
       FS.ite (FS.ite (FS.nmV fun v11 =>
         FS.ob h_s6 (fS_F_leftLessRight _ _ ) (le_fs2_fs87) fun r13 s12 h_s12 =>
         FS.ite (FS.nmT (Ft.p_tsA h_s12 rfl) fun s17 h_s17 =>
          FS.ob h_s17 (fS_L_solveRounds_84  _ _ _ _ _ _ _ _) (FtR fs87) fun q51 s52 h_s52 =>
          FS.nmV fun v54 =>
          FS.call h_s52 (fS_L_solveRounds_37  _ _ _ _ _ _) (FtR fs87))
         (FS.none))
        (FS.none))
       (FS.some h_s6))
theorem fS_L_solveRounds_204   : ∀ (n : Nat) (x2 : Int32) (x3 : Int32) (x4 : Int32) (x5 : Int32) (σ : TS), FS fs85 σ (L_solveRounds_204  n x2 x3 x4 x5 σ)
  | 0, _, _, _, _, _ => FS.none
  | n + 1, x2, x3, x4, x5, σ => by
    rw [L_solveRounds_204]
    exact FS.ite (FS.some (Ft.rf _ _))
      (FS.ob (Ft.rf _ _) (fS_F_isBad _ ) (le_fs0_fs85) fun r66 s65 h_s65 =>
       FS.ite (FS.ite (FS.ite (FS.ite (FS.ite (FS.ob h_s65 (fS_F_fit _ _ ) (le_fs1_fs85) fun r74 s73 h_s73 =>
            FS.ite (FS.nmT (Ft.p_tsA h_s73 rfl) fun s78 h_s78 =>
             FS.nmV fun v79 =>
             FS.call h_s78 (fS_L_solveRounds_204  _ _ _ _ _ _) (FtR fs85))
            (FS.none))
           (FS.none))
          (FS.none))
         (FS.none))
        (FS.none))
       (FS.some h_s65))
theorem fS_J_solveRounds_201_17 (rec : Int32 → Int32 → Int32 → TS → Option ((Unit ⊕ Unit) × TS)) (x2 : Int32) (x3 : Int32) (x4 : Int32) (σ : TS) (hrec : ∀ (a0 : Int32) (a1 : Int32) (a2 : Int32) (a3 : TS), FS fs88 a3 (rec a0 a1 a2 a3)) : FS fs88 σ (J_solveRounds_201_17 rec x2 x3 x4 σ) := by
  unfold J_solveRounds_201_17
  exact FS.ob (Ft.rf _ _) (fS_L_solveRounds_204  _ _ _ _ _ _) (le_fs85_fs88) fun q82 s83 h_s83 =>
    FS.ob h_s83 (fS_F_isBad _ ) (le_fs0_fs88) fun r86 s85 h_s85 =>
    FS.ite (FS.ob h_s85 (fS_F_areSmall _ _ ) (le_fs0_fs88) fun r90 s89 h_s89 =>
     FS.ite (FS.nmV fun v93 =>
      FS.call h_s89 (hrec _ _ _ _) (FtR fs88))
     (FS.some h_s89))
    (FS.some h_s85)
theorem fS_J_solveRounds_189_17 (rec : Int32 → Int32 → Int32 → TS → Option ((Unit ⊕ Unit) × TS)) (x2 : Int32) (x3 : Int32) (x4 : Int32) (σ : TS) (hrec : ∀ (a0 : Int32) (a1 : Int32) (a2 : Int32) (a3 : TS), FS fs88 a3 (rec a0 a1 a2 a3)) : FS fs88 σ (J_solveRounds_189_17 rec x2 x3 x4 σ) := by
  unfold J_solveRounds_189_17
  exact FS.ob (Ft.rf _ _) (fS_F_isBad _ ) (le_fs0_fs88) fun r62 s61 h_s61 =>
    FS.ite (FS.ob h_s61 (fS_F_eliminate _ _ ) (le_fs75_fs88) fun r98 s97 h_s97 =>
     FS.call h_s97 (fS_J_solveRounds_201_17 _ _ _ _ _ hrec ) (FtR fs88))
    (FS.call h_s61 (fS_J_solveRounds_201_17 _ _ _ _ _ hrec ) (FtR fs88))
theorem fS_L_solveRounds_17   : ∀ (n : Nat) (x2 : Int32) (x3 : Int32) (x4 : Int32) (σ : TS), FS fs88 σ (L_solveRounds_17  n x2 x3 x4 σ)
  | 0, _, _, _, _ => FS.none
  | n + 1, x2, x3, x4, σ => by
    rw [L_solveRounds_17]
    exact FS.ite (FS.some (Ft.rf _ _))
      (FS.nmT (Ft.p_tsI (Ft.rf _ _) rfl) fun s5 h_s5 =>
       FS.ob h_s5 (fS_L_solveRounds_37  _ _ _ _ _ _) (le_fs87_fs88) fun q58 s59 h_s59 =>
       FS.call h_s59 (fS_J_solveRounds_189_17 _ _ _ _ _ (fun a0 a1 a2 a3 => fS_L_solveRounds_17   _ a0 a1 a2 a3) ) (FtR fs88))
theorem fS_F_solveRounds (x1 : Int32) (σ : TS)  : FS fs88 σ (F_solveRounds x1 σ) := by
  unfold F_solveRounds
  exact FS.ite (FS.nmV fun v2 =>
     FS.ite (FS.nmV fun v4 =>
      FS.obS (Ft.rf _ _) (fS_L_solveRounds_17  _ _ _ _ _) (FtR fs88) (fun r112 s105 h_s105 => FS.some h_s105) fun q104 s105 h_s105 =>
      FS.ob h_s105 (fS_F_bad _ _ _ ) (le_fs1_fs88) fun r108 s107 h_s107 =>
      FS.some h_s107)
     (FS.none))
    (FS.none)
theorem fS_L_solveBlocks_2   : ∀ (n : Nat) (x1 : Int32) (σ : TS), FS fs88 σ (L_solveBlocks_2  n x1 σ)
  | 0, _, _ => FS.none
  | n + 1, x1, σ => by
    rw [L_solveBlocks_2]
    exact FS.ite (FS.some (Ft.rf _ _))
      (FS.ite (FS.ite (FS.ob (Ft.rf _ _) (fS_F_solveRounds _ _ ) (FtR fs88) fun r4 s3 h_s3 =>
         FS.ob h_s3 (fS_F_isBad _ ) (le_fs0_fs88) fun r8 s7 h_s7 =>
         FS.ite (FS.nmV fun v11 =>
          FS.call h_s7 (fS_L_solveBlocks_2  _ _ _) (FtR fs88))
         (FS.nmT (Ft.p_tsI h_s7 rfl) fun s12 h_s12 =>
          FS.some h_s12))
        (FS.ob (Ft.rf _ _) (fS_F_solveLinear _ _ ) (le_fs86_fs88) fun r15 s14 h_s14 =>
         FS.ob h_s14 (fS_F_isBad _ ) (le_fs0_fs88) fun r19 s18 h_s18 =>
         FS.ite (FS.nmV fun v22 =>
          FS.call h_s18 (fS_L_solveBlocks_2  _ _ _) (FtR fs88))
         (FS.nmT (Ft.p_tsI h_s18 rfl) fun s23 h_s23 =>
          FS.some h_s23)))
       (FS.none))
theorem fS_F_solveBlocks (σ : TS)  : FS fs88 σ (F_solveBlocks σ) := by
  unfold F_solveBlocks
  exact FS.obS (Ft.rf _ _) (fS_L_solveBlocks_2  _ _ _) (FtR fs88) (fun r31 s28 h_s28 => FS.some h_s28) fun q27 s28 h_s28 =>
    FS.some h_s28
theorem fS_L_event_12   : ∀ (n : Nat) (x1 : Int32) (x2 : Int32) (σ : TS), FS fs89 σ (L_event_12  n x1 x2 σ)
  | 0, _, _, _ => FS.none
  | n + 1, x1, x2, σ => by
    rw [L_event_12]
    exact FS.ite (FS.some (Ft.rf _ _))
      (FS.ite (FS.ite (FS.nmT (Ft.p_tsA (Ft.rf _ _) rfl) fun s4 h_s4 =>
         FS.nmV fun v5 =>
         FS.call h_s4 (fS_L_event_12  _ _ _ _) (FtR fs89))
        (FS.none))
       (FS.none))
theorem fS_L_event_40   : ∀ (n : Nat) (x1 : Int32) (x2 : Int32) (σ : TS), FS fs90 σ (L_event_40  n x1 x2 σ)
  | 0, _, _, _ => FS.none
  | n + 1, x1, x2, σ => by
    rw [L_event_40]
    exact FS.ite (FS.some (Ft.rf _ _))
      (FS.ite (FS.ite (FS.nmT (Ft.p_tsA (Ft.rf _ _) rfl) fun s12 h_s12 =>
         FS.nmV fun v13 =>
         FS.call h_s12 (fS_L_event_40  _ _ _ _) (FtR fs90))
        (FS.none))
       (FS.none))
theorem fS_L_event_68   : ∀ (n : Nat) (x1 : Int32) (x2 : Int32) (σ : TS), FS fs30 σ (L_event_68  n x1 x2 σ)
  | 0, _, _, _ => FS.none
  | n + 1, x1, x2, σ => by
    rw [L_event_68]
    exact FS.ite (FS.some (Ft.rf _ _))
      (FS.ite (FS.ite (FS.ite (FS.ob (Ft.rf _ _) (fS_F_isDue _ _ ) (le_fs0_fs30) fun r22 s21 h_s21 =>
          FS.ite (FS.nmT (Ft.p_tsA h_s21 rfl) fun s26 h_s26 =>
           FS.nmV fun v27 =>
           FS.call h_s26 (fS_L_event_68  _ _ _ _) (FtR fs30))
          (FS.none))
         (FS.nmV fun v20 =>
          FS.call (Ft.rf _ _) (fS_L_event_68  _ _ _ _) (FtR fs30)))
        (FS.none))
       (FS.none))
theorem fS_L_event_128   : ∀ (n : Nat) (x1 : Int32) (x2 : Int32) (x3 : Int32) (x4 : Int32) (σ : TS), FS fs91 σ (L_event_128  n x1 x2 x3 x4 σ)
  | 0, _, _, _, _, _ => FS.none
  | n + 1, x1, x2, x3, x4, σ => by
    rw [L_event_128]
    exact FS.ite (FS.some (Ft.rf _ _))
      (FS.ob (Ft.rf _ _) (fS_F_isBad _ ) (le_fs0_fs91) fun r42 s41 h_s41 =>
       FS.ite (FS.ite (FS.ite (FS.ite (FS.nmV fun v61 =>
           FS.call h_s41 (fS_L_event_128  _ _ _ _ _ _) (FtR fs91))
          (FS.ite (FS.ob h_s41 (fS_F_finds  _ _ _) (le_fs2_fs91) fun r49 s48 h_s48 =>
            FS.ite (FS.ite (FS.ite (FS.nmT (Ft.p_tsA h_s48 rfl) fun s55 h_s55 =>
               FS.nmV fun v56 =>
               FS.call h_s55 (fS_L_event_128  _ _ _ _ _ _) (FtR fs91))
              (FS.none))
             (FS.ite (FS.nmT (Ft.p_tsA h_s48 rfl) fun s58 h_s58 =>
               FS.nmV fun v59 =>
               FS.call h_s58 (fS_L_event_128  _ _ _ _ _ _) (FtR fs91))
              (FS.none)))
            (FS.none))
           (FS.none)))
         (FS.none))
        (FS.none))
       (FS.some h_s41))
theorem fS_L_event_210   : ∀ (n : Nat) (x1 : Int32) (x2 : Int32) (x3 : Int32) (x4 : Int32) (σ : TS), FS fs92 σ (L_event_210  n x1 x2 x3 x4 σ)
  | 0, _, _, _, _, _ => FS.none
  | n + 1, x1, x2, x3, x4, σ => by
    rw [L_event_210]
    exact FS.ite (FS.some (Ft.rf _ _))
      (FS.ite (FS.ob (Ft.rf _ _) (fS_F_holds  _ _ _) (le_fs2_fs92) fun r71 s70 h_s70 =>
        FS.ite (FS.nmT (Ft.p_tsA h_s70 rfl) fun s75 h_s75 =>
         FS.nmV fun v76 =>
         FS.call h_s75 (fS_L_event_210  _ _ _ _ _ _) (FtR fs92))
        (FS.none))
       (FS.none))
theorem fS_L_event_247   : ∀ (n : Nat) (x1 : Int32) (x2 : Int32) (x3 : Int32) (x4 : Int32) (σ : TS), FS fs93 σ (L_event_247  n x1 x2 x3 x4 σ)
  | 0, _, _, _, _, _ => FS.none
  | n + 1, x1, x2, x3, x4, σ => by
    rw [L_event_247]
    exact FS.ite (FS.some (Ft.rf _ _))
      (FS.ob (Ft.rf _ _) (fS_F_isBad _ ) (le_fs0_fs93) fun r82 s81 h_s81 =>
       FS.ite (FS.ite (FS.ite (FS.ite (FS.nmV fun v87 =>
           FS.call h_s81 (fS_L_event_247  _ _ _ _ _ _) (FtR fs93))
          (FS.ite (FS.ite (FS.nmT (Ft.p_tsI h_s81 rfl) fun s90 h_s90 =>
             FS.ob h_s90 (fS_F_act _ _ ) (le_fs3_fs93) fun r92 s91 h_s91 =>
             FS.nmV fun v95 =>
             FS.call h_s91 (fS_L_event_247  _ _ _ _ _ _) (FtR fs93))
            (FS.nmV fun v96 =>
             FS.call h_s81 (fS_L_event_247  _ _ _ _ _ _) (FtR fs93)))
           (FS.none)))
         (FS.none))
        (FS.some h_s81))
       (FS.some h_s81))
theorem fS_L_event_325   : ∀ (n : Nat) (x1 : Int32) (x2 : Int32) (x3 : Int32) (x4 : Int32) (σ : TS), FS fs31 σ (L_event_325  n x1 x2 x3 x4 σ)
  | 0, _, _, _, _, _ => FS.none
  | n + 1, x1, x2, x3, x4, σ => by
    rw [L_event_325]
    exact FS.ite (FS.some (Ft.rf _ _))
      (FS.ite (FS.ite (FS.nmT (Ft.p_tsA (Ft.rf _ _) rfl) fun s113 h_s113 =>
         FS.nmV fun v114 =>
         FS.call h_s113 (fS_L_event_325  _ _ _ _ _ _) (FtR fs31))
        (FS.none))
       (FS.none))
theorem fS_L_event_378   : ∀ (n : Nat) (x1 : Int32) (x2 : Int32) (x4 : Int32) (σ : TS), FS fs90 σ (L_event_378  n x1 x2 x4 σ)
  | 0, _, _, _, _ => FS.none
  | n + 1, x1, x2, x4, σ => by
    rw [L_event_378]
    exact FS.ite (FS.some (Ft.rf _ _))
      (FS.ite (FS.ite (FS.nmT (Ft.p_tsA (Ft.rf _ _) rfl) fun s121 h_s121 =>
         FS.nmV fun v122 =>
         FS.call h_s121 (fS_L_event_378  _ _ _ _ _) (FtR fs90))
        (FS.none))
       (FS.none))
theorem fS_J_event_314_111 (rec : Int32 → Int32 → TS → Option ((Unit ⊕ Unit) × TS)) (x1 : Int32) (x2 : Int32) (x3 : Int32) (σ : TS) (hrec : ∀ (a0 : Int32) (a1 : Int32) (a2 : TS), FS fs94 a2 (rec a0 a1 a2)) : FS fs94 σ (J_event_314_111 rec x1 x2 x3 σ) := by
  unfold J_event_314_111
  exact FS.ob (Ft.rf _ _) (fS_F_isBad _ ) (le_fs0_fs94) fun r107 s106 h_s106 =>
    FS.ite (FS.ob h_s106 (fS_L_event_325  _ _ _ _ _ _) (le_fs31_fs94) fun q116 s117 h_s117 =>
     FS.ite (FS.some h_s117)
     (FS.ite (FS.ob h_s117 (fS_F_bad _ _ _ ) (le_fs1_fs94) fun r130 s129 h_s129 =>
       FS.some h_s129)
      (FS.ob h_s117 (fS_L_event_378  _ _ _ _ _) (le_fs90_fs94) fun q124 s125 h_s125 =>
       FS.nmV fun v127 =>
       FS.call h_s125 (hrec _ _ _) (FtR fs94))))
    (FS.some h_s106)
theorem fS_J_event_207_111 (rec : Int32 → Int32 → TS → Option ((Unit ⊕ Unit) × TS)) (x1 : Int32) (x2 : Int32) (x3 : Int32) (σ : TS) (hrec : ∀ (a0 : Int32) (a1 : Int32) (a2 : TS), FS fs94 a2 (rec a0 a1 a2)) : FS fs94 σ (J_event_207_111 rec x1 x2 x3 σ) := by
  unfold J_event_207_111
  exact FS.ob (Ft.rf _ _) (fS_L_event_210  _ _ _ _ _ _) (le_fs92_fs94) fun q78 s79 h_s79 =>
    FS.ob h_s79 (fS_L_event_247  _ _ _ _ _ _) (le_fs93_fs94) fun q102 s103 h_s103 =>
    FS.call h_s103 (fS_J_event_314_111 _ _ _ _ _ hrec ) (FtR fs94)
theorem fS_L_event_111   : ∀ (n : Nat) (x1 : Int32) (x2 : Int32) (σ : TS), FS fs94 σ (L_event_111  n x1 x2 σ)
  | 0, _, _, _ => FS.none
  | n + 1, x1, x2, σ => by
    rw [L_event_111]
    exact FS.ob (Ft.rf _ _) (fS_F_solveBlocks _ ) (le_fs88_fs94) fun r34 s33 h_s33 =>
      FS.ob h_s33 (fS_F_isBad _ ) (le_fs0_fs94) fun r38 s37 h_s37 =>
      FS.ite (FS.ob h_s37 (fS_L_event_128  _ _ _ _ _ _) (le_fs91_fs94) fun q65 s66 h_s66 =>
       FS.call h_s66 (fS_J_event_207_111 _ _ _ _ _ (fun a0 a1 a2 => fS_L_event_111   _ a0 a1 a2) ) (FtR fs94))
      (FS.some h_s37)
theorem fS_L_event_415   : ∀ (n : Nat) (x2 : Int32) (σ : TS), FS fs30 σ (L_event_415  n x2 σ)
  | 0, _, _ => FS.none
  | n + 1, x2, σ => by
    rw [L_event_415]
    exact FS.ite (FS.some (Ft.rf _ _))
      (FS.ite (FS.ite (FS.ite (FS.ite (FS.nmT (Ft.p_tsA (Ft.rf _ _) rfl) fun s148 h_s148 =>
           FS.nmV fun v149 =>
           FS.call h_s148 (fS_L_event_415  _ _ _) (FtR fs30))
          (FS.none))
         (FS.nmV fun v146 =>
          FS.call (Ft.rf _ _) (fS_L_event_415  _ _ _) (FtR fs30)))
        (FS.none))
       (FS.none))
theorem fS_L_event_466   : ∀ (n : Nat) (x2 : Int32) (σ : TS), FS fs95 σ (L_event_466  n x2 σ)
  | 0, _, _ => FS.none
  | n + 1, x2, σ => by
    rw [L_event_466]
    exact FS.ite (FS.some (Ft.rf _ _))
      (FS.ite (FS.ob (Ft.rf _ _) (fS_F_holds  _ _ _) (le_fs2_fs95) fun r165 s164 h_s164 =>
        FS.ite (FS.nmT (Ft.p_tsA h_s164 rfl) fun s169 h_s169 =>
         FS.nmV fun v170 =>
         FS.call h_s169 (fS_L_event_466  _ _ _) (FtR fs95))
        (FS.none))
       (FS.none))
theorem fS_F_event (x1 : Int32) (σ : TS)  : FS fs96 σ (F_event x1 σ) := by
  unfold F_event
  exact FS.nmT (Ft.p_tsI (Ft.rf _ _) rfl) fun s1 h_s1 =>
    FS.ob h_s1 (fS_L_event_12  _ _ _ _) (le_fs89_fs96) fun q7 s8 h_s8 =>
    FS.ob h_s8 (fS_L_event_40  _ _ _ _) (le_fs90_fs96) fun q15 s16 h_s16 =>
    FS.ob h_s16 (fS_L_event_68  _ _ _ _) (le_fs30_fs96) fun q30 s31 h_s31 =>
    FS.obS h_s31 (fS_L_event_111  _ _ _ _) (le_fs94_fs96) (fun r179 s142 h_s142 => FS.some h_s142) fun q141 s142 h_s142 =>
    FS.ob h_s142 (fS_L_event_415  _ _ _) (le_fs30_fs96) fun q152 s153 h_s153 =>
    FS.ob h_s153 (fS_F_solveBlocks _ ) (le_fs88_fs96) fun r156 s155 h_s155 =>
    FS.ob h_s155 (fS_F_isBad _ ) (le_fs0_fs96) fun r160 s159 h_s159 =>
    FS.ite (FS.ob h_s159 (fS_L_event_466  _ _ _) (le_fs95_fs96) fun q172 s173 h_s173 =>
     FS.some h_s173)
    (FS.some h_s159)
theorem fS_F_fault (x1 : Int32) (σ : TS)  : FS fs0 σ (F_fault x1 σ) := by
  unfold F_fault
  exact FS.ite (FS.some (Ft.rf _ _))
    (FS.ite (FS.some (Ft.rf _ _))
     (FS.some (Ft.rf _ _)))
theorem fS_F_faulted (σ : TS)  : FS fs97 σ (F_faulted σ) := by
  unfold F_faulted
  exact FS.nmT (Ft.p_tsI (Ft.rf _ _) rfl) fun s1 h_s1 =>
    FS.nmT (Ft.p_tsI h_s1 rfl) fun s2 h_s2 =>
    FS.nmT (Ft.p_tsI h_s2 rfl) fun s3 h_s3 =>
    FS.some h_s3
theorem fS_J_feed_72_19 (rec : Int32 → Int32 → Int32 → Int32 → Int32 → Int32 → TS → Option (Unit × TS)) (x1 : Int32) (x2 : Int32) (x3 : Int32) (x4 : Int32) (x5 : Int32) (x6 : Int32) (y0 : Int32) (σ : TS) (hrec : ∀ (a0 : Int32) (a1 : Int32) (a2 : Int32) (a3 : Int32) (a4 : Int32) (a5 : Int32) (a6 : TS), FS fs98 a6 (rec a0 a1 a2 a3 a4 a5 a6)) : FS fs98 σ (J_feed_72_19 rec x1 x2 x3 x4 x5 x6 y0 σ) := by
  unfold J_feed_72_19
  exact FS.ite (FS.nmT (Ft.p_tsA (Ft.rf _ _) rfl) fun s2 h_s2 =>
     FS.nmT (Ft.p_tsI h_s2 rfl) fun s3 h_s3 =>
     FS.nmV fun v4 =>
     FS.call h_s3 (hrec _ _ _ _ _ _ _) (FtR fs98))
    (FS.none)
theorem fS_L_feed_19   : ∀ (n : Nat) (x1 : Int32) (x2 : Int32) (x3 : Int32) (x4 : Int32) (x5 : Int32) (x6 : Int32) (σ : TS), FS fs98 σ (L_feed_19  n x1 x2 x3 x4 x5 x6 σ)
  | 0, _, _, _, _, _, _, _ => FS.none
  | n + 1, x1, x2, x3, x4, x5, x6, σ => by
    rw [L_feed_19]
    exact FS.ite (FS.some (Ft.rf _ _))
      (FS.ite (FS.ite (FS.ite (FS.ite (FS.call (Ft.rf _ _) (fS_J_feed_72_19 _ _ _ _ _ _ _ _ _ (fun a0 a1 a2 a3 a4 a5 a6 => fS_L_feed_19   _ a0 a1 a2 a3 a4 a5 a6) ) (FtR fs98))
          (FS.call (Ft.rf _ _) (fS_J_feed_72_19 _ _ _ _ _ _ _ _ _ (fun a0 a1 a2 a3 a4 a5 a6 => fS_L_feed_19   _ a0 a1 a2 a3 a4 a5 a6) ) (FtR fs98)))
         (FS.call (Ft.rf _ _) (fS_J_feed_72_19 _ _ _ _ _ _ _ _ _ (fun a0 a1 a2 a3 a4 a5 a6 => fS_L_feed_19   _ a0 a1 a2 a3 a4 a5 a6) ) (FtR fs98)))
        (FS.call (Ft.rf _ _) (fS_J_feed_72_19 _ _ _ _ _ _ _ _ _ (fun a0 a1 a2 a3 a4 a5 a6 => fS_L_feed_19   _ a0 a1 a2 a3 a4 a5 a6) ) (FtR fs98)))
       (FS.call (Ft.rf _ _) (fS_J_feed_72_19 _ _ _ _ _ _ _ _ _ (fun a0 a1 a2 a3 a4 a5 a6 => fS_L_feed_19   _ a0 a1 a2 a3 a4 a5 a6) ) (FtR fs98)))
theorem fS_F_feed (x1 : Int32) (x2 : Int32) (x3 : Int32) (x4 : Int32) (x5 : Int32) (σ : TS)  : FS fs98 σ (F_feed x1 x2 x3 x4 x5 σ) := by
  unfold F_feed
  exact FS.ite (FS.ob (Ft.rf _ _) (fS_L_feed_19  _ _ _ _ _ _ _ _) (FtR fs98) fun q10 s11 h_s11 =>
     FS.some h_s11)
    (FS.some (Ft.rf _ _))
theorem fS_J_has_80_21 (cf_has : Int32 → Int64 → Int32 → TS → Option (Int32 × TS)) (rec : Int32 → Int64 → Int32 → Int32 → TS → Option ((Unit ⊕ Int32) × TS)) (x1 : Int32) (x2 : Int64) (x4 : Int32) (x5 : Int32) (σ : TS) (hcf_has : ∀ (a0 : Int32) (a1 : Int64) (a2 : Int32) (a3 : TS), FS fs0 a3 (cf_has a0 a1 a2 a3)) (hrec : ∀ (a0 : Int32) (a1 : Int64) (a2 : Int32) (a3 : Int32) (a4 : TS), FS fs0 a4 (rec a0 a1 a2 a3 a4)) : FS fs0 σ (J_has_80_21 cf_has rec x1 x2 x4 x5 σ) := by
  unfold J_has_80_21
  exact FS.ite (FS.ite (FS.nmV fun v9 =>
      FS.call (Ft.rf _ _) (hrec _ _ _ _ _) (FtR fs0))
     (FS.ite (FS.ob (Ft.rf _ _) (fS_F_classOf _ _ ) (FtR fs0) fun r12 s11 h_s11 =>
       FS.ob h_s11 (hcf_has _ _ _ _) (FtR fs0) fun r16 s15 h_s15 =>
       FS.ite (FS.nmV fun v19 =>
        FS.call h_s15 (hrec _ _ _ _ _) (FtR fs0))
       (FS.some h_s15))
      (FS.none)))
    (FS.none)
theorem fS_L_has_21 (cf_has : Int32 → Int64 → Int32 → TS → Option (Int32 × TS)) (hcf_has : ∀ (a0 : Int32) (a1 : Int64) (a2 : Int32) (a3 : TS), FS fs0 a3 (cf_has a0 a1 a2 a3)) : ∀ (n : Nat) (x1 : Int32) (x2 : Int64) (x4 : Int32) (x5 : Int32) (σ : TS), FS fs0 σ (L_has_21 cf_has n x1 x2 x4 x5 σ)
  | 0, _, _, _, _, _ => FS.none
  | n + 1, x1, x2, x4, x5, σ => by
    rw [L_has_21]
    exact FS.ite (FS.ite (FS.ite (FS.some (Ft.rf _ _))
        (FS.ite (FS.ite (FS.ite (FS.ite (FS.ite (FS.ite (FS.some (Ft.rf _ _))
              (FS.some (Ft.rf _ _)))
             (FS.none))
            (FS.call (Ft.rf _ _) (fS_J_has_80_21 _ _ _ _ _ _ _ hcf_has (fun a0 a1 a2 a3 a4 => fS_L_has_21 cf_has hcf_has _ a0 a1 a2 a3 a4) ) (FtR fs0)))
           (FS.none))
          (FS.call (Ft.rf _ _) (fS_J_has_80_21 _ _ _ _ _ _ _ hcf_has (fun a0 a1 a2 a3 a4 => fS_L_has_21 cf_has hcf_has _ a0 a1 a2 a3 a4) ) (FtR fs0)))
         (FS.none)))
       (FS.none))
      (FS.none)
theorem fS_B_has (cf_has : Int32 → Int64 → Int32 → TS → Option (Int32 × TS)) (x1 : Int32) (x2 : Int64) (x4 : Int32) (σ : TS) (hcf_has : ∀ (a0 : Int32) (a1 : Int64) (a2 : Int32) (a3 : TS), FS fs0 a3 (cf_has a0 a1 a2 a3)) : FS fs0 σ (B_has cf_has x1 x2 x4 σ) := by
  unfold B_has
  exact FS.ite (FS.some (Ft.rf _ _))
    (FS.ite (FS.ite (FS.nmV fun v2 =>
       FS.obS (Ft.rf _ _) (fS_L_has_21 _ hcf_has _ _ _ _ _ _) (FtR fs0) (fun r32 s29 h_s29 => FS.some h_s29) fun q28 s29 h_s29 =>
       FS.some h_s29)
      (FS.none))
     (FS.some (Ft.rf _ _)))
theorem fS_G_has : ∀ d : Nat, (∀ (a0 : Int32) (a1 : Int64) (a2 : Int32) (a3 : TS), FS fs0 a3 ((G_has d) a0 a1 a2 a3)) := by
  intro d
  induction d with
  | zero => exact fun _ _ _ _ => FS.none
  | succ d ih => exact fun a0 a1 a2 a3 => fS_B_has _ a0 a1 a2 a3 (fun b0 b1 b2 b3 => ih b0 b1 b2 b3)
theorem fS_F_has (a0 : Int32) (a1 : Int64) (a2 : Int32) (a3 : TS) : FS fs0 a3 (F_has a0 a1 a2 a3) := (fS_G_has 300) a0 a1 a2 a3
theorem fS_L_isMeant_8   : ∀ (n : Nat) (x1 : Int32) (x2 : Int64) (x4 : Int32) (x5 : Int32) (σ : TS), FS fs0 σ (L_isMeant_8  n x1 x2 x4 x5 σ)
  | 0, _, _, _, _, _ => FS.none
  | n + 1, x1, x2, x4, x5, σ => by
    rw [L_isMeant_8]
    exact FS.ite (FS.ite (FS.ite (FS.some (Ft.rf _ _))
        (FS.ite (FS.ite (FS.ite (FS.nmV fun v6 =>
            FS.call (Ft.rf _ _) (fS_L_isMeant_8  _ _ _ _ _ _) (FtR fs0))
           (FS.ite (FS.ite (FS.ite (FS.some (Ft.rf _ _))
              (FS.nmV fun v9 =>
               FS.call (Ft.rf _ _) (fS_L_isMeant_8  _ _ _ _ _ _) (FtR fs0)))
             (FS.none))
            (FS.none)))
          (FS.none))
         (FS.ite (FS.ite (FS.nmV fun v13 =>
            FS.call (Ft.rf _ _) (fS_L_isMeant_8  _ _ _ _ _ _) (FtR fs0))
           (FS.ite (FS.ite (FS.ite (FS.some (Ft.rf _ _))
              (FS.nmV fun v16 =>
               FS.call (Ft.rf _ _) (fS_L_isMeant_8  _ _ _ _ _ _) (FtR fs0)))
             (FS.none))
            (FS.none)))
          (FS.none))))
       (FS.none))
      (FS.none)
theorem fS_L_isMeant_120   : ∀ (n : Nat) (x2 : Int64) (x4 : Int32) (x5 : Int32) (x6 : Int32) (σ : TS), FS fs0 σ (L_isMeant_120  n x2 x4 x5 x6 σ)
  | 0, _, _, _, _, _ => FS.none
  | n + 1, x2, x4, x5, x6, σ => by
    rw [L_isMeant_120]
    exact FS.ite (FS.some (Ft.rf _ _))
      (FS.ite (FS.ite (FS.ite (FS.ite (FS.ite (FS.ite (FS.some (Ft.rf _ _))
            (FS.ite (FS.nmV fun v34 =>
              FS.call (Ft.rf _ _) (fS_L_isMeant_120  _ _ _ _ _ _) (FtR fs0))
             (FS.none)))
           (FS.none))
          (FS.none))
         (FS.ite (FS.ite (FS.some (Ft.rf _ _))
           (FS.ite (FS.nmV fun v38 =>
             FS.call (Ft.rf _ _) (fS_L_isMeant_120  _ _ _ _ _ _) (FtR fs0))
            (FS.none)))
          (FS.none)))
        (FS.ite (FS.nmV fun v30 =>
          FS.call (Ft.rf _ _) (fS_L_isMeant_120  _ _ _ _ _ _) (FtR fs0))
         (FS.none)))
       (FS.none))
theorem fS_L_isMeant_102   : ∀ (n : Nat) (x2 : Int64) (x4 : Int32) (x5 : Int32) (σ : TS), FS fs0 σ (L_isMeant_102  n x2 x4 x5 σ)
  | 0, _, _, _, _ => FS.none
  | n + 1, x2, x4, x5, σ => by
    rw [L_isMeant_102]
    exact FS.ite (FS.some (Ft.rf _ _))
      (FS.ite (FS.nmV fun v26 =>
        FS.obS (Ft.rf _ _) (fS_L_isMeant_120  _ _ _ _ _ _) (FtR fs0) (fun r48 s44 h_s44 => FS.some h_s44) fun q43 s44 h_s44 =>
        FS.nmV fun v46 =>
        FS.call h_s44 (fS_L_isMeant_102  _ _ _ _ _) (FtR fs0))
       (FS.none))
theorem fS_F_isMeant (x1 : Int32) (x2 : Int64) (x4 : Int32) (σ : TS)  : FS fs0 σ (F_isMeant x1 x2 x4 σ) := by
  unfold F_isMeant
  exact FS.ite (FS.nmV fun v2 =>
     FS.obS (Ft.rf _ _) (fS_L_isMeant_8  _ _ _ _ _ _) (FtR fs0) (fun r56 s22 h_s22 => FS.some h_s22) fun q21 s22 h_s22 =>
     FS.nmV fun v24 =>
     FS.obS h_s22 (fS_L_isMeant_102  _ _ _ _ _) (FtR fs0) (fun r54 s51 h_s51 => FS.some h_s51) fun q50 s51 h_s51 =>
     FS.some h_s51)
    (FS.none)
theorem fS_J_put_19 (x1 : Int32) (x2 : Int32) (x3 : Int32) (σ : TS)  : FS fs99 σ (J_put_19 x1 x2 x3 σ) := by
  unfold J_put_19
  exact FS.ite (FS.nmT (Ft.p_tsA (Ft.rf _ _) rfl) fun s2 h_s2 =>
     FS.ite (FS.nmT (Ft.p_tsA h_s2 rfl) fun s4 h_s4 =>
      FS.ite (FS.nmT (Ft.p_tsA h_s4 rfl) fun s6 h_s6 =>
       FS.nmT (Ft.p_tsI h_s6 rfl) fun s7 h_s7 =>
       FS.some h_s7)
      (FS.none))
     (FS.none))
    (FS.none)
theorem fS_F_put (x1 : Int32) (x2 : Int32) (x3 : Int32) (σ : TS)  : FS fs99 σ (F_put x1 x2 x3 σ) := by
  unfold F_put
  exact FS.ite (FS.nmT (Ft.p_tsI (Ft.rf _ _) rfl) fun s8 h_s8 =>
     FS.call h_s8 (fS_J_put_19 _ _ _ _ ) (FtR fs99))
    (FS.call (Ft.rf _ _) (fS_J_put_19 _ _ _ _ ) (FtR fs99))
theorem fS_L_inherit_3   : ∀ (n : Nat) (x1 : Int32) (x2 : Int32) (x3 : Int64) (x5 : Int32) (σ : TS), FS fs99 σ (L_inherit_3  n x1 x2 x3 x5 σ)
  | 0, _, _, _, _, _ => FS.none
  | n + 1, x1, x2, x3, x5, σ => by
    rw [L_inherit_3]
    exact FS.ite (FS.some (Ft.rf _ _))
      (FS.ite (FS.ite (FS.nmV fun v2 =>
         FS.call (Ft.rf _ _) (fS_L_inherit_3  _ _ _ _ _ _) (FtR fs99))
        (FS.ite (FS.ite (FS.ite (FS.ite (FS.ite (FS.ite (FS.ite (FS.ob (Ft.rf _ _) (fS_F_put _ _ _ _ ) (FtR fs99) fun r10 s9 h_s9 =>
                FS.nmV fun v13 =>
                FS.call h_s9 (fS_L_inherit_3  _ _ _ _ _ _) (FtR fs99))
               (FS.none))
              (FS.none))
             (FS.none))
            (FS.none))
           (FS.nmV fun v14 =>
            FS.call (Ft.rf _ _) (fS_L_inherit_3  _ _ _ _ _ _) (FtR fs99)))
          (FS.none))
         (FS.none)))
       (FS.none))
theorem fS_F_inherit (x1 : Int32) (x2 : Int32) (x3 : Int64) (σ : TS)  : FS fs99 σ (F_inherit x1 x2 x3 σ) := by
  unfold F_inherit
  exact FS.ob (Ft.rf _ _) (fS_L_inherit_3  _ _ _ _ _ _) (FtR fs99) fun q18 s19 h_s19 =>
    FS.some h_s19
theorem fS_L_makeVariable_4   : ∀ (n : Nat) (x1 : Int32) (x2 : Int32) (x3 : Int32) (x4 : Int32) (x5 : Int32) (σ : TS), FS fs1 σ (L_makeVariable_4  n x1 x2 x3 x4 x5 σ)
  | 0, _, _, _, _, _, _ => FS.none
  | n + 1, x1, x2, x3, x4, x5, σ => by
    rw [L_makeVariable_4]
    exact FS.ite (FS.some (Ft.rf _ _))
      (FS.ob (Ft.rf _ _) (fS_F_isBad _ ) (le_fs0_fs1) fun r2 s1 h_s1 =>
       FS.ite (FS.ite (FS.ite (FS.nmV fun v6 =>
          FS.call h_s1 (fS_L_makeVariable_4  _ _ _ _ _ _ _) (FtR fs1))
         (FS.ite (FS.ite (FS.ite (FS.ite (FS.ite (FS.ite (FS.nmV fun v16 =>
                FS.call h_s1 (fS_L_makeVariable_4  _ _ _ _ _ _ _) (FtR fs1))
               (FS.ob h_s1 (fS_F_bad _ _ _ ) (FtR fs1) fun r18 s17 h_s17 =>
                FS.nmV fun v21 =>
                FS.call h_s17 (fS_L_makeVariable_4  _ _ _ _ _ _ _) (FtR fs1)))
              (FS.none))
             (FS.none))
            (FS.ob h_s1 (fS_F_bad _ _ _ ) (FtR fs1) fun r10 s9 h_s9 =>
             FS.nmV fun v13 =>
             FS.call h_s9 (fS_L_makeVariable_4  _ _ _ _ _ _ _) (FtR fs1)))
           (FS.none))
          (FS.none)))
        (FS.none))
       (FS.some h_s1))
theorem fS_L_makeVariable_85   : ∀ (n : Nat) (x1 : Int32) (x2 : Int32) (x3 : Int32) (x4 : Int32) (x5 : Int32) (σ : TS), FS fs1 σ (L_makeVariable_85  n x1 x2 x3 x4 x5 σ)
  | 0, _, _, _, _, _, _ => FS.none
  | n + 1, x1, x2, x3, x4, x5, σ => by
    rw [L_makeVariable_85]
    exact FS.ite (FS.some (Ft.rf _ _))
      (FS.ob (Ft.rf _ _) (fS_F_isBad _ ) (le_fs0_fs1) fun r33 s32 h_s32 =>
       FS.ite (FS.ite (FS.ite (FS.ite (FS.ite (FS.ite (FS.ite (FS.nmV fun v47 =>
              FS.call h_s32 (fS_L_makeVariable_85  _ _ _ _ _ _ _) (FtR fs1))
             (FS.none))
            (FS.ob h_s32 (fS_F_bad _ _ _ ) (FtR fs1) fun r49 s48 h_s48 =>
             FS.ite (FS.nmV fun v53 =>
              FS.call h_s48 (fS_L_makeVariable_85  _ _ _ _ _ _ _) (FtR fs1))
             (FS.none)))
           (FS.none))
          (FS.none))
         (FS.ob h_s32 (fS_F_bad _ _ _ ) (FtR fs1) fun r39 s38 h_s38 =>
          FS.ite (FS.nmV fun v43 =>
           FS.call h_s38 (fS_L_makeVariable_85  _ _ _ _ _ _ _) (FtR fs1))
          (FS.none)))
        (FS.none))
       (FS.some h_s32))
theorem fS_L_makeVariable_345   : ∀ (n : Nat) (x1 : Int32) (x2 : Int32) (x4 : Int32) (x5 : Int32) (x7 : Int32) (x8 : Int32) (σ : TS), FS fs100 σ (L_makeVariable_345  n x1 x2 x4 x5 x7 x8 σ)
  | 0, _, _, _, _, _, _, _ => FS.none
  | n + 1, x1, x2, x4, x5, x7, x8, σ => by
    rw [L_makeVariable_345]
    exact FS.ite (FS.some (Ft.rf _ _))
      (FS.ite (FS.ite (FS.ite (FS.ite (FS.ite (FS.ite (FS.nmT (Ft.p_tsA (Ft.rf _ _) rfl) fun s100 h_s100 =>
             FS.ite (FS.ite (FS.nmT (Ft.p_tsA h_s100 rfl) fun s103 h_s103 =>
               FS.nmV fun v104 =>
               FS.call h_s103 (fS_L_makeVariable_345  _ _ _ _ _ _ _ _) (FtR fs100))
              (FS.none))
             (FS.none))
            (FS.none))
           (FS.none))
          (FS.none))
         (FS.nmV fun v105 =>
          FS.call (Ft.rf _ _) (fS_L_makeVariable_345  _ _ _ _ _ _ _ _) (FtR fs100)))
        (FS.none))
       (FS.some (Ft.rf _ _)))
theorem fS_L_makeVariable_418   : ∀ (n : Nat) (x1 : Int32) (x2 : Int32) (x4 : Int32) (x5 : Int32) (x8 : Int32) (σ : TS), FS fs101 σ (L_makeVariable_418  n x1 x2 x4 x5 x8 σ)
  | 0, _, _, _, _, _, _ => FS.none
  | n + 1, x1, x2, x4, x5, x8, σ => by
    rw [L_makeVariable_418]
    exact FS.ite (FS.some (Ft.rf _ _))
      (FS.ite (FS.ite (FS.ite (FS.ite (FS.ite (FS.ite (FS.ite (FS.ite (FS.ite (FS.ite (FS.ite (FS.ite (FS.ite (FS.nmT (Ft.p_tsA (Ft.rf _ _) rfl) fun s125 h_s125 =>
                    FS.ite (FS.ite (FS.nmT (Ft.p_tsA h_s125 rfl) fun s128 h_s128 =>
                      FS.nmV fun v129 =>
                      FS.call h_s128 (fS_L_makeVariable_418  _ _ _ _ _ _ _) (FtR fs101))
                     (FS.none))
                    (FS.none))
                   (FS.none))
                  (FS.none))
                 (FS.none))
                (FS.nmV fun v130 =>
                 FS.call (Ft.rf _ _) (fS_L_makeVariable_418  _ _ _ _ _ _ _) (FtR fs101)))
               (FS.none))
              (FS.ob (Ft.rf _ _) (fS_F_bad _ _ _ ) (le_fs1_fs101) fun r133 s132 h_s132 =>
               FS.some h_s132))
             (FS.none))
            (FS.none))
           (FS.ob (Ft.rf _ _) (fS_F_bad _ _ _ ) (le_fs1_fs101) fun r116 s115 h_s115 =>
            FS.some h_s115))
          (FS.none))
         (FS.none))
        (FS.nmV fun v138 =>
         FS.call (Ft.rf _ _) (fS_L_makeVariable_418  _ _ _ _ _ _ _) (FtR fs101)))
       (FS.none))
theorem fS_L_makeVariable_548   : ∀ (n : Nat) (x1 : Int32) (x5 : Int32) (x8 : Int32) (σ : TS), FS fs101 σ (L_makeVariable_548  n x1 x5 x8 σ)
  | 0, _, _, _, _ => FS.none
  | n + 1, x1, x5, x8, σ => by
    rw [L_makeVariable_548]
    exact FS.ite (FS.some (Ft.rf _ _))
      (FS.ob (Ft.rf _ _) (fS_F_isBad _ ) (le_fs0_fs101) fun r148 s147 h_s147 =>
       FS.ite (FS.ite (FS.ite (FS.ite (FS.ite (FS.ite (FS.ite (FS.ite (FS.ite (FS.ite (FS.nmT (Ft.p_tsA h_s147 rfl) fun s166 h_s166 =>
                 FS.ite (FS.nmT (Ft.p_tsA h_s166 rfl) fun s168 h_s168 =>
                  FS.ite (FS.nmV fun v170 =>
                   FS.call h_s168 (fS_L_makeVariable_548  _ _ _ _ _) (FtR fs101))
                  (FS.none))
                 (FS.none))
                (FS.none))
               (FS.none))
              (FS.ite (FS.nmV fun v163 =>
                FS.call h_s147 (fS_L_makeVariable_548  _ _ _ _ _) (FtR fs101))
               (FS.none)))
             (FS.none))
            (FS.ob h_s147 (fS_F_bad _ _ _ ) (le_fs1_fs101) fun r173 s172 h_s172 =>
             FS.ite (FS.nmV fun v177 =>
              FS.call h_s172 (fS_L_makeVariable_548  _ _ _ _ _) (FtR fs101))
             (FS.none)))
           (FS.none))
          (FS.none))
         (FS.ob h_s147 (fS_F_bad _ _ _ ) (le_fs1_fs101) fun r154 s153 h_s153 =>
          FS.ite (FS.nmV fun v158 =>
           FS.call h_s153 (fS_L_makeVariable_548  _ _ _ _ _) (FtR fs101))
          (FS.none)))
        (FS.none))
       (FS.some h_s147))
theorem fS_J_makeVariable_414 (x1 : Int32) (x2 : Int32) (x4 : Int32) (x5 : Int32) (σ : TS)  : FS fs102 σ (J_makeVariable_414 x1 x2 x4 x5 σ) := by
  unfold J_makeVariable_414
  exact FS.obS (Ft.rf _ _) (fS_L_makeVariable_418  _ _ _ _ _ _ _) (le_fs101_fs102) (fun r187 s142 h_s142 => FS.some h_s142) fun q141 s142 h_s142 =>
    FS.nmT (Ft.p_tsI h_s142 rfl) fun s144 h_s144 =>
    FS.ite (FS.nmV fun v146 =>
     FS.ob h_s144 (fS_L_makeVariable_548  _ _ _ _ _) (le_fs101_fs102) fun q182 s183 h_s183 =>
     FS.some h_s183)
    (FS.none)
theorem fS_J_makeVariable_300 (x1 : Int32) (x2 : Int32) (x4 : Int32) (x5 : Int32) (y1 : Int32) (y2 : Int32) (σ : TS)  : FS fs103 σ (J_makeVariable_300 x1 x2 x4 x5 y1 y2 σ) := by
  unfold J_makeVariable_300
  exact FS.ite (FS.nmT (Ft.p_tsA (Ft.rf _ _) rfl) fun s86 h_s86 =>
     FS.ite (FS.ite (FS.nmT (Ft.p_tsA h_s86 rfl) fun s89 h_s89 =>
       FS.ite (FS.nmT (Ft.p_tsA h_s89 rfl) fun s91 h_s91 =>
        FS.ite (FS.nmT (Ft.p_tsA h_s91 rfl) fun s93 h_s93 =>
         FS.ite (FS.nmT (Ft.p_tsA h_s93 rfl) fun s95 h_s95 =>
          FS.ob h_s95 (fS_L_makeVariable_345  _ _ _ _ _ _ _ _) (le_fs100_fs103) fun q109 s110 h_s110 =>
          FS.call h_s110 (fS_J_makeVariable_414 _ _ _ _ _ ) (le_fs102_fs103))
         (FS.none))
        (FS.none))
       (FS.none))
      (FS.none))
     (FS.none))
    (FS.none)
theorem fS_J_makeVariable_248 (x1 : Int32) (x2 : Int32) (x3 : Int32) (x4 : Int32) (x5 : Int32) (y1 : Int32) (y2 : Int32) (σ : TS)  : FS fs104 σ (J_makeVariable_248 x1 x2 x3 x4 x5 y1 y2 σ) := by
  unfold J_makeVariable_248
  exact FS.ite (FS.nmT (Ft.p_tsA (Ft.rf _ _) rfl) fun s76 h_s76 =>
     FS.ite (FS.ite (FS.nmT (Ft.p_tsA h_s76 rfl) fun s79 h_s79 =>
       FS.ite (FS.nmT (Ft.p_tsA h_s79 rfl) fun s81 h_s81 =>
        FS.ite (FS.nmT (Ft.p_tsA h_s81 rfl) fun s83 h_s83 =>
         FS.ite (FS.ite (FS.call h_s83 (fS_J_makeVariable_300 _ _ _ _ _ _ _ ) (le_fs103_fs104))
          (FS.call h_s83 (fS_J_makeVariable_300 _ _ _ _ _ _ _ ) (le_fs103_fs104)))
         (FS.none))
        (FS.none))
       (FS.none))
      (FS.none))
     (FS.none))
    (FS.none)
theorem fS_J_makeVariable_229 (x1 : Int32) (x2 : Int32) (x3 : Int32) (x4 : Int32) (x5 : Int32) (x6 : Int32) (y1 : Int32) (y2 : Int32) (σ : TS)  : FS fs105 σ (J_makeVariable_229 x1 x2 x3 x4 x5 x6 y1 y2 σ) := by
  unfold J_makeVariable_229
  exact FS.ite (FS.nmT (Ft.p_tsA (Ft.rf _ _) rfl) fun s74 h_s74 =>
     FS.ite (FS.call h_s74 (fS_J_makeVariable_248 _ _ _ _ _ _ _ _ ) (le_fs104_fs105))
     (FS.call h_s74 (fS_J_makeVariable_248 _ _ _ _ _ _ _ _ ) (le_fs104_fs105)))
    (FS.none)
theorem fS_J_makeVariable_168 (x1 : Int32) (x2 : Int32) (x3 : Int32) (x4 : Int32) (σ : TS)  : FS fs106 σ (J_makeVariable_168 x1 x2 x3 x4 σ) := by
  unfold J_makeVariable_168
  exact FS.ob (Ft.rf _ _) (fS_F_isBad _ ) (le_fs0_fs106) fun r66 s65 h_s65 =>
    FS.ite (FS.nmV fun v69 =>
     FS.nmT (Ft.p_tsI h_s65 rfl) fun s70 h_s70 =>
     FS.ite (FS.nmV fun v72 =>
      FS.ite (FS.ite (FS.call h_s70 (fS_J_makeVariable_229 _ _ _ _ _ _ _ _ _ ) (le_fs105_fs106))
       (FS.call h_s70 (fS_J_makeVariable_229 _ _ _ _ _ _ _ _ _ ) (le_fs105_fs106)))
      (FS.call h_s70 (fS_J_makeVariable_229 _ _ _ _ _ _ _ _ _ ) (le_fs105_fs106)))
     (FS.none))
    (FS.some h_s65)
theorem fS_J_makeVariable_145 (x1 : Int32) (x2 : Int32) (x3 : Int32) (x4 : Int32) (σ : TS)  : FS fs106 σ (J_makeVariable_145 x1 x2 x3 x4 σ) := by
  unfold J_makeVariable_145
  exact FS.ob (Ft.rf _ _) (fS_F_isBad _ ) (le_fs0_fs106) fun r62 s61 h_s61 =>
    FS.ite (FS.ite (FS.ob h_s61 (fS_F_bad _ _ _ ) (le_fs1_fs106) fun r195 s194 h_s194 =>
      FS.call h_s194 (fS_J_makeVariable_168 _ _ _ _ _ ) (FtR fs106))
     (FS.call h_s61 (fS_J_makeVariable_168 _ _ _ _ _ ) (FtR fs106)))
    (FS.call h_s61 (fS_J_makeVariable_168 _ _ _ _ _ ) (FtR fs106))
theorem fS_J_makeVariable_77 (x1 : Int32) (x2 : Int32) (x3 : Int32) (x4 : Int32) (σ : TS)  : FS fs106 σ (J_makeVariable_77 x1 x2 x3 x4 σ) := by
  unfold J_makeVariable_77
  exact FS.ite (FS.nmV fun v31 =>
     FS.ob (Ft.rf _ _) (fS_L_makeVariable_85  _ _ _ _ _ _ _) (le_fs1_fs106) fun q58 s59 h_s59 =>
     FS.call h_s59 (fS_J_makeVariable_145 _ _ _ _ _ ) (FtR fs106))
    (FS.none)
theorem fS_F_makeVariable (x1 : Int32) (x2 : Int32) (x3 : Int32) (x4 : Int32) (σ : TS)  : FS fs106 σ (F_makeVariable x1 x2 x3 x4 σ) := by
  unfold F_makeVariable
  exact FS.ob (Ft.rf _ _) (fS_L_makeVariable_4  _ _ _ _ _ _ _) (le_fs1_fs106) fun q27 s28 h_s28 =>
    FS.call h_s28 (fS_J_makeVariable_77 _ _ _ _ _ ) (FtR fs106)
theorem fS_F_newInstance (x1 : Int32) (x2 : Int32) (x3 : Int32) (x4 : Int32) (x5 : Int32) (σ : TS)  : FS fs107 σ (F_newInstance x1 x2 x3 x4 x5 σ) := by
  unfold F_newInstance
  exact FS.ite (FS.ob (Ft.rf _ _) (fS_F_bad _ _ _ ) (le_fs1_fs107) fun r18 s17 h_s17 =>
     FS.some h_s17)
    (FS.nmV fun v1 =>
     FS.nmT (Ft.p_tsI (Ft.rf _ _) rfl) fun s2 h_s2 =>
     FS.ite (FS.nmT (Ft.p_tsA h_s2 rfl) fun s4 h_s4 =>
      FS.ite (FS.nmT (Ft.p_tsA h_s4 rfl) fun s6 h_s6 =>
       FS.ite (FS.nmT (Ft.p_tsA h_s6 rfl) fun s8 h_s8 =>
        FS.ite (FS.nmT (Ft.p_tsA h_s8 rfl) fun s10 h_s10 =>
         FS.ite (FS.nmT (Ft.p_tsA h_s10 rfl) fun s12 h_s12 =>
          FS.ite (FS.nmT (Ft.p_tsA h_s12 rfl) fun s14 h_s14 =>
           FS.ite (FS.nmT (Ft.p_tsA h_s14 rfl) fun s16 h_s16 =>
            FS.some h_s16)
           (FS.none))
          (FS.none))
         (FS.none))
        (FS.none))
       (FS.none))
      (FS.none))
     (FS.none))
theorem fS_L_leads_3   : ∀ (n : Nat) (x1 : Int32) (x2 : Int32) (x3 : Int32) (x4 : Int32) (σ : TS), FS fs1 σ (L_leads_3  n x1 x2 x3 x4 σ)
  | 0, _, _, _, _, _ => FS.none
  | n + 1, x1, x2, x3, x4, σ => by
    rw [L_leads_3]
    exact FS.ite (FS.some (Ft.rf _ _))
      (FS.ob (Ft.rf _ _) (fS_F_isBad _ ) (le_fs0_fs1) fun r2 s1 h_s1 =>
       FS.ite (FS.ite (FS.ite (FS.ob h_s1 (fS_F_bad _ _ _ ) (FtR fs1) fun r35 s34 h_s34 =>
          FS.nmV fun v38 =>
          FS.call h_s34 (fS_L_leads_3  _ _ _ _ _ _) (FtR fs1))
         (FS.ite (FS.ite (FS.ite (FS.ite (FS.ob h_s1 (fS_F_has  _ _ _ _) (le_fs0_fs1) fun r10 s9 h_s9 =>
              FS.ite (FS.ob h_s9 (fS_F_bad _ _ _ ) (FtR fs1) fun r15 s14 h_s14 =>
               FS.nmV fun v18 =>
               FS.call h_s14 (fS_L_leads_3  _ _ _ _ _ _) (FtR fs1))
              (FS.nmV fun v13 =>
               FS.call h_s9 (fS_L_leads_3  _ _ _ _ _ _) (FtR fs1)))
             (FS.none))
            (FS.none))
           (FS.ite (FS.ite (FS.ob h_s1 (fS_F_has  _ _ _ _) (le_fs0_fs1) fun r23 s22 h_s22 =>
              FS.ite (FS.ob h_s22 (fS_F_bad _ _ _ ) (FtR fs1) fun r28 s27 h_s27 =>
               FS.nmV fun v31 =>
               FS.call h_s27 (fS_L_leads_3  _ _ _ _ _ _) (FtR fs1))
              (FS.nmV fun v26 =>
               FS.call h_s22 (fS_L_leads_3  _ _ _ _ _ _) (FtR fs1)))
             (FS.none))
            (FS.none)))
          (FS.none)))
        (FS.none))
       (FS.some h_s1))
theorem fS_F_leads (x1 : Int32) (x2 : Int32) (x3 : Int32) (σ : TS)  : FS fs1 σ (F_leads x1 x2 x3 σ) := by
  unfold F_leads
  exact FS.ob (Ft.rf _ _) (fS_L_leads_3  _ _ _ _ _ _) (FtR fs1) fun q42 s43 h_s43 =>
    FS.some h_s43
theorem fS_L_fill_196 (cf_fill : Int32 → Int32 → Int32 → TS → Option (Unit × TS)) (cf_makeMember : Int32 → Int32 → Int32 → TS → Option (Unit × TS)) (hcf_fill : ∀ (a0 : Int32) (a1 : Int32) (a2 : Int32) (a3 : TS), FS fs108 a3 (cf_fill a0 a1 a2 a3)) (hcf_makeMember : ∀ (a0 : Int32) (a1 : Int32) (a2 : Int32) (a3 : TS), FS fs108 a3 (cf_makeMember a0 a1 a2 a3)) : ∀ (n : Nat) (x1 : Int32) (x2 : Int32) (x3 : Int32) (x4 : Int32) (x5 : Int32) (x6 : Int32) (σ : TS), FS fs108 σ (L_fill_196 cf_fill cf_makeMember n x1 x2 x3 x4 x5 x6 σ)
  | 0, _, _, _, _, _, _, _ => FS.none
  | n + 1, x1, x2, x3, x4, x5, x6, σ => by
    rw [L_fill_196]
    exact FS.ite (FS.some (Ft.rf _ _))
      (FS.ob (Ft.rf _ _) (fS_F_isBad _ ) (le_fs0_fs108) fun r40 s39 h_s39 =>
       FS.ite (FS.ite (FS.ite (FS.ite (FS.ite (FS.ob h_s39 (fS_F_has  _ _ _ _) (le_fs0_fs108) fun r48 s47 h_s47 =>
            FS.ite (FS.ob h_s47 (fS_F_bad _ _ _ ) (le_fs1_fs108) fun r54 s53 h_s53 =>
             FS.ite (FS.nmV fun v58 =>
              FS.call h_s53 (fS_L_fill_196 _ _ hcf_fill hcf_makeMember _ _ _ _ _ _ _ _) (FtR fs108))
             (FS.none))
            (FS.ite (FS.nmV fun v52 =>
              FS.call h_s47 (fS_L_fill_196 _ _ hcf_fill hcf_makeMember _ _ _ _ _ _ _ _) (FtR fs108))
             (FS.none)))
           (FS.none))
          (FS.none))
         (FS.ite (FS.ob h_s39 (fS_F_has  _ _ _ _) (le_fs0_fs108) fun r62 s61 h_s61 =>
           FS.ite (FS.ob h_s61 (fS_F_bad _ _ _ ) (le_fs1_fs108) fun r68 s67 h_s67 =>
            FS.ite (FS.nmV fun v72 =>
             FS.call h_s67 (fS_L_fill_196 _ _ hcf_fill hcf_makeMember _ _ _ _ _ _ _ _) (FtR fs108))
            (FS.none))
           (FS.ite (FS.nmV fun v66 =>
             FS.call h_s61 (fS_L_fill_196 _ _ hcf_fill hcf_makeMember _ _ _ _ _ _ _ _) (FtR fs108))
            (FS.none)))
          (FS.none)))
        (FS.none))
       (FS.some h_s39))
theorem fS_L_fill_56 (cf_fill : Int32 → Int32 → Int32 → TS → Option (Unit × TS)) (cf_makeMember : Int32 → Int32 → Int32 → TS → Option (Unit × TS)) (hcf_fill : ∀ (a0 : Int32) (a1 : Int32) (a2 : Int32) (a3 : TS), FS fs108 a3 (cf_fill a0 a1 a2 a3)) (hcf_makeMember : ∀ (a0 : Int32) (a1 : Int32) (a2 : Int32) (a3 : TS), FS fs108 a3 (cf_makeMember a0 a1 a2 a3)) : ∀ (n : Nat) (x1 : Int32) (x2 : Int32) (x3 : Int32) (x4 : Int32) (σ : TS), FS fs108 σ (L_fill_56 cf_fill cf_makeMember n x1 x2 x3 x4 σ)
  | 0, _, _, _, _, _ => FS.none
  | n + 1, x1, x2, x3, x4, σ => by
    rw [L_fill_56]
    exact FS.ite (FS.ite (FS.ite (FS.some (Ft.rf _ _))
        (FS.ob (Ft.rf _ _) (fS_F_isBad _ ) (le_fs0_fs108) fun r11 s10 h_s10 =>
         FS.ite (FS.ite (FS.ite (FS.ob h_s10 (hcf_makeMember _ _ _ _) (FtR fs108) fun r17 s16 h_s16 =>
            FS.nmV fun v20 =>
            FS.call h_s16 (fS_L_fill_56 _ _ hcf_fill hcf_makeMember _ _ _ _ _ _) (FtR fs108))
           (FS.ite (FS.ob h_s10 (fS_F_classOf _ _ ) (le_fs0_fs108) fun r23 s22 h_s22 =>
             FS.ite (FS.ite (FS.ite (FS.ite (FS.ite (FS.ite (FS.nmT (Ft.p_tsA h_s22 rfl) fun s30 h_s30 =>
                   FS.nmT (Ft.p_tsI h_s30 rfl) fun s31 h_s31 =>
                   FS.ob h_s31 (hcf_fill _ _ _ _) (FtR fs108) fun r33 s32 h_s32 =>
                   FS.nmT (Ft.p_tsI h_s32 rfl) fun s36 h_s36 =>
                   FS.ite (FS.nmV fun v38 =>
                    FS.ob h_s36 (fS_L_fill_196 _ _ hcf_fill hcf_makeMember _ _ _ _ _ _ _ _) (FtR fs108) fun q77 s78 h_s78 =>
                    FS.nmV fun v80 =>
                    FS.call h_s78 (fS_L_fill_56 _ _ hcf_fill hcf_makeMember _ _ _ _ _ _) (FtR fs108))
                   (FS.none))
                  (FS.none))
                 (FS.none))
                (FS.ob h_s22 (fS_F_bad _ _ _ ) (le_fs1_fs108) fun r83 s82 h_s82 =>
                 FS.some h_s82))
               (FS.none))
              (FS.none))
             (FS.ob h_s22 (fS_F_bad _ _ _ ) (le_fs1_fs108) fun r88 s87 h_s87 =>
              FS.some h_s87))
            (FS.none)))
          (FS.none))
         (FS.some h_s10)))
       (FS.none))
      (FS.none)
theorem fS_J_fill_40 (cf_fill : Int32 → Int32 → Int32 → TS → Option (Unit × TS)) (cf_makeMember : Int32 → Int32 → Int32 → TS → Option (Unit × TS)) (x1 : Int32) (x2 : Int32) (x3 : Int32) (σ : TS) (hcf_fill : ∀ (a0 : Int32) (a1 : Int32) (a2 : Int32) (a3 : TS), FS fs108 a3 (cf_fill a0 a1 a2 a3)) (hcf_makeMember : ∀ (a0 : Int32) (a1 : Int32) (a2 : Int32) (a3 : TS), FS fs108 a3 (cf_makeMember a0 a1 a2 a3)) : FS fs108 σ (J_fill_40 cf_fill cf_makeMember x1 x2 x3 σ) := by
  unfold J_fill_40
  exact FS.ob (Ft.rf _ _) (fS_F_isBad _ ) (le_fs0_fs108) fun r3 s2 h_s2 =>
    FS.ite (FS.ite (FS.nmV fun v7 =>
      FS.obS h_s2 (fS_L_fill_56 _ _ hcf_fill hcf_makeMember _ _ _ _ _ _) (FtR fs108) (fun r99 s96 h_s96 => FS.some h_s96) fun q95 s96 h_s96 =>
      FS.some h_s96)
     (FS.none))
    (FS.some h_s2)
theorem fS_J_fill_13 (cf_fill : Int32 → Int32 → Int32 → TS → Option (Unit × TS)) (cf_makeMember : Int32 → Int32 → Int32 → TS → Option (Unit × TS)) (x1 : Int32) (x2 : Int32) (x3 : Int32) (σ : TS) (hcf_fill : ∀ (a0 : Int32) (a1 : Int32) (a2 : Int32) (a3 : TS), FS fs108 a3 (cf_fill a0 a1 a2 a3)) (hcf_makeMember : ∀ (a0 : Int32) (a1 : Int32) (a2 : Int32) (a3 : TS), FS fs108 a3 (cf_makeMember a0 a1 a2 a3)) : FS fs108 σ (J_fill_13 cf_fill cf_makeMember x1 x2 x3 σ) := by
  unfold J_fill_13
  exact FS.nmT (Ft.p_tsI (Ft.rf _ _) rfl) fun s1 h_s1 =>
    FS.ite (FS.call h_s1 (fS_J_fill_40 _ _ _ _ _ _ hcf_fill hcf_makeMember ) (FtR fs108))
    (FS.ob h_s1 (fS_F_bad _ _ _ ) (le_fs1_fs108) fun r102 s101 h_s101 =>
     FS.call h_s101 (fS_J_fill_40 _ _ _ _ _ _ hcf_fill hcf_makeMember ) (FtR fs108))
theorem fS_B_fill (cf_fill : Int32 → Int32 → Int32 → TS → Option (Unit × TS)) (cf_makeMember : Int32 → Int32 → Int32 → TS → Option (Unit × TS)) (x1 : Int32) (x2 : Int32) (x3 : Int32) (σ : TS) (hcf_fill : ∀ (a0 : Int32) (a1 : Int32) (a2 : Int32) (a3 : TS), FS fs108 a3 (cf_fill a0 a1 a2 a3)) (hcf_makeMember : ∀ (a0 : Int32) (a1 : Int32) (a2 : Int32) (a3 : TS), FS fs108 a3 (cf_makeMember a0 a1 a2 a3)) : FS fs108 σ (B_fill cf_fill cf_makeMember x1 x2 x3 σ) := by
  unfold B_fill
  exact FS.ite (FS.call (Ft.rf _ _) (fS_J_fill_13 _ _ _ _ _ _ hcf_fill hcf_makeMember ) (FtR fs108))
    (FS.ob (Ft.rf _ _) (fS_F_bad _ _ _ ) (le_fs1_fs108) fun r107 s106 h_s106 =>
     FS.call h_s106 (fS_J_fill_13 _ _ _ _ _ _ hcf_fill hcf_makeMember ) (FtR fs108))
theorem fS_L_makeMember_306 (cf_fill : Int32 → Int32 → Int32 → TS → Option (Unit × TS)) (hcf_fill : ∀ (a0 : Int32) (a1 : Int32) (a2 : Int32) (a3 : TS), FS fs108 a3 (cf_fill a0 a1 a2 a3)) : ∀ (n : Nat) (x1 : Int32) (x2 : Int32) (x3 : Int32) (x4 : Int32) (x5 : Int32) (x6 : Int32) (x7 : Int32) (x8 : Int32) (x9 : Int32) (x10 : Int32) (x11 : Int32) (σ : TS), FS fs108 σ (L_makeMember_306 cf_fill n x1 x2 x3 x4 x5 x6 x7 x8 x9 x10 x11 σ)
  | 0, _, _, _, _, _, _, _, _, _, _, _, _ => FS.none
  | n + 1, x1, x2, x3, x4, x5, x6, x7, x8, x9, x10, x11, σ => by
    rw [L_makeMember_306]
    exact FS.ite (FS.some (Ft.rf _ _))
      (FS.ite (FS.ite (FS.ite (FS.ite (FS.ite (FS.ite (FS.ite (FS.ite (FS.ob (Ft.rf _ _) (fS_F_put _ _ _ _ ) (le_fs99_fs108) fun r63 s62 h_s62 =>
               FS.ite (FS.nmV fun v67 =>
                FS.call h_s62 (fS_L_makeMember_306 _ hcf_fill _ _ _ _ _ _ _ _ _ _ _ _ _) (FtR fs108))
               (FS.none))
              (FS.none))
             (FS.none))
            (FS.ite (FS.nmV fun v59 =>
              FS.call (Ft.rf _ _) (fS_L_makeMember_306 _ hcf_fill _ _ _ _ _ _ _ _ _ _ _ _ _) (FtR fs108))
             (FS.none)))
           (FS.none))
          (FS.none))
         (FS.none))
        (FS.ite (FS.nmV fun v54 =>
          FS.call (Ft.rf _ _) (fS_L_makeMember_306 _ hcf_fill _ _ _ _ _ _ _ _ _ _ _ _ _) (FtR fs108))
         (FS.none)))
       (FS.none))
theorem fS_L_makeMember_288 (cf_fill : Int32 → Int32 → Int32 → TS → Option (Unit × TS)) (hcf_fill : ∀ (a0 : Int32) (a1 : Int32) (a2 : Int32) (a3 : TS), FS fs108 a3 (cf_fill a0 a1 a2 a3)) : ∀ (n : Nat) (x1 : Int32) (x2 : Int32) (x3 : Int32) (x4 : Int32) (x5 : Int32) (x6 : Int32) (x7 : Int32) (x8 : Int32) (x9 : Int32) (x10 : Int32) (σ : TS), FS fs108 σ (L_makeMember_288 cf_fill n x1 x2 x3 x4 x5 x6 x7 x8 x9 x10 σ)
  | 0, _, _, _, _, _, _, _, _, _, _, _ => FS.none
  | n + 1, x1, x2, x3, x4, x5, x6, x7, x8, x9, x10, σ => by
    rw [L_makeMember_288]
    exact FS.ite (FS.some (Ft.rf _ _))
      (FS.ite (FS.nmV fun v50 =>
        FS.ob (Ft.rf _ _) (fS_L_makeMember_306 _ hcf_fill _ _ _ _ _ _ _ _ _ _ _ _ _) (FtR fs108) fun q71 s72 h_s72 =>
        FS.nmV fun v74 =>
        FS.call h_s72 (fS_L_makeMember_288 _ hcf_fill _ _ _ _ _ _ _ _ _ _ _ _) (FtR fs108))
       (FS.none))
theorem fS_L_makeMember_406 (cf_fill : Int32 → Int32 → Int32 → TS → Option (Unit × TS)) (hcf_fill : ∀ (a0 : Int32) (a1 : Int32) (a2 : Int32) (a3 : TS), FS fs108 a3 (cf_fill a0 a1 a2 a3)) : ∀ (n : Nat) (x1 : Int32) (x2 : Int32) (x3 : Int32) (x4 : Int32) (x5 : Int32) (x6 : Int32) (x7 : Int32) (x8 : Int32) (x9 : Int32) (x10 : Int32) (σ : TS), FS fs108 σ (L_makeMember_406 cf_fill n x1 x2 x3 x4 x5 x6 x7 x8 x9 x10 σ)
  | 0, _, _, _, _, _, _, _, _, _, _, _ => FS.none
  | n + 1, x1, x2, x3, x4, x5, x6, x7, x8, x9, x10, σ => by
    rw [L_makeMember_406]
    exact FS.ite (FS.some (Ft.rf _ _))
      (FS.ite (FS.ite (FS.ite (FS.ob (Ft.rf _ _) (fS_F_put _ _ _ _ ) (le_fs99_fs108) fun r86 s85 h_s85 =>
          FS.ite (FS.nmV fun v90 =>
           FS.call h_s85 (fS_L_makeMember_406 _ hcf_fill _ _ _ _ _ _ _ _ _ _ _ _) (FtR fs108))
          (FS.none))
         (FS.none))
        (FS.ob (Ft.rf _ _) (fS_F_put _ _ _ _ ) (le_fs99_fs108) fun r92 s91 h_s91 =>
         FS.ite (FS.nmV fun v96 =>
          FS.call h_s91 (fS_L_makeMember_406 _ hcf_fill _ _ _ _ _ _ _ _ _ _ _ _) (FtR fs108))
         (FS.none)))
       (FS.none))
theorem fS_J_makeMember_515_240 (cf_fill : Int32 → Int32 → Int32 → TS → Option (Unit × TS)) (rec : Int32 → Int32 → Int32 → Int32 → Int32 → Int32 → Int32 → Int32 → TS → Option ((Unit ⊕ Unit) × TS)) (x1 : Int32) (x2 : Int32) (x3 : Int32) (x4 : Int32) (x5 : Int32) (x6 : Int32) (x7 : Int32) (x8 : Int32) (x9 : Int32) (x10 : Int32) (σ : TS) (hcf_fill : ∀ (a0 : Int32) (a1 : Int32) (a2 : Int32) (a3 : TS), FS fs108 a3 (cf_fill a0 a1 a2 a3)) (hrec : ∀ (a0 : Int32) (a1 : Int32) (a2 : Int32) (a3 : Int32) (a4 : Int32) (a5 : Int32) (a6 : Int32) (a7 : Int32) (a8 : TS), FS fs108 a8 (rec a0 a1 a2 a3 a4 a5 a6 a7 a8)) : FS fs108 σ (J_makeMember_515_240 cf_fill rec x1 x2 x3 x4 x5 x6 x7 x8 x9 x10 σ) := by
  unfold J_makeMember_515_240
  exact FS.ob (Ft.rf _ _) (fS_F_isBad _ ) (le_fs0_fs108) fun r112 s111 h_s111 =>
    FS.ite (FS.nmV fun v115 =>
     FS.nmT (Ft.p_tsI h_s111 rfl) fun s116 h_s116 =>
     FS.ob h_s116 (hcf_fill _ _ _ _) (FtR fs108) fun r118 s117 h_s117 =>
     FS.nmT (Ft.p_tsI h_s117 rfl) fun s121 h_s121 =>
     FS.ob h_s121 (fS_F_isBad _ ) (le_fs0_fs108) fun r123 s122 h_s122 =>
     FS.ite (FS.ite (FS.ob h_s122 (fS_F_leads _ _ _ _ ) (le_fs1_fs108) fun r130 s129 h_s129 =>
       FS.nmT (Ft.p_tsI h_s129 rfl) fun s133 h_s133 =>
       FS.nmV fun v134 =>
       FS.call h_s133 (hrec _ _ _ _ _ _ _ _ _) (FtR fs108))
      (FS.none))
     (FS.nmT (Ft.p_tsI h_s122 rfl) fun s126 h_s126 =>
      FS.nmV fun v127 =>
      FS.call h_s126 (hrec _ _ _ _ _ _ _ _ _) (FtR fs108)))
    (FS.some h_s111)
theorem fS_J_makeMember_492_240 (cf_fill : Int32 → Int32 → Int32 → TS → Option (Unit × TS)) (rec : Int32 → Int32 → Int32 → Int32 → Int32 → Int32 → Int32 → Int32 → TS → Option ((Unit ⊕ Unit) × TS)) (x1 : Int32) (x2 : Int32) (x3 : Int32) (x4 : Int32) (x5 : Int32) (x6 : Int32) (x7 : Int32) (x8 : Int32) (x9 : Int32) (y1 : Int32) (y2 : Int32) (y3 : Int32) (σ : TS) (hcf_fill : ∀ (a0 : Int32) (a1 : Int32) (a2 : Int32) (a3 : TS), FS fs108 a3 (cf_fill a0 a1 a2 a3)) (hrec : ∀ (a0 : Int32) (a1 : Int32) (a2 : Int32) (a3 : Int32) (a4 : Int32) (a5 : Int32) (a6 : Int32) (a7 : Int32) (a8 : TS), FS fs108 a8 (rec a0 a1 a2 a3 a4 a5 a6 a7 a8)) : FS fs108 σ (J_makeMember_492_240 cf_fill rec x1 x2 x3 x4 x5 x6 x7 x8 x9 y1 y2 y3 σ) := by
  unfold J_makeMember_492_240
  exact FS.ob (Ft.rf _ _) (fS_F_newInstance _ _ _ _ _ _ ) (le_fs107_fs108) fun r108 s107 h_s107 =>
    FS.ite (FS.ite (FS.nmT (Ft.p_tsA h_s107 rfl) fun s138 h_s138 =>
      FS.call h_s138 (fS_J_makeMember_515_240 _ _ _ _ _ _ _ _ _ _ _ _ _ hcf_fill hrec ) (FtR fs108))
     (FS.none))
    (FS.call h_s107 (fS_J_makeMember_515_240 _ _ _ _ _ _ _ _ _ _ _ _ _ hcf_fill hrec ) (FtR fs108))
theorem fS_J_makeMember_464_240 (cf_fill : Int32 → Int32 → Int32 → TS → Option (Unit × TS)) (rec : Int32 → Int32 → Int32 → Int32 → Int32 → Int32 → Int32 → Int32 → TS → Option ((Unit ⊕ Unit) × TS)) (x1 : Int32) (x2 : Int32) (x3 : Int32) (x4 : Int32) (x5 : Int32) (x6 : Int32) (x7 : Int32) (x8 : Int32) (x9 : Int32) (σ : TS) (hcf_fill : ∀ (a0 : Int32) (a1 : Int32) (a2 : Int32) (a3 : TS), FS fs108 a3 (cf_fill a0 a1 a2 a3)) (hrec : ∀ (a0 : Int32) (a1 : Int32) (a2 : Int32) (a3 : Int32) (a4 : Int32) (a5 : Int32) (a6 : Int32) (a7 : Int32) (a8 : TS), FS fs108 a8 (rec a0 a1 a2 a3 a4 a5 a6 a7 a8)) : FS fs108 σ (J_makeMember_464_240 cf_fill rec x1 x2 x3 x4 x5 x6 x7 x8 x9 σ) := by
  unfold J_makeMember_464_240
  exact FS.ob (Ft.rf _ _) (fS_F_isBad _ ) (le_fs0_fs108) fun r103 s102 h_s102 =>
    FS.ite (FS.ite (FS.ite (FS.call h_s102 (fS_J_makeMember_492_240 _ _ _ _ _ _ _ _ _ _ _ _ _ _ _ hcf_fill hrec ) (FtR fs108))
      (FS.call h_s102 (fS_J_makeMember_492_240 _ _ _ _ _ _ _ _ _ _ _ _ _ _ _ hcf_fill hrec ) (FtR fs108)))
     (FS.none))
    (FS.some h_s102)
theorem fS_L_makeMember_240 (cf_fill : Int32 → Int32 → Int32 → TS → Option (Unit × TS)) (hcf_fill : ∀ (a0 : Int32) (a1 : Int32) (a2 : Int32) (a3 : TS), FS fs108 a3 (cf_fill a0 a1 a2 a3)) : ∀ (n : Nat) (x1 : Int32) (x2 : Int32) (x3 : Int32) (x4 : Int32) (x5 : Int32) (x6 : Int32) (x7 : Int32) (x8 : Int32) (σ : TS), FS fs108 σ (L_makeMember_240 cf_fill n x1 x2 x3 x4 x5 x6 x7 x8 σ)
  | 0, _, _, _, _, _, _, _, _, _ => FS.none
  | n + 1, x1, x2, x3, x4, x5, x6, x7, x8, σ => by
    rw [L_makeMember_240]
    exact FS.ite (FS.some (Ft.rf _ _))
      (FS.ob (Ft.rf _ _) (fS_F_isBad _ ) (le_fs0_fs108) fun r37 s36 h_s36 =>
       FS.ite (FS.nmV fun v40 =>
        FS.ite (FS.ite (FS.ite (FS.ob h_s36 (fS_F_inherit _ _ _ _ ) (le_fs99_fs108) fun r45 s44 h_s44 =>
           FS.nmV fun v48 =>
           FS.ob h_s44 (fS_L_makeMember_288 _ hcf_fill _ _ _ _ _ _ _ _ _ _ _ _) (FtR fs108) fun q77 s78 h_s78 =>
           FS.ite (FS.ite (FS.nmV fun v81 =>
             FS.ob h_s78 (fS_L_makeMember_406 _ hcf_fill _ _ _ _ _ _ _ _ _ _ _ _) (FtR fs108) fun q99 s100 h_s100 =>
             FS.ite (FS.call h_s100 (fS_J_makeMember_464_240 _ _ _ _ _ _ _ _ _ _ _ _ hcf_fill (fun a0 a1 a2 a3 a4 a5 a6 a7 a8 => fS_L_makeMember_240 cf_fill hcf_fill _ a0 a1 a2 a3 a4 a5 a6 a7 a8) ) (FtR fs108))
             (FS.ob h_s100 (fS_F_bad _ _ _ ) (le_fs1_fs108) fun r143 s142 h_s142 =>
              FS.call h_s142 (fS_J_makeMember_464_240 _ _ _ _ _ _ _ _ _ _ _ _ hcf_fill (fun a0 a1 a2 a3 a4 a5 a6 a7 a8 => fS_L_makeMember_240 cf_fill hcf_fill _ a0 a1 a2 a3 a4 a5 a6 a7 a8) ) (FtR fs108)))
            (FS.none))
           (FS.ob h_s78 (fS_F_makeVariable _ _ _ _ _ ) (le_fs106_fs108) fun r149 s148 h_s148 =>
            FS.nmV fun v152 =>
            FS.call h_s148 (fS_L_makeMember_240 _ hcf_fill _ _ _ _ _ _ _ _ _ _) (FtR fs108)))
          (FS.none))
         (FS.none))
        (FS.none))
       (FS.some h_s36))
theorem fS_J_makeMember_236 (cf_fill : Int32 → Int32 → Int32 → TS → Option (Unit × TS)) (x1 : Int32) (x2 : Int32) (x3 : Int32) (x4 : Int32) (x5 : Int32) (x6 : Int32) (x7 : Int32) (y1 : Int32) (y2 : Int32) (σ : TS) (hcf_fill : ∀ (a0 : Int32) (a1 : Int32) (a2 : Int32) (a3 : TS), FS fs108 a3 (cf_fill a0 a1 a2 a3)) : FS fs108 σ (J_makeMember_236 cf_fill x1 x2 x3 x4 x5 x6 x7 y1 y2 σ) := by
  unfold J_makeMember_236
  exact FS.ite (FS.nmT (Ft.p_tsA (Ft.rf _ _) rfl) fun s35 h_s35 =>
     FS.obS h_s35 (fS_L_makeMember_240 _ hcf_fill _ _ _ _ _ _ _ _ _ _) (FtR fs108) (fun r161 s158 h_s158 => FS.some h_s158) fun q157 s158 h_s158 =>
     FS.some h_s158)
    (FS.none)
theorem fS_J_makeMember_197 (cf_fill : Int32 → Int32 → Int32 → TS → Option (Unit × TS)) (x1 : Int32) (x2 : Int32) (x3 : Int32) (x4 : Int32) (x5 : Int32) (x6 : Int32) (x7 : Int32) (σ : TS) (hcf_fill : ∀ (a0 : Int32) (a1 : Int32) (a2 : Int32) (a3 : TS), FS fs108 a3 (cf_fill a0 a1 a2 a3)) : FS fs108 σ (J_makeMember_197 cf_fill x1 x2 x3 x4 x5 x6 x7 σ) := by
  unfold J_makeMember_197
  exact FS.ob (Ft.rf _ _) (fS_F_isBad _ ) (le_fs0_fs108) fun r29 s28 h_s28 =>
    FS.ite (FS.ite (FS.nmT (Ft.p_tsA h_s28 rfl) fun s33 h_s33 =>
      FS.ite (FS.call h_s33 (fS_J_makeMember_236 _ _ _ _ _ _ _ _ _ _ _ hcf_fill ) (FtR fs108))
      (FS.call h_s33 (fS_J_makeMember_236 _ _ _ _ _ _ _ _ _ _ _ hcf_fill ) (FtR fs108)))
     (FS.none))
    (FS.some h_s28)
theorem fS_J_makeMember_168 (cf_fill : Int32 → Int32 → Int32 → TS → Option (Unit × TS)) (x1 : Int32) (x2 : Int32) (x3 : Int32) (x4 : Int32) (x5 : Int32) (x6 : Int32) (y0 : Int32) (σ : TS) (hcf_fill : ∀ (a0 : Int32) (a1 : Int32) (a2 : Int32) (a3 : TS), FS fs108 a3 (cf_fill a0 a1 a2 a3)) : FS fs108 σ (J_makeMember_168 cf_fill x1 x2 x3 x4 x5 x6 y0 σ) := by
  unfold J_makeMember_168
  exact FS.ite (FS.call (Ft.rf _ _) (fS_J_makeMember_197 _ _ _ _ _ _ _ _ _ hcf_fill ) (FtR fs108))
    (FS.ite (FS.ob (Ft.rf _ _) (fS_F_isMeant _ _ _ _ ) (le_fs0_fs108) fun r166 s165 h_s165 =>
      FS.ite (FS.call h_s165 (fS_J_makeMember_197 _ _ _ _ _ _ _ _ _ hcf_fill ) (FtR fs108))
      (FS.ob h_s165 (fS_F_bad _ _ _ ) (le_fs1_fs108) fun r170 s169 h_s169 =>
       FS.call h_s169 (fS_J_makeMember_197 _ _ _ _ _ _ _ _ _ hcf_fill ) (FtR fs108)))
     (FS.none))
theorem fS_J_makeMember_150 (cf_fill : Int32 → Int32 → Int32 → TS → Option (Unit × TS)) (x1 : Int32) (x2 : Int32) (x3 : Int32) (x4 : Int32) (x5 : Int32) (y0 : Int32) (σ : TS) (hcf_fill : ∀ (a0 : Int32) (a1 : Int32) (a2 : Int32) (a3 : TS), FS fs108 a3 (cf_fill a0 a1 a2 a3)) : FS fs108 σ (J_makeMember_150 cf_fill x1 x2 x3 x4 x5 y0 σ) := by
  unfold J_makeMember_150
  exact FS.ite (FS.ob (Ft.rf _ _) (fS_F_classFor _ _ _ _ ) (le_fs1_fs108) fun r25 s24 h_s24 =>
     FS.call h_s24 (fS_J_makeMember_168 _ _ _ _ _ _ _ _ _ hcf_fill ) (FtR fs108))
    (FS.call (Ft.rf _ _) (fS_J_makeMember_168 _ _ _ _ _ _ _ _ _ hcf_fill ) (FtR fs108))
theorem fS_J_makeMember_116 (cf_fill : Int32 → Int32 → Int32 → TS → Option (Unit × TS)) (x1 : Int32) (x2 : Int32) (x3 : Int32) (x4 : Int32) (y0 : Int32) (σ : TS) (hcf_fill : ∀ (a0 : Int32) (a1 : Int32) (a2 : Int32) (a3 : TS), FS fs108 a3 (cf_fill a0 a1 a2 a3)) : FS fs108 σ (J_makeMember_116 cf_fill x1 x2 x3 x4 y0 σ) := by
  unfold J_makeMember_116
  exact FS.ite (FS.ite (FS.ite (FS.ite (FS.call (Ft.rf _ _) (fS_J_makeMember_150 _ _ _ _ _ _ _ _ hcf_fill ) (FtR fs108))
       (FS.ite (FS.call (Ft.rf _ _) (fS_J_makeMember_150 _ _ _ _ _ _ _ _ hcf_fill ) (FtR fs108))
        (FS.none)))
      (FS.none))
     (FS.some (Ft.rf _ _)))
    (FS.none)
theorem fS_J_makeMember_47 (cf_fill : Int32 → Int32 → Int32 → TS → Option (Unit × TS)) (x1 : Int32) (x2 : Int32) (x3 : Int32) (x4 : Int32) (σ : TS) (hcf_fill : ∀ (a0 : Int32) (a1 : Int32) (a2 : Int32) (a3 : TS), FS fs108 a3 (cf_fill a0 a1 a2 a3)) : FS fs108 σ (J_makeMember_47 cf_fill x1 x2 x3 x4 σ) := by
  unfold J_makeMember_47
  exact FS.ite (FS.nmT (Ft.p_tsA (Ft.rf _ _) rfl) fun s8 h_s8 =>
     FS.ite (FS.ite (FS.nmT (Ft.p_tsA h_s8 rfl) fun s11 h_s11 =>
       FS.ite (FS.nmT (Ft.p_tsA h_s11 rfl) fun s13 h_s13 =>
        FS.ite (FS.nmT (Ft.p_tsA h_s13 rfl) fun s15 h_s15 =>
         FS.ite (FS.nmT (Ft.p_tsA h_s15 rfl) fun s17 h_s17 =>
          FS.ite (FS.nmT (Ft.p_tsA h_s17 rfl) fun s19 h_s19 =>
           FS.ite (FS.ite (FS.call h_s19 (fS_J_makeMember_116 _ _ _ _ _ _ _ hcf_fill ) (FtR fs108))
            (FS.call h_s19 (fS_J_makeMember_116 _ _ _ _ _ _ _ hcf_fill ) (FtR fs108)))
           (FS.none))
          (FS.none))
         (FS.none))
        (FS.none))
       (FS.none))
      (FS.none))
     (FS.none))
    (FS.none)
theorem fS_B_makeMember (cf_fill : Int32 → Int32 → Int32 → TS → Option (Unit × TS)) (x1 : Int32) (x2 : Int32) (x3 : Int32) (σ : TS) (hcf_fill : ∀ (a0 : Int32) (a1 : Int32) (a2 : Int32) (a3 : TS), FS fs108 a3 (cf_fill a0 a1 a2 a3)) : FS fs108 σ (B_makeMember cf_fill x1 x2 x3 σ) := by
  unfold B_makeMember
  exact FS.ite (FS.ob (Ft.rf _ _) (fS_F_memberOf _ _ _ ) (le_fs0_fs108) fun r3 s2 h_s2 =>
     FS.ite (FS.nmV fun v6 =>
      FS.ite (FS.call h_s2 (fS_J_makeMember_47 _ _ _ _ _ _ hcf_fill ) (FtR fs108))
      (FS.nmT (Ft.p_tsI h_s2 rfl) fun s179 h_s179 =>
       FS.call h_s179 (fS_J_makeMember_47 _ _ _ _ _ _ hcf_fill ) (FtR fs108)))
     (FS.ob h_s2 (fS_F_bad _ _ _ ) (le_fs1_fs108) fun r182 s181 h_s181 =>
      FS.some h_s181))
    (FS.none)
theorem fS_G_fill : ∀ d : Nat, (∀ (a0 : Int32) (a1 : Int32) (a2 : Int32) (a3 : TS), FS fs108 a3 ((G_fill d).1 a0 a1 a2 a3)) ∧ (∀ (a0 : Int32) (a1 : Int32) (a2 : Int32) (a3 : TS), FS fs108 a3 ((G_fill d).2 a0 a1 a2 a3)) := by
  intro d
  induction d with
  | zero => exact ⟨fun _ _ _ _ => FS.none, fun _ _ _ _ => FS.none⟩
  | succ d ih => exact ⟨fun a0 a1 a2 a3 => fS_B_fill _ _ a0 a1 a2 a3 (fun b0 b1 b2 b3 => ih.1 b0 b1 b2 b3) (fun b0 b1 b2 b3 => ih.2 b0 b1 b2 b3), fun a0 a1 a2 a3 => fS_B_makeMember _ a0 a1 a2 a3 (fun b0 b1 b2 b3 => ih.1 b0 b1 b2 b3)⟩
theorem fS_F_fill (a0 : Int32) (a1 : Int32) (a2 : Int32) (a3 : TS) : FS fs108 a3 (F_fill a0 a1 a2 a3) := (fS_G_fill 100).1 a0 a1 a2 a3
theorem fS_F_makeMember (a0 : Int32) (a1 : Int32) (a2 : Int32) (a3 : TS) : FS fs108 a3 (F_makeMember a0 a1 a2 a3) := (fS_G_fill 100).2 a0 a1 a2 a3
theorem fS_L_takeTape_10   : ∀ (n : Nat) (x1 : Int32) (σ : TS), FS fs109 σ (L_takeTape_10  n x1 σ)
  | 0, _, _ => FS.none
  | n + 1, x1, σ => by
    rw [L_takeTape_10]
    exact FS.ite (FS.some (Ft.rf _ _))
      (FS.ite (FS.ite (FS.nmT (Ft.p_tsA (Ft.rf _ _) rfl) fun s4 h_s4 =>
         FS.nmV fun v5 =>
         FS.call h_s4 (fS_L_takeTape_10  _ _ _) (FtR fs109))
        (FS.none))
       (FS.none))
theorem fS_F_takeTape (σ : TS)  : FS fs110 σ (F_takeTape σ) := by
  unfold F_takeTape
  exact FS.nmT (Ft.p_tsI (Ft.rf _ _) rfl) fun s1 h_s1 =>
    FS.ob h_s1 (fS_L_takeTape_10  _ _ _) (le_fs109_fs110) fun q7 s8 h_s8 =>
    FS.nmT (Ft.p_tsI h_s8 rfl) fun s10 h_s10 =>
    FS.some h_s10
theorem fS_F_letter (x1 : Int32) (σ : TS)  : FS fs111 σ (F_letter x1 σ) := by
  unfold F_letter
  exact FS.ite (FS.some (Ft.rf _ _))
    (FS.ite (FS.nmT (Ft.p_tsA (Ft.rf _ _) rfl) fun s2 h_s2 =>
      FS.nmT (Ft.p_tsI h_s2 rfl) fun s3 h_s3 =>
      FS.some h_s3)
     (FS.none))
theorem fS_L_printName_3   : ∀ (n : Nat) (x1 : Int64) (x3 : Int32) (σ : TS), FS fs111 σ (L_printName_3  n x1 x3 σ)
  | 0, _, _, _ => FS.none
  | n + 1, x1, x3, σ => by
    rw [L_printName_3]
    exact FS.ite (FS.some (Ft.rf _ _))
      (FS.ite (FS.nmV fun v1 =>
        FS.call (Ft.rf _ _) (fS_L_printName_3  _ _ _ _) (FtR fs111))
       (FS.ob (Ft.rf _ _) (fS_F_letter _ _ ) (FtR fs111) fun r3 s2 h_s2 =>
        FS.nmV fun v6 =>
        FS.call h_s2 (fS_L_printName_3  _ _ _ _) (FtR fs111)))
theorem fS_F_printName (x1 : Int64) (σ : TS)  : FS fs111 σ (F_printName x1 σ) := by
  unfold F_printName
  exact FS.ob (Ft.rf _ _) (fS_L_printName_3  _ _ _ _) (FtR fs111) fun q9 s10 h_s10 =>
    FS.some h_s10
theorem fS_L_printNumber_26   : ∀ (n : Nat) (x2 : Int64) (x4 : Int64) (σ : TS), FS fs0 σ (L_printNumber_26  n x2 x4 σ)
  | 0, _, _, _ => FS.none
  | n + 1, x2, x4, σ => by
    rw [L_printNumber_26]
    exact FS.ite (FS.ite (FS.some (Ft.rf _ _))
       (FS.nmV fun v2 =>
        FS.call (Ft.rf _ _) (fS_L_printNumber_26  _ _ _ _) (FtR fs0)))
      (FS.none)
theorem fS_L_printNumber_48   : ∀ (n : Nat) (x2 : Int64) (x4 : Int64) (σ : TS), FS fs111 σ (L_printNumber_48  n x2 x4 σ)
  | 0, _, _, _ => FS.none
  | n + 1, x2, x4, σ => by
    rw [L_printNumber_48]
    exact FS.ite (FS.some (Ft.rf _ _))
      (FS.ite (FS.ob (Ft.rf _ _) (fS_F_letter _ _ ) (FtR fs111) fun r9 s8 h_s8 =>
        FS.nmV fun v12 =>
        FS.call h_s8 (fS_L_printNumber_48  _ _ _ _) (FtR fs111))
       (FS.none))
theorem fS_J_printNumber_22 (y0 : Int64) (σ : TS)  : FS fs111 σ (J_printNumber_22 y0 σ) := by
  unfold J_printNumber_22
  exact FS.ob (Ft.rf _ _) (fS_L_printNumber_26  _ _ _ _) (le_fs0_fs111) fun q4 s5 h_s5 =>
    FS.ob h_s5 (fS_L_printNumber_48  _ _ _ _) (FtR fs111) fun q14 s15 h_s15 =>
    FS.some h_s15
theorem fS_J_printNumber_10 (x1 : Int32) (σ : TS)  : FS fs111 σ (J_printNumber_10 x1 σ) := by
  unfold J_printNumber_10
  exact FS.ite (FS.call (Ft.rf _ _) (fS_J_printNumber_22 _ _ ) (FtR fs111))
    (FS.call (Ft.rf _ _) (fS_J_printNumber_22 _ _ ) (FtR fs111))
theorem fS_F_printNumber (x1 : Int32) (σ : TS)  : FS fs111 σ (F_printNumber x1 σ) := by
  unfold F_printNumber
  exact FS.ite (FS.call (Ft.rf _ _) (fS_J_printNumber_10 _ _ ) (FtR fs111))
    (FS.ob (Ft.rf _ _) (fS_F_letter _ _ ) (FtR fs111) fun r21 s20 h_s20 =>
     FS.call h_s20 (fS_J_printNumber_10 _ _ ) (FtR fs111))
theorem fS_F_printIndex (x1 : Int32) (σ : TS)  : FS fs111 σ (F_printIndex x1 σ) := by
  unfold F_printIndex
  exact FS.ite (FS.some (Ft.rf _ _))
    (FS.ob (Ft.rf _ _) (fS_F_letter _ _ ) (FtR fs111) fun r2 s1 h_s1 =>
     FS.ob h_s1 (fS_F_printNumber _ _ ) (FtR fs111) fun r6 s5 h_s5 =>
     FS.ob h_s5 (fS_F_letter _ _ ) (FtR fs111) fun r10 s9 h_s9 =>
     FS.some h_s9)
theorem fS_J_printInstance_30 (cf_printInstance : Int32 → TS → Option (Unit × TS)) (x1 : Int32) (σ : TS) (hcf_printInstance : ∀ (a0 : Int32) (a1 : TS), FS fs111 a1 (cf_printInstance a0 a1)) : FS fs111 σ (J_printInstance_30 cf_printInstance x1 σ) := by
  unfold J_printInstance_30
  exact FS.ite (FS.ite (FS.ob (Ft.rf _ _) (fS_F_printName _ _ ) (FtR fs111) fun r10 s9 h_s9 =>
      FS.ite (FS.ob h_s9 (fS_F_printIndex _ _ ) (FtR fs111) fun r15 s14 h_s14 =>
       FS.some h_s14)
      (FS.none))
     (FS.none))
    (FS.none)
theorem fS_B_printInstance (cf_printInstance : Int32 → TS → Option (Unit × TS)) (x1 : Int32) (σ : TS) (hcf_printInstance : ∀ (a0 : Int32) (a1 : TS), FS fs111 a1 (cf_printInstance a0 a1)) : FS fs111 σ (B_printInstance cf_printInstance x1 σ) := by
  unfold B_printInstance
  exact FS.ite (FS.some (Ft.rf _ _))
    (FS.ite (FS.ob (Ft.rf _ _) (hcf_printInstance _ _) (FtR fs111) fun r3 s2 h_s2 =>
      FS.ite (FS.ite (FS.call h_s2 (fS_J_printInstance_30 _ _ _ hcf_printInstance ) (FtR fs111))
       (FS.ob h_s2 (fS_F_letter _ _ ) (FtR fs111) fun r19 s18 h_s18 =>
        FS.call h_s18 (fS_J_printInstance_30 _ _ _ hcf_printInstance ) (FtR fs111)))
      (FS.none))
     (FS.none))
theorem fS_G_printInstance : ∀ d : Nat, (∀ (a0 : Int32) (a1 : TS), FS fs111 a1 ((G_printInstance d) a0 a1)) := by
  intro d
  induction d with
  | zero => exact fun _ _ => FS.none
  | succ d ih => exact fun a0 a1 => fS_B_printInstance _ a0 a1 (fun b0 b1 => ih b0 b1)
theorem fS_F_printInstance (a0 : Int32) (a1 : TS) : FS fs111 a1 (F_printInstance a0 a1) := (fS_G_printInstance 300) a0 a1
theorem fS_J_printVariable_25 (x1 : Int32) (σ : TS)  : FS fs111 σ (J_printVariable_25 x1 σ) := by
  unfold J_printVariable_25
  exact FS.ite (FS.ite (FS.ob (Ft.rf _ _) (fS_F_printName _ _ ) (FtR fs111) fun r10 s9 h_s9 =>
      FS.ite (FS.ob h_s9 (fS_F_printIndex _ _ ) (FtR fs111) fun r15 s14 h_s14 =>
       FS.some h_s14)
      (FS.none))
     (FS.none))
    (FS.none)
theorem fS_F_printVariable (x1 : Int32) (σ : TS)  : FS fs111 σ (F_printVariable x1 σ) := by
  unfold F_printVariable
  exact FS.ite (FS.ob (Ft.rf _ _) (fS_F_printInstance  _ _) (FtR fs111) fun r3 s2 h_s2 =>
     FS.ite (FS.ite (FS.call h_s2 (fS_J_printVariable_25 _ _ ) (FtR fs111))
      (FS.ob h_s2 (fS_F_letter _ _ ) (FtR fs111) fun r19 s18 h_s18 =>
       FS.call h_s18 (fS_J_printVariable_25 _ _ ) (FtR fs111)))
     (FS.none))
    (FS.none)
theorem fS_L_letters_15   : ∀ (n : Nat) (x1 : Int32) (x2 : Int32) (x4 : Int32) (σ : TS), FS fs112 σ (L_letters_15  n x1 x2 x4 σ)
  | 0, _, _, _, _ => FS.none
  | n + 1, x1, x2, x4, σ => by
    rw [L_letters_15]
    exact FS.ite (FS.some (Ft.rf _ _))
      (FS.ite (FS.some (Ft.rf _ _))
       (FS.ite (FS.ite (FS.nmT (Ft.p_tsA (Ft.rf _ _) rfl) fun s5 h_s5 =>
          FS.nmV fun v6 =>
          FS.call h_s5 (fS_L_letters_15  _ _ _ _ _) (FtR fs112))
         (FS.none))
        (FS.none)))
theorem fS_L_letters_67   : ∀ (n : Nat) (x2 : Int32) (x3 : Int32) (x4 : Int32) (σ : TS), FS fs113 σ (L_letters_67  n x2 x3 x4 σ)
  | 0, _, _, _, _ => FS.none
  | n + 1, x2, x3, x4, σ => by
    rw [L_letters_67]
    exact FS.ite (FS.some (Ft.rf _ _))
      (FS.ite (FS.ite (FS.nmT (Ft.p_tsA (Ft.rf _ _) rfl) fun s20 h_s20 =>
         FS.nmV fun v21 =>
         FS.call h_s20 (fS_L_letters_67  _ _ _ _ _) (FtR fs113))
        (FS.none))
       (FS.none))
theorem fS_L_letters_101   : ∀ (n : Nat) (x2 : Int32) (x3 : Int32) (x4 : Int32) (σ : TS), FS fs114 σ (L_letters_101  n x2 x3 x4 σ)
  | 0, _, _, _, _ => FS.none
  | n + 1, x2, x3, x4, σ => by
    rw [L_letters_101]
    exact FS.ite (FS.some (Ft.rf _ _))
      (FS.ite (FS.ite (FS.nmT (Ft.p_tsA (Ft.rf _ _) rfl) fun s29 h_s29 =>
         FS.nmV fun v30 =>
         FS.call h_s29 (fS_L_letters_101  _ _ _ _ _) (FtR fs114))
        (FS.none))
       (FS.none))
theorem fS_J_letters_49 (x1 : Int32) (x2 : Int32) (σ : TS)  : FS fs115 σ (J_letters_49 x1 x2 σ) := by
  unfold J_letters_49
  exact FS.nmT (Ft.p_tsI (Ft.rf _ _) rfl) fun s12 h_s12 =>
    FS.ob h_s12 (fS_F_printVariable _ _ ) (le_fs111_fs115) fun r14 s13 h_s13 =>
    FS.nmV fun v17 =>
    FS.ob h_s13 (fS_L_letters_67  _ _ _ _ _) (le_fs113_fs115) fun q23 s24 h_s24 =>
    FS.nmT (Ft.p_tsI h_s24 rfl) fun s26 h_s26 =>
    FS.ob h_s26 (fS_L_letters_101  _ _ _ _ _) (le_fs114_fs115) fun q32 s33 h_s33 =>
    FS.some h_s33
theorem fS_F_letters (x1 : Int32) (σ : TS)  : FS fs116 σ (F_letters x1 σ) := by
  unfold F_letters
  exact FS.nmV fun v1 =>
    FS.nmT (Ft.p_tsI (Ft.rf _ _) rfl) fun s2 h_s2 =>
    FS.ob h_s2 (fS_L_letters_15  _ _ _ _ _) (le_fs112_fs116) fun q9 s10 h_s10 =>
    FS.call h_s10 (fS_J_letters_49 _ _ _ ) (le_fs115_fs116)
theorem fS_L_find_43   : ∀ (n : Nat) (x1 : Int32) (x2 : Int32) (x3 : Int32) (σ : TS), FS fs0 σ (L_find_43  n x1 x2 x3 σ)
  | 0, _, _, _, _ => FS.none
  | n + 1, x1, x2, x3, σ => by
    rw [L_find_43]
    exact FS.ite (FS.some (Ft.rf _ _))
      (FS.ite (FS.nmV fun v10 =>
        FS.call (Ft.rf _ _) (fS_L_find_43  _ _ _ _ _) (FtR fs0))
       (FS.ite (FS.ite (FS.ite (FS.nmV fun v14 =>
           FS.call (Ft.rf _ _) (fS_L_find_43  _ _ _ _ _) (FtR fs0))
          (FS.nmV fun v13 =>
           FS.call (Ft.rf _ _) (fS_L_find_43  _ _ _ _ _) (FtR fs0)))
         (FS.none))
        (FS.none)))
theorem fS_L_find_16   : ∀ (n : Nat) (x1 : Int32) (σ : TS), FS fs116 σ (L_find_16  n x1 σ)
  | 0, _, _ => FS.none
  | n + 1, x1, σ => by
    rw [L_find_16]
    exact FS.ite (FS.some (Ft.rf _ _))
      (FS.ob (Ft.rf _ _) (fS_F_letters _ _ ) (FtR fs116) fun r7 s6 h_s6 =>
       FS.ite (FS.ob h_s6 (fS_L_find_43  _ _ _ _ _) (le_fs0_fs116) fun q18 s19 h_s19 =>
        FS.ite (FS.nmV fun v22 =>
         FS.call h_s19 (fS_L_find_16  _ _ _) (FtR fs116))
        (FS.some h_s19))
       (FS.nmV fun v25 =>
        FS.call h_s6 (fS_L_find_16  _ _ _) (FtR fs116)))
theorem fS_F_find (σ : TS)  : FS fs117 σ (F_find σ) := by
  unfold F_find
  exact FS.ob (Ft.rf _ _) (fS_F_takeTape _ ) (le_fs110_fs117) fun r2 s1 h_s1 =>
    FS.ite (FS.some h_s1)
    (FS.obS h_s1 (fS_L_find_16  _ _ _) (le_fs116_fs117) (fun r32 s29 h_s29 => FS.some h_s29) fun q28 s29 h_s29 =>
     FS.some h_s29)
theorem fS_L_theClass_23   : ∀ (n : Nat) (x1 : Int64) (x3 : Int32) (σ : TS), FS fs0 σ (L_theClass_23  n x1 x3 σ)
  | 0, _, _, _ => FS.none
  | n + 1, x1, x3, σ => by
    rw [L_theClass_23]
    exact FS.ite (FS.some (Ft.rf _ _))
      (FS.ob (Ft.rf _ _) (fS_F_byteAt _ _ ) (FtR fs0) fun r2 s1 h_s1 =>
       FS.ob h_s1 (fS_F_isLetter _ _ ) (FtR fs0) fun r6 s5 h_s5 =>
       FS.ite (FS.ite (FS.some h_s5)
        (FS.ob h_s5 (fS_F_isDigit _ _ ) (FtR fs0) fun r12 s11 h_s11 =>
         FS.ite (FS.ite (FS.nmV fun v17 =>
           FS.nmV fun v18 =>
           FS.call h_s11 (fS_L_theClass_23  _ _ _ _) (FtR fs0))
          (FS.some h_s11))
         (FS.nmV fun v15 =>
          FS.nmV fun v16 =>
          FS.call h_s11 (fS_L_theClass_23  _ _ _ _) (FtR fs0))))
       (FS.nmV fun v9 =>
        FS.nmV fun v10 =>
        FS.call h_s5 (fS_L_theClass_23  _ _ _ _) (FtR fs0)))
theorem fS_F_theClass (σ : TS)  : FS fs0 σ (F_theClass σ) := by
  unfold F_theClass
  exact FS.ite (FS.some (Ft.rf _ _))
    (FS.ite (FS.obS (Ft.rf _ _) (fS_L_theClass_23  _ _ _ _) (FtR fs0) (fun r35 s25 h_s25 => FS.some h_s25) fun q24 s25 h_s25 =>
      FS.ob h_s25 (fS_F_classOf _ _ ) (FtR fs0) fun r28 s27 h_s27 =>
      FS.ite (FS.some h_s27)
      (FS.ite (FS.ite (FS.some h_s27)
        (FS.some h_s27))
       (FS.none)))
     (FS.some (Ft.rf _ _)))
theorem fS_J_numberIn_85_38 (cf_numberIn : Int32 → TS → Option (Unit × TS)) (rec : Int32 → Int32 → TS → Option (Int32 × TS)) (x3 : Int32) (x4 : Int32) (σ : TS) (hcf_numberIn : ∀ (a0 : Int32) (a1 : TS), FS fs118 a1 (cf_numberIn a0 a1)) (hrec : ∀ (a0 : Int32) (a1 : Int32) (a2 : TS), FS fs118 a2 (rec a0 a1 a2)) : FS fs118 σ (J_numberIn_85_38 cf_numberIn rec x3 x4 σ) := by
  unfold J_numberIn_85_38
  exact FS.ite (FS.nmT (Ft.p_tsA (Ft.rf _ _) rfl) fun s6 h_s6 =>
     FS.nmT (Ft.p_tsI h_s6 rfl) fun s7 h_s7 =>
     FS.ite (FS.nmV fun v9 =>
      FS.call h_s7 (hrec _ _ _) (FtR fs118))
     (FS.none))
    (FS.none)
theorem fS_L_numberIn_38 (cf_numberIn : Int32 → TS → Option (Unit × TS)) (hcf_numberIn : ∀ (a0 : Int32) (a1 : TS), FS fs118 a1 (cf_numberIn a0 a1)) : ∀ (n : Nat) (x3 : Int32) (x4 : Int32) (σ : TS), FS fs118 σ (L_numberIn_38 cf_numberIn n x3 x4 σ)
  | 0, _, _, _ => FS.none
  | n + 1, x3, x4, σ => by
    rw [L_numberIn_38]
    exact FS.ite (FS.ite (FS.call (Ft.rf _ _) (fS_J_numberIn_85_38 _ _ _ _ _ hcf_numberIn (fun a0 a1 a2 => fS_L_numberIn_38 cf_numberIn hcf_numberIn _ a0 a1 a2) ) (FtR fs118))
       (FS.ite (FS.ite (FS.call (Ft.rf _ _) (fS_J_numberIn_85_38 _ _ _ _ _ hcf_numberIn (fun a0 a1 a2 => fS_L_numberIn_38 cf_numberIn hcf_numberIn _ a0 a1 a2) ) (FtR fs118))
         (FS.ite (FS.ite (FS.call (Ft.rf _ _) (fS_J_numberIn_85_38 _ _ _ _ _ hcf_numberIn (fun a0 a1 a2 => fS_L_numberIn_38 cf_numberIn hcf_numberIn _ a0 a1 a2) ) (FtR fs118))
           (FS.ite (FS.ite (FS.call (Ft.rf _ _) (fS_J_numberIn_85_38 _ _ _ _ _ hcf_numberIn (fun a0 a1 a2 => fS_L_numberIn_38 cf_numberIn hcf_numberIn _ a0 a1 a2) ) (FtR fs118))
             (FS.some (Ft.rf _ _)))
            (FS.none)))
          (FS.none)))
        (FS.none)))
      (FS.none)
theorem fS_L_numberIn_124 (cf_numberIn : Int32 → TS → Option (Unit × TS)) (hcf_numberIn : ∀ (a0 : Int32) (a1 : TS), FS fs118 a1 (cf_numberIn a0 a1)) : ∀ (n : Nat) (x3 : Int32) (σ : TS), FS fs118 σ (L_numberIn_124 cf_numberIn n x3 σ)
  | 0, _, _ => FS.none
  | n + 1, x3, σ => by
    rw [L_numberIn_124]
    exact FS.ite (FS.some (Ft.rf _ _))
      (FS.nmT (Ft.p_tsI (Ft.rf _ _) rfl) fun s24 h_s24 =>
       FS.ite (FS.ite (FS.ob h_s24 (hcf_numberIn _ _) (FtR fs118) fun r28 s27 h_s27 =>
         FS.call h_s27 (fS_L_numberIn_124 _ hcf_numberIn _ _ _) (FtR fs118))
        (FS.none))
       (FS.none))
theorem fS_J_numberIn_30 (cf_numberIn : Int32 → TS → Option (Unit × TS)) (x1 : Int32) (σ : TS) (hcf_numberIn : ∀ (a0 : Int32) (a1 : TS), FS fs118 a1 (cf_numberIn a0 a1)) : FS fs118 σ (J_numberIn_30 cf_numberIn x1 σ) := by
  unfold J_numberIn_30
  exact FS.nmV fun v3 =>
    FS.ob (Ft.rf _ _) (fS_L_numberIn_38 _ hcf_numberIn _ _ _ _) (FtR fs118) fun q17 s18 h_s18 =>
    FS.ob h_s18 (hcf_numberIn _ _) (FtR fs118) fun r21 s20 h_s20 =>
    FS.ob h_s20 (fS_L_numberIn_124 _ hcf_numberIn _ _ _) (FtR fs118) fun q32 s33 h_s33 =>
    FS.some h_s33
theorem fS_J_numberIn_339 (cf_numberIn : Int32 → TS → Option (Unit × TS)) (x1 : Int32) (σ : TS) (hcf_numberIn : ∀ (a0 : Int32) (a1 : TS), FS fs118 a1 (cf_numberIn a0 a1)) : FS fs118 σ (J_numberIn_339 cf_numberIn x1 σ) := by
  unfold J_numberIn_339
  exact FS.ite (FS.ob (Ft.rf _ _) (fS_F_bad _ _ _ ) (le_fs1_fs118) fun r98 s97 h_s97 =>
     FS.some h_s97)
    (FS.ite (FS.nmT (Ft.p_tsA (Ft.rf _ _) rfl) fun s93 h_s93 =>
      FS.ite (FS.nmT (Ft.p_tsA h_s93 rfl) fun s95 h_s95 =>
       FS.nmT (Ft.p_tsI h_s95 rfl) fun s96 h_s96 =>
       FS.some h_s96)
      (FS.none))
     (FS.none))
theorem fS_J_numberIn_313 (cf_numberIn : Int32 → TS → Option (Unit × TS)) (x1 : Int32) (x2 : Int32) (σ : TS) (hcf_numberIn : ∀ (a0 : Int32) (a1 : TS), FS fs118 a1 (cf_numberIn a0 a1)) : FS fs118 σ (J_numberIn_313 cf_numberIn x1 x2 σ) := by
  unfold J_numberIn_313
  exact FS.ite (FS.ite (FS.ob (Ft.rf _ _) (hcf_numberIn _ _) (FtR fs118) fun r104 s103 h_s103 =>
      FS.ite (FS.ob h_s103 (hcf_numberIn _ _) (FtR fs118) fun r109 s108 h_s108 =>
       FS.call h_s108 (fS_J_numberIn_339 _ _ _ hcf_numberIn ) (FtR fs118))
      (FS.none))
     (FS.none))
    (FS.call (Ft.rf _ _) (fS_J_numberIn_339 _ _ _ hcf_numberIn ) (FtR fs118))
theorem fS_B_numberIn (cf_numberIn : Int32 → TS → Option (Unit × TS)) (x1 : Int32) (σ : TS) (hcf_numberIn : ∀ (a0 : Int32) (a1 : TS), FS fs118 a1 (cf_numberIn a0 a1)) : FS fs118 σ (B_numberIn cf_numberIn x1 σ) := by
  unfold B_numberIn
  exact FS.ite (FS.nmV fun v2 =>
     FS.ite (FS.call (Ft.rf _ _) (fS_J_numberIn_30 _ _ _ hcf_numberIn ) (FtR fs118))
     (FS.ite (FS.call (Ft.rf _ _) (fS_J_numberIn_30 _ _ _ hcf_numberIn ) (FtR fs118))
      (FS.ite (FS.call (Ft.rf _ _) (fS_J_numberIn_30 _ _ _ hcf_numberIn ) (FtR fs118))
       (FS.ite (FS.call (Ft.rf _ _) (fS_J_numberIn_30 _ _ _ hcf_numberIn ) (FtR fs118))
        (FS.ite (FS.ite (FS.ob (Ft.rf _ _) (hcf_numberIn _ _) (FtR fs118) fun r39 s38 h_s38 =>
           FS.ite (FS.ob h_s38 (hcf_numberIn _ _) (FtR fs118) fun r44 s43 h_s43 =>
            FS.some h_s43)
           (FS.none))
          (FS.none))
         (FS.ite (FS.ite (FS.ob (Ft.rf _ _) (hcf_numberIn _ _) (FtR fs118) fun r49 s48 h_s48 =>
            FS.ite (FS.ob h_s48 (hcf_numberIn _ _) (FtR fs118) fun r54 s53 h_s53 =>
             FS.some h_s53)
            (FS.none))
           (FS.none))
          (FS.ite (FS.ite (FS.ob (Ft.rf _ _) (hcf_numberIn _ _) (FtR fs118) fun r59 s58 h_s58 =>
             FS.ite (FS.ob h_s58 (hcf_numberIn _ _) (FtR fs118) fun r64 s63 h_s63 =>
              FS.some h_s63)
             (FS.none))
            (FS.none))
           (FS.ite (FS.ite (FS.ob (Ft.rf _ _) (hcf_numberIn _ _) (FtR fs118) fun r144 s143 h_s143 =>
              FS.ite (FS.ob h_s143 (hcf_numberIn _ _) (FtR fs118) fun r149 s148 h_s148 =>
               FS.some h_s148)
              (FS.none))
             (FS.none))
            (FS.ite (FS.ite (FS.ob (Ft.rf _ _) (hcf_numberIn _ _) (FtR fs118) fun r69 s68 h_s68 =>
               FS.some h_s68)
              (FS.none))
             (FS.ite (FS.ite (FS.ob (Ft.rf _ _) (hcf_numberIn _ _) (FtR fs118) fun r74 s73 h_s73 =>
                FS.some h_s73)
               (FS.none))
              (FS.ite (FS.ite (FS.ob (Ft.rf _ _) (hcf_numberIn _ _) (FtR fs118) fun r79 s78 h_s78 =>
                 FS.some h_s78)
                (FS.none))
               (FS.ite (FS.ite (FS.ob (Ft.rf _ _) (hcf_numberIn _ _) (FtR fs118) fun r84 s83 h_s83 =>
                  FS.some h_s83)
                 (FS.none))
                (FS.ite (FS.ite (FS.ob (Ft.rf _ _) (hcf_numberIn _ _) (FtR fs118) fun r89 s88 h_s88 =>
                   FS.some h_s88)
                  (FS.none))
                 (FS.ite (FS.ite (FS.ob (Ft.rf _ _) (hcf_numberIn _ _) (FtR fs118) fun r133 s132 h_s132 =>
                    FS.some h_s132)
                   (FS.none))
                  (FS.ite (FS.ite (FS.ob (Ft.rf _ _) (hcf_numberIn _ _) (FtR fs118) fun r117 s116 h_s116 =>
                     FS.ite (FS.ob h_s116 (hcf_numberIn _ _) (FtR fs118) fun r122 s121 h_s121 =>
                      FS.ite (FS.ob h_s121 (hcf_numberIn _ _) (FtR fs118) fun r127 s126 h_s126 =>
                       FS.some h_s126)
                      (FS.none))
                     (FS.none))
                    (FS.none))
                   (FS.ite (FS.call (Ft.rf _ _) (fS_J_numberIn_313 _ _ _ _ hcf_numberIn ) (FtR fs118))
                    (FS.ite (FS.call (Ft.rf _ _) (fS_J_numberIn_313 _ _ _ _ hcf_numberIn ) (FtR fs118))
                     (FS.some (Ft.rf _ _)))))))))))))))))))
    (FS.none)
theorem fS_G_numberIn : ∀ d : Nat, (∀ (a0 : Int32) (a1 : TS), FS fs118 a1 ((G_numberIn d) a0 a1)) := by
  intro d
  induction d with
  | zero => exact fun _ _ => FS.none
  | succ d ih => exact fun a0 a1 => fS_B_numberIn _ a0 a1 (fun b0 b1 => ih b0 b1)
theorem fS_F_numberIn (a0 : Int32) (a1 : TS) : FS fs118 a1 (F_numberIn a0 a1) := (fS_G_numberIn 300) a0 a1
theorem fS_L_numberAll_2   : ∀ (n : Nat) (x1 : Int32) (σ : TS), FS fs118 σ (L_numberAll_2  n x1 σ)
  | 0, _, _ => FS.none
  | n + 1, x1, σ => by
    rw [L_numberAll_2]
    exact FS.ite (FS.some (Ft.rf _ _))
      (FS.ob (Ft.rf _ _) (fS_F_isBad _ ) (le_fs0_fs118) fun r2 s1 h_s1 =>
       FS.ite (FS.ite (FS.ob h_s1 (fS_F_numberIn  _ _) (FtR fs118) fun r7 s6 h_s6 =>
         FS.ite (FS.ob h_s6 (fS_F_numberIn  _ _) (FtR fs118) fun r12 s11 h_s11 =>
          FS.nmV fun v15 =>
          FS.call h_s11 (fS_L_numberAll_2  _ _ _) (FtR fs118))
         (FS.none))
        (FS.none))
       (FS.some h_s1))
theorem fS_L_numberAll_77   : ∀ (n : Nat) (x1 : Int32) (x2 : Int32) (σ : TS), FS fs118 σ (L_numberAll_77  n x1 x2 σ)
  | 0, _, _, _ => FS.none
  | n + 1, x1, x2, σ => by
    rw [L_numberAll_77]
    exact FS.ite (FS.ite (FS.ite (FS.some (Ft.rf _ _))
        (FS.ite (FS.ob (Ft.rf _ _) (fS_F_numberIn  _ _) (FtR fs118) fun r36 s35 h_s35 =>
          FS.nmV fun v39 =>
          FS.call h_s35 (fS_L_numberAll_77  _ _ _ _) (FtR fs118))
         (FS.none)))
       (FS.none))
      (FS.none)
theorem fS_L_numberAll_45   : ∀ (n : Nat) (x1 : Int32) (σ : TS), FS fs118 σ (L_numberAll_45  n x1 σ)
  | 0, _, _ => FS.none
  | n + 1, x1, σ => by
    rw [L_numberAll_45]
    exact FS.ite (FS.some (Ft.rf _ _))
      (FS.ob (Ft.rf _ _) (fS_F_isBad _ ) (le_fs0_fs118) fun r22 s21 h_s21 =>
       FS.ite (FS.ite (FS.ob h_s21 (fS_F_numberIn  _ _) (FtR fs118) fun r27 s26 h_s26 =>
         FS.ite (FS.nmV fun v31 =>
          FS.ob h_s26 (fS_L_numberAll_77  _ _ _ _) (FtR fs118) fun q41 s42 h_s42 =>
          FS.nmV fun v44 =>
          FS.call h_s42 (fS_L_numberAll_45  _ _ _) (FtR fs118))
         (FS.none))
        (FS.none))
       (FS.some h_s21))
theorem fS_J_numberAll_43 (σ : TS)  : FS fs118 σ (J_numberAll_43 σ) := by
  unfold J_numberAll_43
  exact FS.ob (Ft.rf _ _) (fS_L_numberAll_45  _ _ _) (FtR fs118) fun q48 s49 h_s49 =>
    FS.some h_s49
theorem fS_F_numberAll (σ : TS)  : FS fs118 σ (F_numberAll σ) := by
  unfold F_numberAll
  exact FS.ob (Ft.rf _ _) (fS_L_numberAll_2  _ _ _) (FtR fs118) fun q18 s19 h_s19 =>
    FS.call h_s19 (fS_J_numberAll_43 _ ) (FtR fs118)
theorem fS_F_startOf (x1 : Int32) (σ : TS)  : FS fs119 σ (F_startOf x1 σ) := by
  unfold F_startOf
  exact FS.ite (FS.ite (FS.ite (FS.nmT (Ft.p_tsA (Ft.rf _ _) rfl) fun s10 h_s10 =>
       FS.some h_s10)
      (FS.none))
     (FS.ite (FS.ob (Ft.rf _ _) (fS_F_worth  _ _ _) (le_fs2_fs119) fun r4 s3 h_s3 =>
       FS.ite (FS.nmT (Ft.p_tsA h_s3 rfl) fun s8 h_s8 =>
        FS.some h_s8)
       (FS.none))
      (FS.none)))
    (FS.none)
theorem fS_L_makeFlat_158   : ∀ (n : Nat) (x2 : Int32) (σ : TS), FS fs1 σ (L_makeFlat_158  n x2 σ)
  | 0, _, _ => FS.none
  | n + 1, x2, σ => by
    rw [L_makeFlat_158]
    exact FS.ite (FS.some (Ft.rf _ _))
      (FS.ob (Ft.rf _ _) (fS_F_isBad _ ) (le_fs0_fs1) fun r40 s39 h_s39 =>
       FS.ite (FS.ite (FS.ite (FS.ite (FS.nmV fun v45 =>
           FS.call h_s39 (fS_L_makeFlat_158  _ _ _) (FtR fs1))
          (FS.ob h_s39 (fS_F_innerOf _ _ ) (FtR fs1) fun r47 s46 h_s46 =>
           FS.nmV fun v50 =>
           FS.call h_s46 (fS_L_makeFlat_158  _ _ _) (FtR fs1)))
         (FS.none))
        (FS.none))
       (FS.some h_s39))
theorem fS_L_makeFlat_204   : ∀ (n : Nat) (x2 : Int32) (σ : TS), FS fs120 σ (L_makeFlat_204  n x2 σ)
  | 0, _, _ => FS.none
  | n + 1, x2, σ => by
    rw [L_makeFlat_204]
    exact FS.ite (FS.some (Ft.rf _ _))
      (FS.ite (FS.nmT (Ft.p_tsA (Ft.rf _ _) rfl) fun s58 h_s58 =>
        FS.nmV fun v59 =>
        FS.call h_s58 (fS_L_makeFlat_204  _ _ _) (FtR fs120))
       (FS.none))
theorem fS_L_makeFlat_226   : ∀ (n : Nat) (x2 : Int32) (σ : TS), FS fs121 σ (L_makeFlat_226  n x2 σ)
  | 0, _, _ => FS.none
  | n + 1, x2, σ => by
    rw [L_makeFlat_226]
    exact FS.ite (FS.some (Ft.rf _ _))
      (FS.ite (FS.nmT (Ft.p_tsA (Ft.rf _ _) rfl) fun s65 h_s65 =>
        FS.ite (FS.nmT (Ft.p_tsA h_s65 rfl) fun s67 h_s67 =>
         FS.ite (FS.nmT (Ft.p_tsA h_s67 rfl) fun s69 h_s69 =>
          FS.ite (FS.nmT (Ft.p_tsA h_s69 rfl) fun s71 h_s71 =>
           FS.nmV fun v72 =>
           FS.call h_s71 (fS_L_makeFlat_226  _ _ _) (FtR fs121))
          (FS.none))
         (FS.none))
        (FS.none))
       (FS.none))
theorem fS_L_makeFlat_280   : ∀ (n : Nat) (x2 : Int32) (σ : TS), FS fs122 σ (L_makeFlat_280  n x2 σ)
  | 0, _, _ => FS.none
  | n + 1, x2, σ => by
    rw [L_makeFlat_280]
    exact FS.ite (FS.some (Ft.rf _ _))
      (FS.ob (Ft.rf _ _) (fS_F_isBad _ ) (le_fs0_fs122) fun r80 s79 h_s79 =>
       FS.ite (FS.ite (FS.ite (FS.ite (FS.ite (FS.nmV fun v86 =>
            FS.call h_s79 (fS_L_makeFlat_280  _ _ _) (FtR fs122))
           (FS.ite (FS.ite (FS.ob h_s79 (fS_F_build  _ _ _ _ _) (le_fs38_fs122) fun r90 s89 h_s89 =>
              FS.ite (FS.nmT (Ft.p_tsA h_s89 rfl) fun s94 h_s94 =>
               FS.nmV fun v95 =>
               FS.call h_s94 (fS_L_makeFlat_280  _ _ _) (FtR fs122))
              (FS.none))
             (FS.none))
            (FS.none)))
          (FS.none))
         (FS.nmV fun v84 =>
          FS.call h_s79 (fS_L_makeFlat_280  _ _ _) (FtR fs122)))
        (FS.none))
       (FS.some h_s79))
theorem fS_L_makeFlat_351   : ∀ (n : Nat) (x2 : Int32) (σ : TS), FS fs2 σ (L_makeFlat_351  n x2 σ)
  | 0, _, _ => FS.none
  | n + 1, x2, σ => by
    rw [L_makeFlat_351]
    exact FS.ite (FS.some (Ft.rf _ _))
      (FS.ob (Ft.rf _ _) (fS_F_isBad _ ) (le_fs0_fs2) fun r105 s104 h_s104 =>
       FS.ite (FS.ite (FS.ite (FS.ob h_s104 (fS_F_parameter  _ _) (FtR fs2) fun r111 s110 h_s110 =>
          FS.nmV fun v114 =>
          FS.call h_s110 (fS_L_makeFlat_351  _ _ _) (FtR fs2))
         (FS.nmV fun v109 =>
          FS.call h_s104 (fS_L_makeFlat_351  _ _ _) (FtR fs2)))
        (FS.none))
       (FS.some h_s104))
theorem fS_L_makeFlat_389   : ∀ (n : Nat) (x2 : Int32) (σ : TS), FS fs123 σ (L_makeFlat_389  n x2 σ)
  | 0, _, _ => FS.none
  | n + 1, x2, σ => by
    rw [L_makeFlat_389]
    exact FS.ite (FS.some (Ft.rf _ _))
      (FS.ob (Ft.rf _ _) (fS_F_isBad _ ) (le_fs0_fs123) fun r122 s121 h_s121 =>
       FS.ite (FS.ite (FS.ite (FS.nmV fun v126 =>
          FS.call h_s121 (fS_L_makeFlat_389  _ _ _) (FtR fs123))
         (FS.ite (FS.ite (FS.nmV fun v143 =>
            FS.call h_s121 (fS_L_makeFlat_389  _ _ _) (FtR fs123))
           (FS.ob h_s121 (fS_F_make _ _ _ _ _ ) (le_fs36_fs123) fun r129 s128 h_s128 =>
            FS.ite (FS.ite (FS.ob h_s128 (fS_F_build  _ _ _ _ _) (le_fs38_fs123) fun r135 s134 h_s134 =>
              FS.ob h_s134 (fS_F_addEquation _ _ _ ) (le_fs4_fs123) fun r139 s138 h_s138 =>
              FS.nmV fun v142 =>
              FS.call h_s138 (fS_L_makeFlat_389  _ _ _) (FtR fs123))
             (FS.none))
            (FS.none)))
          (FS.none)))
        (FS.none))
       (FS.some h_s121))
theorem fS_L_makeFlat_524   : ∀ (n : Nat) (x2 : Int32) (σ : TS), FS fs124 σ (L_makeFlat_524  n x2 σ)
  | 0, _, _ => FS.none
  | n + 1, x2, σ => by
    rw [L_makeFlat_524]
    exact FS.ite (FS.some (Ft.rf _ _))
      (FS.ob (Ft.rf _ _) (fS_F_isBad _ ) (le_fs0_fs124) fun r170 s169 h_s169 =>
       FS.ite (FS.ite (FS.ite (FS.nmV fun v174 =>
          FS.call h_s169 (fS_L_makeFlat_524  _ _ _) (FtR fs124))
         (FS.ite (FS.ite (FS.ob h_s169 (fS_F_build  _ _ _ _ _) (le_fs38_fs124) fun r178 s177 h_s177 =>
            FS.ite (FS.nmT (Ft.p_tsA h_s177 rfl) fun s182 h_s182 =>
             FS.nmV fun v183 =>
             FS.call h_s182 (fS_L_makeFlat_524  _ _ _) (FtR fs124))
            (FS.none))
           (FS.none))
          (FS.none)))
        (FS.none))
       (FS.some h_s169))
theorem fS_L_makeFlat_585   : ∀ (n : Nat) (x2 : Int32) (σ : TS), FS fs119 σ (L_makeFlat_585  n x2 σ)
  | 0, _, _ => FS.none
  | n + 1, x2, σ => by
    rw [L_makeFlat_585]
    exact FS.ite (FS.some (Ft.rf _ _))
      (FS.ob (Ft.rf _ _) (fS_F_isBad _ ) (le_fs0_fs119) fun r192 s191 h_s191 =>
       FS.ite (FS.ob h_s191 (fS_F_startOf _ _ ) (FtR fs119) fun r196 s195 h_s195 =>
        FS.nmV fun v199 =>
        FS.call h_s195 (fS_L_makeFlat_585  _ _ _) (FtR fs119))
       (FS.some h_s191))
theorem fS_L_makeFlat_631   : ∀ (n : Nat) (x2 : Int32) (σ : TS), FS fs125 σ (L_makeFlat_631  n x2 σ)
  | 0, _, _ => FS.none
  | n + 1, x2, σ => by
    rw [L_makeFlat_631]
    exact FS.ite (FS.some (Ft.rf _ _))
      (FS.ite (FS.ite (FS.nmT (Ft.p_tsA (Ft.rf _ _) rfl) fun s210 h_s210 =>
         FS.ite (FS.ite (FS.nmT (Ft.p_tsA h_s210 rfl) fun s213 h_s213 =>
           FS.nmV fun v214 =>
           FS.call h_s213 (fS_L_makeFlat_631  _ _ _) (FtR fs125))
          (FS.none))
         (FS.none))
        (FS.none))
       (FS.none))
theorem fS_J_makeFlat_611 (σ : TS)  : FS fs126 σ (J_makeFlat_611 σ) := by
  unfold J_makeFlat_611
  exact FS.nmT (Ft.p_tsI (Ft.rf _ _) rfl) fun s205 h_s205 =>
    FS.nmT (Ft.p_tsI h_s205 rfl) fun s206 h_s206 =>
    FS.nmT (Ft.p_tsI h_s206 rfl) fun s207 h_s207 =>
    FS.ob h_s207 (fS_L_makeFlat_631  _ _ _) (le_fs125_fs126) fun q216 s217 h_s217 =>
    FS.some h_s217
theorem fS_J_makeFlat_578 (σ : TS)  : FS fs127 σ (J_makeFlat_578 σ) := by
  unfold J_makeFlat_578
  exact FS.nmT (Ft.p_tsI (Ft.rf _ _) rfl) fun s190 h_s190 =>
    FS.ob h_s190 (fS_L_makeFlat_585  _ _ _) (le_fs119_fs127) fun q202 s203 h_s203 =>
    FS.call h_s203 (fS_J_makeFlat_611 _ ) (le_fs126_fs127)
theorem fS_J_makeFlat_517 (σ : TS)  : FS fs128 σ (J_makeFlat_517 σ) := by
  unfold J_makeFlat_517
  exact FS.nmT (Ft.p_tsI (Ft.rf _ _) rfl) fun s168 h_s168 =>
    FS.ob h_s168 (fS_L_makeFlat_524  _ _ _) (le_fs124_fs128) fun q187 s188 h_s188 =>
    FS.call h_s188 (fS_J_makeFlat_578 _ ) (le_fs127_fs128)
theorem fS_J_makeFlat_506 (σ : TS)  : FS fs128 σ (J_makeFlat_506 σ) := by
  unfold J_makeFlat_506
  exact FS.ob (Ft.rf _ _) (fS_F_isBad _ ) (le_fs0_fs128) fun r165 s164 h_s164 =>
    FS.ite (FS.ob h_s164 (fS_F_checkActions _ ) (le_fs1_fs128) fun r223 s222 h_s222 =>
     FS.call h_s222 (fS_J_makeFlat_517 _ ) (FtR fs128))
    (FS.call h_s164 (fS_J_makeFlat_517 _ ) (FtR fs128))
theorem fS_J_makeFlat_487 (σ : TS)  : FS fs129 σ (J_makeFlat_487 σ) := by
  unfold J_makeFlat_487
  exact FS.nmT (Ft.p_tsI (Ft.rf _ _) rfl) fun s159 h_s159 =>
    FS.ob h_s159 (fS_F_isBad _ ) (le_fs0_fs129) fun r161 s160 h_s160 =>
    FS.ite (FS.ob h_s160 (fS_F_numberAll _ ) (le_fs118_fs129) fun r228 s227 h_s227 =>
     FS.call h_s227 (fS_J_makeFlat_506 _ ) (le_fs128_fs129))
    (FS.call h_s160 (fS_J_makeFlat_506 _ ) (le_fs128_fs129))
theorem fS_J_makeFlat_476 (σ : TS)  : FS fs130 σ (J_makeFlat_476 σ) := by
  unfold J_makeFlat_476
  exact FS.ob (Ft.rf _ _) (fS_F_isBad _ ) (le_fs0_fs130) fun r156 s155 h_s155 =>
    FS.ite (FS.ob h_s155 (fS_F_connections _ ) (le_fs63_fs130) fun r233 s232 h_s232 =>
     FS.call h_s232 (fS_J_makeFlat_487 _ ) (le_fs129_fs130))
    (FS.call h_s155 (fS_J_makeFlat_487 _ ) (le_fs129_fs130))
theorem fS_J_makeFlat_464 (σ : TS)  : FS fs131 σ (J_makeFlat_464 σ) := by
  unfold J_makeFlat_464
  exact FS.ob (Ft.rf _ _) (fS_F_isBad _ ) (le_fs0_fs131) fun r152 s151 h_s151 =>
    FS.ite (FS.ob h_s151 (fS_F_collect  _ _) (le_fs52_fs131) fun r238 s237 h_s237 =>
     FS.call h_s237 (fS_J_makeFlat_476 _ ) (le_fs130_fs131))
    (FS.call h_s151 (fS_J_makeFlat_476 _ ) (le_fs130_fs131))
theorem fS_J_makeFlat_387 (σ : TS)  : FS fs131 σ (J_makeFlat_387 σ) := by
  unfold J_makeFlat_387
  exact FS.ob (Ft.rf _ _) (fS_L_makeFlat_389  _ _ _) (le_fs123_fs131) fun q148 s149 h_s149 =>
    FS.call h_s149 (fS_J_makeFlat_464 _ ) (FtR fs131)
theorem fS_J_makeFlat_344 (σ : TS)  : FS fs131 σ (J_makeFlat_344 σ) := by
  unfold J_makeFlat_344
  exact FS.nmT (Ft.p_tsI (Ft.rf _ _) rfl) fun s103 h_s103 =>
    FS.ob h_s103 (fS_L_makeFlat_351  _ _ _) (le_fs2_fs131) fun q118 s119 h_s119 =>
    FS.call h_s119 (fS_J_makeFlat_387 _ ) (FtR fs131)
theorem fS_J_makeFlat_202 (σ : TS)  : FS fs132 σ (J_makeFlat_202 σ) := by
  unfold J_makeFlat_202
  exact FS.ob (Ft.rf _ _) (fS_L_makeFlat_204  _ _ _) (le_fs120_fs132) fun q61 s62 h_s62 =>
    FS.ob h_s62 (fS_L_makeFlat_226  _ _ _) (le_fs121_fs132) fun q74 s75 h_s75 =>
    FS.nmT (Ft.p_tsI h_s75 rfl) fun s77 h_s77 =>
    FS.nmT (Ft.p_tsI h_s77 rfl) fun s78 h_s78 =>
    FS.ob h_s78 (fS_L_makeFlat_280  _ _ _) (le_fs122_fs132) fun q100 s101 h_s101 =>
    FS.call h_s101 (fS_J_makeFlat_344 _ ) (le_fs131_fs132)
theorem fS_F_makeFlat (x1 : Int32) (σ : TS)  : FS fs133 σ (F_makeFlat x1 σ) := by
  unfold F_makeFlat
  exact FS.nmT (Ft.p_tsI (Ft.rf _ _) rfl) fun s1 h_s1 =>
    FS.nmT (Ft.p_tsI h_s1 rfl) fun s2 h_s2 =>
    FS.nmT (Ft.p_tsI h_s2 rfl) fun s3 h_s3 =>
    FS.nmT (Ft.p_tsI h_s3 rfl) fun s4 h_s4 =>
    FS.nmT (Ft.p_tsI h_s4 rfl) fun s5 h_s5 =>
    FS.nmT (Ft.p_tsI h_s5 rfl) fun s6 h_s6 =>
    FS.nmT (Ft.p_tsI h_s6 rfl) fun s7 h_s7 =>
    FS.nmT (Ft.p_tsI h_s7 rfl) fun s8 h_s8 =>
    FS.nmT (Ft.p_tsI h_s8 rfl) fun s9 h_s9 =>
    FS.nmT (Ft.p_tsI h_s9 rfl) fun s10 h_s10 =>
    FS.nmT (Ft.p_tsI h_s10 rfl) fun s11 h_s11 =>
    FS.nmT (Ft.p_tsI h_s11 rfl) fun s12 h_s12 =>
    FS.nmT (Ft.p_tsI h_s12 rfl) fun s13 h_s13 =>
    FS.nmT (Ft.p_tsI h_s13 rfl) fun s14 h_s14 =>
    FS.nmT (Ft.p_tsI h_s14 rfl) fun s15 h_s15 =>
    FS.nmT (Ft.p_tsI h_s15 rfl) fun s16 h_s16 =>
    FS.nmT (Ft.p_tsI h_s16 rfl) fun s17 h_s17 =>
    FS.nmT (Ft.p_tsI h_s17 rfl) fun s18 h_s18 =>
    FS.nmT (Ft.p_tsI h_s18 rfl) fun s19 h_s19 =>
    FS.nmT (Ft.p_tsI h_s19 rfl) fun s20 h_s20 =>
    FS.ite (FS.nmT (Ft.p_tsA h_s20 rfl) fun s22 h_s22 =>
     FS.ite (FS.nmT (Ft.p_tsA h_s22 rfl) fun s24 h_s24 =>
      FS.ite (FS.nmT (Ft.p_tsA h_s24 rfl) fun s26 h_s26 =>
       FS.ite (FS.nmT (Ft.p_tsA h_s26 rfl) fun s28 h_s28 =>
        FS.ite (FS.nmT (Ft.p_tsA h_s28 rfl) fun s30 h_s30 =>
         FS.ite (FS.nmT (Ft.p_tsA h_s30 rfl) fun s32 h_s32 =>
          FS.ite (FS.nmT (Ft.p_tsA h_s32 rfl) fun s34 h_s34 =>
           FS.ob h_s34 (fS_F_fill  _ _ _ _) (le_fs108_fs133) fun r36 s35 h_s35 =>
           FS.ob h_s35 (fS_L_makeFlat_158  _ _ _) (le_fs1_fs133) fun q54 s55 h_s55 =>
           FS.call h_s55 (fS_J_makeFlat_202 _ ) (le_fs132_fs133))
          (FS.none))
         (FS.none))
        (FS.none))
       (FS.none))
      (FS.none))
     (FS.none))
    (FS.none)
theorem fS_F_flat (σ : TS)  : FS fs134 σ (F_flat σ) := by
  unfold F_flat
  exact FS.ob (Ft.rf _ _) (fS_F_takeTape _ ) (le_fs110_fs134) fun r2 s1 h_s1 =>
    FS.nmT (Ft.p_tsI h_s1 rfl) fun s5 h_s5 =>
    FS.nmT (Ft.p_tsI h_s5 rfl) fun s6 h_s6 =>
    FS.nmT (Ft.p_tsI h_s6 rfl) fun s7 h_s7 =>
    FS.nmT (Ft.p_tsI h_s7 rfl) fun s8 h_s8 =>
    FS.nmT (Ft.p_tsI h_s8 rfl) fun s9 h_s9 =>
    FS.ob h_s9 (fS_F_theClass _ ) (le_fs0_fs134) fun r11 s10 h_s10 =>
    FS.ite (FS.ob h_s10 (fS_F_makeFlat _ _ ) (le_fs133_fs134) fun r15 s14 h_s14 =>
     FS.ob h_s14 (fS_F_isBad _ ) (le_fs0_fs134) fun r19 s18 h_s18 =>
     FS.ite (FS.nmT (Ft.p_tsI h_s18 rfl) fun s22 h_s22 =>
      FS.some h_s22)
     (FS.ob h_s18 (fS_F_faulted _ ) (le_fs97_fs134) fun r24 s23 h_s23 =>
      FS.some h_s23))
    (FS.ob h_s10 (fS_F_bad _ _ _ ) (le_fs1_fs134) fun r29 s28 h_s28 =>
     FS.ob h_s28 (fS_F_isBad _ ) (le_fs0_fs134) fun r33 s32 h_s32 =>
     FS.ite (FS.nmT (Ft.p_tsI h_s32 rfl) fun s36 h_s36 =>
      FS.some h_s36)
     (FS.ob h_s32 (fS_F_faulted _ ) (le_fs97_fs134) fun r38 s37 h_s37 =>
      FS.some h_s37))
theorem fS_B_hasHead (cf_hasHead : Int32 → Int32 → Int32 → TS → Option (Int32 × TS)) (x1 : Int32) (x2 : Int32) (x3 : Int32) (σ : TS) (hcf_hasHead : ∀ (a0 : Int32) (a1 : Int32) (a2 : Int32) (a3 : TS), FS fs0 a3 (cf_hasHead a0 a1 a2 a3)) : FS fs0 σ (B_hasHead cf_hasHead x1 x2 x3 σ) := by
  unfold B_hasHead
  exact FS.ite (FS.nmV fun v2 =>
     FS.ite (FS.some (Ft.rf _ _))
     (FS.ite (FS.some (Ft.rf _ _))
      (FS.ite (FS.ite (FS.ite (FS.ite (FS.ite (FS.ite (FS.ite (FS.ite (FS.some (Ft.rf _ _))
              (FS.some (Ft.rf _ _)))
             (FS.none))
            (FS.none))
           (FS.some (Ft.rf _ _)))
          (FS.none))
         (FS.none))
        (FS.some (Ft.rf _ _)))
       (FS.ite (FS.ite (FS.ite (FS.ite (FS.some (Ft.rf _ _))
           (FS.some (Ft.rf _ _)))
          (FS.none))
         (FS.none))
        (FS.ite (FS.some (Ft.rf _ _))
         (FS.ite (FS.ite (FS.ob (Ft.rf _ _) (hcf_hasHead _ _ _ _) (FtR fs0) fun r21 s20 h_s20 =>
            FS.ite (FS.ite (FS.ob h_s20 (hcf_hasHead _ _ _ _) (FtR fs0) fun r26 s25 h_s25 =>
              FS.ite (FS.some h_s25)
              (FS.some h_s25))
             (FS.none))
            (FS.some h_s20))
           (FS.none))
          (FS.ite (FS.ite (FS.ob (Ft.rf _ _) (hcf_hasHead _ _ _ _) (FtR fs0) fun r34 s33 h_s33 =>
             FS.ite (FS.ite (FS.ob h_s33 (hcf_hasHead _ _ _ _) (FtR fs0) fun r39 s38 h_s38 =>
               FS.ite (FS.some h_s38)
               (FS.some h_s38))
              (FS.none))
             (FS.some h_s33))
            (FS.none))
           (FS.ite (FS.ite (FS.ob (Ft.rf _ _) (hcf_hasHead _ _ _ _) (FtR fs0) fun r47 s46 h_s46 =>
              FS.some h_s46)
             (FS.none))
            (FS.ite (FS.ite (FS.ob (Ft.rf _ _) (hcf_hasHead _ _ _ _) (FtR fs0) fun r53 s52 h_s52 =>
               FS.ite (FS.ite (FS.ob h_s52 (hcf_hasHead _ _ _ _) (FtR fs0) fun r58 s57 h_s57 =>
                 FS.ite (FS.some h_s57)
                 (FS.some h_s57))
                (FS.none))
               (FS.some h_s52))
              (FS.none))
             (FS.ite (FS.ite (FS.ob (Ft.rf _ _) (hcf_hasHead _ _ _ _) (FtR fs0) fun r66 s65 h_s65 =>
                FS.ite (FS.ite (FS.ob h_s65 (hcf_hasHead _ _ _ _) (FtR fs0) fun r71 s70 h_s70 =>
                  FS.ite (FS.some h_s70)
                  (FS.some h_s70))
                 (FS.none))
                (FS.some h_s65))
               (FS.none))
              (FS.ite (FS.ite (FS.ob (Ft.rf _ _) (hcf_hasHead _ _ _ _) (FtR fs0) fun r79 s78 h_s78 =>
                 FS.some h_s78)
                (FS.none))
               (FS.ite (FS.ite (FS.ob (Ft.rf _ _) (hcf_hasHead _ _ _ _) (FtR fs0) fun r85 s84 h_s84 =>
                  FS.some h_s84)
                 (FS.none))
                (FS.ite (FS.ite (FS.ob (Ft.rf _ _) (hcf_hasHead _ _ _ _) (FtR fs0) fun r91 s90 h_s90 =>
                   FS.some h_s90)
                  (FS.none))
                 (FS.ite (FS.ite (FS.ob (Ft.rf _ _) (hcf_hasHead _ _ _ _) (FtR fs0) fun r97 s96 h_s96 =>
                    FS.some h_s96)
                   (FS.none))
                  (FS.ite (FS.ite (FS.ob (Ft.rf _ _) (hcf_hasHead _ _ _ _) (FtR fs0) fun r103 s102 h_s102 =>
                     FS.ite (FS.ite (FS.ob h_s102 (hcf_hasHead _ _ _ _) (FtR fs0) fun r108 s107 h_s107 =>
                       FS.ite (FS.some h_s107)
                       (FS.some h_s107))
                      (FS.none))
                     (FS.some h_s102))
                    (FS.none))
                   (FS.ite (FS.ite (FS.ob (Ft.rf _ _) (hcf_hasHead _ _ _ _) (FtR fs0) fun r116 s115 h_s115 =>
                      FS.ite (FS.ite (FS.ob h_s115 (hcf_hasHead _ _ _ _) (FtR fs0) fun r121 s120 h_s120 =>
                        FS.ite (FS.some h_s120)
                        (FS.some h_s120))
                       (FS.none))
                      (FS.some h_s115))
                     (FS.none))
                    (FS.ite (FS.ite (FS.ob (Ft.rf _ _) (hcf_hasHead _ _ _ _) (FtR fs0) fun r129 s128 h_s128 =>
                       FS.ite (FS.ite (FS.ob h_s128 (hcf_hasHead _ _ _ _) (FtR fs0) fun r134 s133 h_s133 =>
                         FS.ite (FS.ite (FS.ob h_s133 (hcf_hasHead _ _ _ _) (FtR fs0) fun r139 s138 h_s138 =>
                           FS.ite (FS.some h_s138)
                           (FS.some h_s138))
                          (FS.none))
                         (FS.some h_s133))
                        (FS.none))
                       (FS.some h_s128))
                      (FS.none))
                     (FS.ite (FS.ite (FS.ob (Ft.rf _ _) (hcf_hasHead _ _ _ _) (FtR fs0) fun r148 s147 h_s147 =>
                        FS.ite (FS.ite (FS.ob h_s147 (hcf_hasHead _ _ _ _) (FtR fs0) fun r153 s152 h_s152 =>
                          FS.ite (FS.some h_s152)
                          (FS.some h_s152))
                         (FS.none))
                        (FS.some h_s147))
                       (FS.none))
                      (FS.ite (FS.ite (FS.ob (Ft.rf _ _) (hcf_hasHead _ _ _ _) (FtR fs0) fun r161 s160 h_s160 =>
                         FS.ite (FS.ite (FS.ob h_s160 (hcf_hasHead _ _ _ _) (FtR fs0) fun r166 s165 h_s165 =>
                           FS.ite (FS.some h_s165)
                           (FS.some h_s165))
                          (FS.none))
                         (FS.some h_s160))
                        (FS.none))
                       (FS.ite (FS.ite (FS.ob (Ft.rf _ _) (hcf_hasHead _ _ _ _) (FtR fs0) fun r174 s173 h_s173 =>
                          FS.ite (FS.ite (FS.ob h_s173 (hcf_hasHead _ _ _ _) (FtR fs0) fun r179 s178 h_s178 =>
                            FS.ite (FS.some h_s178)
                            (FS.some h_s178))
                           (FS.none))
                          (FS.some h_s173))
                         (FS.none))
                        (FS.ite (FS.ite (FS.ob (Ft.rf _ _) (hcf_hasHead _ _ _ _) (FtR fs0) fun r187 s186 h_s186 =>
                           FS.ite (FS.ite (FS.ob h_s186 (hcf_hasHead _ _ _ _) (FtR fs0) fun r192 s191 h_s191 =>
                             FS.ite (FS.some h_s191)
                             (FS.some h_s191))
                            (FS.none))
                           (FS.some h_s186))
                          (FS.none))
                         (FS.ite (FS.ite (FS.ob (Ft.rf _ _) (hcf_hasHead _ _ _ _) (FtR fs0) fun r200 s199 h_s199 =>
                            FS.ite (FS.ite (FS.ob h_s199 (hcf_hasHead _ _ _ _) (FtR fs0) fun r205 s204 h_s204 =>
                              FS.ite (FS.some h_s204)
                              (FS.some h_s204))
                             (FS.none))
                            (FS.some h_s199))
                           (FS.none))
                          (FS.ite (FS.ite (FS.ob (Ft.rf _ _) (hcf_hasHead _ _ _ _) (FtR fs0) fun r213 s212 h_s212 =>
                             FS.ite (FS.ite (FS.ob h_s212 (hcf_hasHead _ _ _ _) (FtR fs0) fun r218 s217 h_s217 =>
                               FS.ite (FS.some h_s217)
                               (FS.some h_s217))
                              (FS.none))
                             (FS.some h_s212))
                            (FS.none))
                           (FS.ite (FS.ite (FS.ob (Ft.rf _ _) (hcf_hasHead _ _ _ _) (FtR fs0) fun r226 s225 h_s225 =>
                              FS.some h_s225)
                             (FS.none))
                            (FS.ite (FS.some (Ft.rf _ _))
                             (FS.ite (FS.ite (FS.ob (Ft.rf _ _) (hcf_hasHead _ _ _ _) (FtR fs0) fun r233 s232 h_s232 =>
                                FS.ite (FS.ite (FS.ob h_s232 (hcf_hasHead _ _ _ _) (FtR fs0) fun r238 s237 h_s237 =>
                                  FS.ite (FS.some h_s237)
                                  (FS.some h_s237))
                                 (FS.none))
                                (FS.some h_s232))
                               (FS.none))
                              (FS.ite (FS.ite (FS.ob (Ft.rf _ _) (hcf_hasHead _ _ _ _) (FtR fs0) fun r246 s245 h_s245 =>
                                 FS.ite (FS.ite (FS.ob h_s245 (hcf_hasHead _ _ _ _) (FtR fs0) fun r251 s250 h_s250 =>
                                   FS.ite (FS.some h_s250)
                                   (FS.some h_s250))
                                  (FS.none))
                                 (FS.some h_s245))
                                (FS.none))
                               (FS.ite (FS.ite (FS.ob (Ft.rf _ _) (hcf_hasHead _ _ _ _) (FtR fs0) fun r259 s258 h_s258 =>
                                  FS.ite (FS.ite (FS.ob h_s258 (hcf_hasHead _ _ _ _) (FtR fs0) fun r264 s263 h_s263 =>
                                    FS.ite (FS.some h_s263)
                                    (FS.some h_s263))
                                   (FS.none))
                                  (FS.some h_s258))
                                 (FS.none))
                                (FS.ite (FS.ite (FS.ob (Ft.rf _ _) (hcf_hasHead _ _ _ _) (FtR fs0) fun r272 s271 h_s271 =>
                                   FS.ite (FS.ite (FS.ob h_s271 (hcf_hasHead _ _ _ _) (FtR fs0) fun r277 s276 h_s276 =>
                                     FS.ite (FS.some h_s276)
                                     (FS.some h_s276))
                                    (FS.none))
                                   (FS.some h_s271))
                                  (FS.none))
                                 (FS.ite (FS.ite (FS.ob (Ft.rf _ _) (hcf_hasHead _ _ _ _) (FtR fs0) fun r285 s284 h_s284 =>
                                    FS.ite (FS.ite (FS.ob h_s284 (hcf_hasHead _ _ _ _) (FtR fs0) fun r290 s289 h_s289 =>
                                      FS.ite (FS.some h_s289)
                                      (FS.some h_s289))
                                     (FS.none))
                                    (FS.some h_s284))
                                   (FS.none))
                                  (FS.ite (FS.some (Ft.rf _ _))
                                   (FS.ite (FS.ob (Ft.rf _ _) (hcf_hasHead _ _ _ _) (FtR fs0) fun r298 s297 h_s297 =>
                                     FS.ite (FS.ite (FS.ob h_s297 (hcf_hasHead _ _ _ _) (FtR fs0) fun r303 s302 h_s302 =>
                                       FS.ite (FS.some h_s302)
                                       (FS.some h_s302))
                                      (FS.none))
                                     (FS.some h_s297))
                                    (FS.none)))))))))))))))))))))))))))))))))
    (FS.none)
theorem fS_G_hasHead : ∀ d : Nat, (∀ (a0 : Int32) (a1 : Int32) (a2 : Int32) (a3 : TS), FS fs0 a3 ((G_hasHead d) a0 a1 a2 a3)) := by
  intro d
  induction d with
  | zero => exact fun _ _ _ _ => FS.none
  | succ d ih => exact fun a0 a1 a2 a3 => fS_B_hasHead _ a0 a1 a2 a3 (fun b0 b1 b2 b3 => ih b0 b1 b2 b3)
theorem fS_F_hasHead (a0 : Int32) (a1 : Int32) (a2 : Int32) (a3 : TS) : FS fs0 a3 (F_hasHead a0 a1 a2 a3) := (fS_G_hasHead 300) a0 a1 a2 a3
theorem fS_L_init_2_52   : ∀ (n : Nat) (x1 : Int32) (σ : TS), FS fs28 σ (L_init_2_52  n x1 σ)
  | 0, _, _ => FS.none
  | n + 1, x1, σ => by
    rw [L_init_2_52]
    exact FS.ite (FS.some (Ft.rf _ _))
      (FS.ite (FS.ite (FS.ite (FS.ite (FS.ite (FS.nmT (Ft.p_tsA (Ft.rf _ _) rfl) fun s20 h_s20 =>
            FS.ite (FS.ite (FS.nmT (Ft.p_tsA h_s20 rfl) fun s23 h_s23 =>
              FS.nmV fun v24 =>
              FS.call h_s23 (fS_L_init_2_52  _ _ _) (FtR fs28))
             (FS.none))
            (FS.none))
           (FS.none))
          (FS.none))
         (FS.none))
        (FS.ite (FS.nmT (Ft.p_tsA (Ft.rf _ _) rfl) fun s12 h_s12 =>
          FS.ite (FS.ite (FS.nmT (Ft.p_tsA h_s12 rfl) fun s15 h_s15 =>
            FS.nmV fun v16 =>
            FS.call h_s15 (fS_L_init_2_52  _ _ _) (FtR fs28))
           (FS.none))
          (FS.none))
         (FS.none)))
       (FS.none))
theorem fS_L_init_2_110   : ∀ (n : Nat) (x1 : Int32) (σ : TS), FS fs29 σ (L_init_2_110  n x1 σ)
  | 0, _, _ => FS.none
  | n + 1, x1, σ => by
    rw [L_init_2_110]
    exact FS.ite (FS.some (Ft.rf _ _))
      (FS.ite (FS.ite (FS.nmT (Ft.p_tsA (Ft.rf _ _) rfl) fun s32 h_s32 =>
         FS.ite (FS.ite (FS.nmT (Ft.p_tsA h_s32 rfl) fun s35 h_s35 =>
           FS.nmV fun v36 =>
           FS.call h_s35 (fS_L_init_2_110  _ _ _) (FtR fs29))
          (FS.none))
         (FS.none))
        (FS.none))
       (FS.none))
theorem fS_L_init_2_150   : ∀ (n : Nat) (x1 : Int32) (σ : TS), FS fs30 σ (L_init_2_150  n x1 σ)
  | 0, _, _ => FS.none
  | n + 1, x1, σ => by
    rw [L_init_2_150]
    exact FS.ite (FS.some (Ft.rf _ _))
      (FS.ite (FS.nmT (Ft.p_tsA (Ft.rf _ _) rfl) fun s42 h_s42 =>
        FS.nmV fun v43 =>
        FS.call h_s42 (fS_L_init_2_150  _ _ _) (FtR fs30))
       (FS.none))
theorem fS_L_init_2_173   : ∀ (n : Nat) (x1 : Int32) (σ : TS), FS fs31 σ (L_init_2_173  n x1 σ)
  | 0, _, _ => FS.none
  | n + 1, x1, σ => by
    rw [L_init_2_173]
    exact FS.ite (FS.some (Ft.rf _ _))
      (FS.ite (FS.nmT (Ft.p_tsA (Ft.rf _ _) rfl) fun s49 h_s49 =>
        FS.nmV fun v50 =>
        FS.call h_s49 (fS_L_init_2_173  _ _ _) (FtR fs31))
       (FS.none))
theorem fS_F_init_2 (σ : TS)  : FS fs135 σ (F_init_2 σ) := by
  unfold F_init_2
  exact FS.ite (FS.some (Ft.rf _ _))
    (FS.nmT (Ft.p_tsI (Ft.rf _ _) rfl) fun s2 h_s2 =>
     FS.nmT (Ft.p_tsI h_s2 rfl) fun s3 h_s3 =>
     FS.nmT (Ft.p_tsI h_s3 rfl) fun s4 h_s4 =>
     FS.nmT (Ft.p_tsI h_s4 rfl) fun s5 h_s5 =>
     FS.nmT (Ft.p_tsI h_s5 rfl) fun s6 h_s6 =>
     FS.nmT (Ft.p_tsI h_s6 rfl) fun s7 h_s7 =>
     FS.nmT (Ft.p_tsI h_s7 rfl) fun s8 h_s8 =>
     FS.nmT (Ft.p_tsI h_s8 rfl) fun s9 h_s9 =>
     FS.ob h_s9 (fS_L_init_2_52  _ _ _) (le_fs28_fs135) fun q27 s28 h_s28 =>
     FS.ob h_s28 (fS_L_init_2_110  _ _ _) (le_fs29_fs135) fun q38 s39 h_s39 =>
     FS.ob h_s39 (fS_L_init_2_150  _ _ _) (le_fs30_fs135) fun q45 s46 h_s46 =>
     FS.ob h_s46 (fS_L_init_2_173  _ _ _) (le_fs31_fs135) fun q52 s53 h_s53 =>
     FS.ob h_s53 (fS_F_event _ _ ) (le_fs96_fs135) fun r56 s55 h_s55 =>
     FS.ob h_s55 (fS_F_isBad _ ) (le_fs0_fs135) fun r60 s59 h_s59 =>
     FS.ite (FS.nmT (Ft.p_tsI h_s59 rfl) fun s63 h_s63 =>
      FS.some h_s63)
     (FS.ob h_s59 (fS_F_faulted _ ) (le_fs97_fs135) fun r65 s64 h_s64 =>
      FS.some h_s64))
theorem fS_L_isSomewhere_2   : ∀ (n : Nat) (x1 : Int32) (x2 : Int32) (x3 : Int32) (σ : TS), FS fs0 σ (L_isSomewhere_2  n x1 x2 x3 σ)
  | 0, _, _, _, _ => FS.none
  | n + 1, x1, x2, x3, σ => by
    rw [L_isSomewhere_2]
    exact FS.ite (FS.some (Ft.rf _ _))
      (FS.ite (FS.ite (FS.ite (FS.ob (Ft.rf _ _) (fS_F_hasHead  _ _ _ _) (FtR fs0) fun r6 s5 h_s5 =>
          FS.ite (FS.ite (FS.ob h_s5 (fS_F_hasHead  _ _ _ _) (FtR fs0) fun r11 s10 h_s10 =>
            FS.ite (FS.nmV fun v14 =>
             FS.call h_s10 (fS_L_isSomewhere_2  _ _ _ _ _) (FtR fs0))
            (FS.some h_s10))
           (FS.none))
          (FS.some h_s5))
         (FS.none))
        (FS.nmV fun v3 =>
         FS.call (Ft.rf _ _) (fS_L_isSomewhere_2  _ _ _ _ _) (FtR fs0)))
       (FS.none))
theorem fS_F_isSomewhere (x1 : Int32) (x2 : Int32) (σ : TS)  : FS fs0 σ (F_isSomewhere x1 x2 σ) := by
  unfold F_isSomewhere
  exact FS.obS (Ft.rf _ _) (fS_L_isSomewhere_2  _ _ _ _ _) (FtR fs0) (fun r23 s20 h_s20 => FS.some h_s20) fun q19 s20 h_s20 =>
    FS.some h_s20
theorem fS_F_isUnlike (x1 : Int64) (x3 : Int64) (σ : TS)  : FS fs0 σ (F_isUnlike x1 x3 σ) := by
  unfold F_isUnlike
  exact FS.ob (Ft.rf _ _) (fS_F_alike _ _ _ ) (FtR fs0) fun r2 s1 h_s1 =>
    FS.ite (FS.some h_s1)
    (FS.some h_s1)
theorem fS_F_tell (x1 : Int32) (σ : TS)  : FS fs136 σ (F_tell x1 σ) := by
  unfold F_tell
  exact FS.ite (FS.nmT (Ft.p_tsI (Ft.rf _ _) rfl) fun s2 h_s2 =>
     FS.nmT (Ft.p_tsI h_s2 rfl) fun s3 h_s3 =>
     FS.some h_s3)
    (FS.nmT (Ft.p_tsI (Ft.rf _ _) rfl) fun s1 h_s1 =>
     FS.some h_s1)
theorem fS_L_judge_22   : ∀ (n : Nat) (x1 : Int32) (σ : TS), FS fs137 σ (L_judge_22  n x1 σ)
  | 0, _, _ => FS.none
  | n + 1, x1, σ => by
    rw [L_judge_22]
    exact FS.ite (FS.some (Ft.rf _ _))
      (FS.ite (FS.ob (Ft.rf _ _) (fS_F_unit  _ _) (le_fs39_fs137) fun r6 s5 h_s5 =>
        FS.ite (FS.ob h_s5 (fS_F_unit  _ _) (le_fs39_fs137) fun r11 s10 h_s10 =>
         FS.ob h_s10 (fS_F_isUnlike _ _ _ ) (le_fs0_fs137) fun r15 s14 h_s14 =>
         FS.ite (FS.nmV fun v18 =>
          FS.call h_s14 (fS_L_judge_22  _ _ _) (FtR fs137))
         (FS.ob h_s14 (fS_F_tell _ _ ) (le_fs136_fs137) fun r20 s19 h_s19 =>
          FS.nmV fun v23 =>
          FS.call h_s19 (fS_L_judge_22  _ _ _) (FtR fs137)))
        (FS.none))
       (FS.none))
theorem fS_L_judge_87   : ∀ (n : Nat) (x1 : Int32) (x2 : Int32) (x3 : Int32) (σ : TS), FS fs137 σ (L_judge_87  n x1 x2 x3 σ)
  | 0, _, _, _, _ => FS.none
  | n + 1, x1, x2, x3, σ => by
    rw [L_judge_87]
    exact FS.ite (FS.ite (FS.ite (FS.some (Ft.rf _ _))
        (FS.ite (FS.ob (Ft.rf _ _) (fS_F_unitOf _ _ ) (le_fs0_fs137) fun r35 s34 h_s34 =>
          FS.ite (FS.ob h_s34 (fS_F_unit  _ _) (le_fs39_fs137) fun r40 s39 h_s39 =>
           FS.ob h_s39 (fS_F_isUnlike _ _ _ ) (le_fs0_fs137) fun r44 s43 h_s43 =>
           FS.ite (FS.nmV fun v47 =>
            FS.nmV fun v48 =>
            FS.call h_s43 (fS_L_judge_87  _ _ _ _ _) (FtR fs137))
           (FS.ob h_s43 (fS_F_tell _ _ ) (le_fs136_fs137) fun r50 s49 h_s49 =>
            FS.nmV fun v53 =>
            FS.nmV fun v54 =>
            FS.call h_s49 (fS_L_judge_87  _ _ _ _ _) (FtR fs137)))
          (FS.none))
         (FS.none)))
       (FS.none))
      (FS.none)
theorem fS_L_judge_72   : ∀ (n : Nat) (x1 : Int32) (x2 : Int32) (σ : TS), FS fs137 σ (L_judge_72  n x1 x2 σ)
  | 0, _, _, _ => FS.none
  | n + 1, x1, x2, σ => by
    rw [L_judge_72]
    exact FS.ite (FS.some (Ft.rf _ _))
      (FS.ite (FS.nmV fun v30 =>
        FS.ob (Ft.rf _ _) (fS_L_judge_87  _ _ _ _ _) (FtR fs137) fun q57 s58 h_s58 =>
        FS.nmV fun v60 =>
        FS.call h_s58 (fS_L_judge_72  _ _ _ _) (FtR fs137))
       (FS.none))
theorem fS_L_judge_157   : ∀ (n : Nat) (x2 : Int32) (σ : TS), FS fs137 σ (L_judge_157  n x2 σ)
  | 0, _, _ => FS.none
  | n + 1, x2, σ => by
    rw [L_judge_157]
    exact FS.ite (FS.some (Ft.rf _ _))
      (FS.ite (FS.ite (FS.ite (FS.ite (FS.ite (FS.ob (Ft.rf _ _) (fS_F_unit  _ _) (le_fs39_fs137) fun r72 s71 h_s71 =>
            FS.ite (FS.ite (FS.ob h_s71 (fS_F_unit  _ _) (le_fs39_fs137) fun r78 s77 h_s77 =>
              FS.ob h_s77 (fS_F_isUnlike _ _ _ ) (le_fs0_fs137) fun r82 s81 h_s81 =>
              FS.ite (FS.nmV fun v85 =>
               FS.call h_s81 (fS_L_judge_157  _ _ _) (FtR fs137))
              (FS.ob h_s81 (fS_F_tell _ _ ) (le_fs136_fs137) fun r87 s86 h_s86 =>
               FS.nmV fun v90 =>
               FS.call h_s86 (fS_L_judge_157  _ _ _) (FtR fs137)))
             (FS.none))
            (FS.none))
           (FS.none))
          (FS.none))
         (FS.nmV fun v68 =>
          FS.call (Ft.rf _ _) (fS_L_judge_157  _ _ _) (FtR fs137)))
        (FS.none))
       (FS.none))
theorem fS_L_judge_235   : ∀ (n : Nat) (x2 : Int32) (σ : TS), FS fs137 σ (L_judge_235  n x2 σ)
  | 0, _, _ => FS.none
  | n + 1, x2, σ => by
    rw [L_judge_235]
    exact FS.ite (FS.some (Ft.rf _ _))
      (FS.ite (FS.ite (FS.ite (FS.ite (FS.nmV fun v100 =>
           FS.call (Ft.rf _ _) (fS_L_judge_235  _ _ _) (FtR fs137))
          (FS.ob (Ft.rf _ _) (fS_F_unitOf _ _ ) (le_fs0_fs137) fun r102 s101 h_s101 =>
           FS.ite (FS.ob h_s101 (fS_F_unit  _ _) (le_fs39_fs137) fun r107 s106 h_s106 =>
            FS.ob h_s106 (fS_F_isUnlike _ _ _ ) (le_fs0_fs137) fun r111 s110 h_s110 =>
            FS.ite (FS.nmV fun v114 =>
             FS.call h_s110 (fS_L_judge_235  _ _ _) (FtR fs137))
            (FS.ob h_s110 (fS_F_tell _ _ ) (le_fs136_fs137) fun r116 s115 h_s115 =>
             FS.nmV fun v119 =>
             FS.call h_s115 (fS_L_judge_235  _ _ _) (FtR fs137)))
           (FS.none)))
         (FS.none))
        (FS.nmV fun v98 =>
         FS.call (Ft.rf _ _) (fS_L_judge_235  _ _ _) (FtR fs137)))
       (FS.none))
theorem fS_L_judge_301   : ∀ (n : Nat) (x2 : Int32) (σ : TS), FS fs137 σ (L_judge_301  n x2 σ)
  | 0, _, _ => FS.none
  | n + 1, x2, σ => by
    rw [L_judge_301]
    exact FS.ite (FS.some (Ft.rf _ _))
      (FS.ite (FS.ite (FS.nmV fun v128 =>
         FS.call (Ft.rf _ _) (fS_L_judge_301  _ _ _) (FtR fs137))
        (FS.ob (Ft.rf _ _) (fS_F_unitOf _ _ ) (le_fs0_fs137) fun r130 s129 h_s129 =>
         FS.ite (FS.ob h_s129 (fS_F_unit  _ _) (le_fs39_fs137) fun r135 s134 h_s134 =>
          FS.ob h_s134 (fS_F_isUnlike _ _ _ ) (le_fs0_fs137) fun r139 s138 h_s138 =>
          FS.ite (FS.nmV fun v142 =>
           FS.call h_s138 (fS_L_judge_301  _ _ _) (FtR fs137))
          (FS.ob h_s138 (fS_F_tell _ _ ) (le_fs136_fs137) fun r144 s143 h_s143 =>
           FS.nmV fun v147 =>
           FS.call h_s143 (fS_L_judge_301  _ _ _) (FtR fs137)))
         (FS.none)))
       (FS.none))
theorem fS_F_judge (σ : TS)  : FS fs137 σ (F_judge σ) := by
  unfold F_judge
  exact FS.ite (FS.some (Ft.rf _ _))
    (FS.nmT (Ft.p_tsI (Ft.rf _ _) rfl) fun s2 h_s2 =>
     FS.nmT (Ft.p_tsI h_s2 rfl) fun s3 h_s3 =>
     FS.ob h_s3 (fS_L_judge_22  _ _ _) (FtR fs137) fun q26 s27 h_s27 =>
     FS.ob h_s27 (fS_L_judge_72  _ _ _ _) (FtR fs137) fun q63 s64 h_s64 =>
     FS.ob h_s64 (fS_L_judge_157  _ _ _) (FtR fs137) fun q94 s95 h_s95 =>
     FS.ob h_s95 (fS_L_judge_235  _ _ _) (FtR fs137) fun q124 s125 h_s125 =>
     FS.ob h_s125 (fS_L_judge_301  _ _ _) (FtR fs137) fun q151 s152 h_s152 =>
     FS.ite (FS.some h_s152)
     (FS.some h_s152))
theorem fS_L_keep_12   : ∀ (n : Nat) (x1 : Int32) (x2 : Int32) (σ : TS), FS fs138 σ (L_keep_12  n x1 x2 σ)
  | 0, _, _, _ => FS.none
  | n + 1, x1, x2, σ => by
    rw [L_keep_12]
    exact FS.ite (FS.some (Ft.rf _ _))
      (FS.ite (FS.ite (FS.nmT (Ft.p_tsA (Ft.rf _ _) rfl) fun s5 h_s5 =>
         FS.ite (FS.ite (FS.nmT (Ft.p_tsA h_s5 rfl) fun s8 h_s8 =>
           FS.nmV fun v9 =>
           FS.call h_s8 (fS_L_keep_12  _ _ _ _) (FtR fs138))
          (FS.none))
         (FS.none))
        (FS.none))
       (FS.none))
theorem fS_L_keep_64   : ∀ (n : Nat) (x1 : Int32) (x2 : Int32) (σ : TS), FS fs139 σ (L_keep_64  n x1 x2 σ)
  | 0, _, _, _ => FS.none
  | n + 1, x1, x2, σ => by
    rw [L_keep_64]
    exact FS.ite (FS.some (Ft.rf _ _))
      (FS.ite (FS.ite (FS.nmT (Ft.p_tsA (Ft.rf _ _) rfl) fun s16 h_s16 =>
         FS.ite (FS.ite (FS.nmT (Ft.p_tsA h_s16 rfl) fun s19 h_s19 =>
           FS.nmV fun v20 =>
           FS.call h_s19 (fS_L_keep_64  _ _ _ _) (FtR fs139))
          (FS.none))
         (FS.none))
        (FS.none))
       (FS.none))
theorem fS_L_keep_114   : ∀ (n : Nat) (x1 : Int32) (x2 : Int32) (σ : TS), FS fs140 σ (L_keep_114  n x1 x2 σ)
  | 0, _, _, _ => FS.none
  | n + 1, x1, x2, σ => by
    rw [L_keep_114]
    exact FS.ite (FS.some (Ft.rf _ _))
      (FS.ite (FS.ite (FS.nmT (Ft.p_tsA (Ft.rf _ _) rfl) fun s28 h_s28 =>
         FS.nmV fun v29 =>
         FS.call h_s28 (fS_L_keep_114  _ _ _ _) (FtR fs140))
        (FS.none))
       (FS.none))
theorem fS_L_keep_147   : ∀ (n : Nat) (x1 : Int32) (x2 : Int32) (σ : TS), FS fs141 σ (L_keep_147  n x1 x2 σ)
  | 0, _, _, _ => FS.none
  | n + 1, x1, x2, σ => by
    rw [L_keep_147]
    exact FS.ite (FS.some (Ft.rf _ _))
      (FS.ite (FS.ite (FS.nmT (Ft.p_tsA (Ft.rf _ _) rfl) fun s37 h_s37 =>
         FS.nmV fun v38 =>
         FS.call h_s37 (fS_L_keep_147  _ _ _ _) (FtR fs141))
        (FS.none))
       (FS.none))
theorem fS_F_keep (x1 : Int32) (σ : TS)  : FS fs142 σ (F_keep x1 σ) := by
  unfold F_keep
  exact FS.ite (FS.nmT (Ft.p_tsA (Ft.rf _ _) rfl) fun s2 h_s2 =>
     FS.ob h_s2 (fS_L_keep_12  _ _ _ _) (le_fs138_fs142) fun q11 s12 h_s12 =>
     FS.ob h_s12 (fS_L_keep_64  _ _ _ _) (le_fs139_fs142) fun q22 s23 h_s23 =>
     FS.ob h_s23 (fS_L_keep_114  _ _ _ _) (le_fs140_fs142) fun q31 s32 h_s32 =>
     FS.ob h_s32 (fS_L_keep_147  _ _ _ _) (le_fs141_fs142) fun q40 s41 h_s41 =>
     FS.some h_s41)
    (FS.none)
theorem fS_J_slope_64 (x1 : Int32) (x3 : Int32) (σ : TS)  : FS fs143 σ (J_slope_64 x1 x3 σ) := by
  unfold J_slope_64
  exact FS.ite (FS.ite (FS.ite (FS.nmV fun v25 =>
       FS.ob (Ft.rf _ _) (fS_F_isBad _ ) (le_fs0_fs143) fun r27 s26 h_s26 =>
       FS.ite (FS.ob h_s26 (fS_F_fit _ _ ) (le_fs1_fs143) fun r31 s30 h_s30 =>
        FS.ob h_s30 (fS_F_back _ _ ) (le_fs32_fs143) fun r35 s34 h_s34 =>
        FS.ob h_s34 (fS_F_isBad _ ) (le_fs0_fs143) fun r39 s38 h_s38 =>
        FS.ite (FS.ob h_s38 (fS_F_times _ _ _ ) (le_fs1_fs143) fun r43 s42 h_s42 =>
         FS.some h_s42)
        (FS.some h_s38))
       (FS.ob h_s26 (fS_F_back _ _ ) (le_fs32_fs143) fun r48 s47 h_s47 =>
        FS.ob h_s47 (fS_F_isBad _ ) (le_fs0_fs143) fun r52 s51 h_s51 =>
        FS.ite (FS.ob h_s51 (fS_F_times _ _ _ ) (le_fs1_fs143) fun r56 s55 h_s55 =>
         FS.some h_s55)
        (FS.some h_s51)))
      (FS.none))
     (FS.none))
    (FS.none)
theorem fS_F_slope (x1 : Int32) (x2 : Int32) (σ : TS)  : FS fs144 σ (F_slope x1 x2 σ) := by
  unfold F_slope
  exact FS.ob (Ft.rf _ _) (fS_F_keep _ _ ) (le_fs142_fs144) fun r2 s1 h_s1 =>
    FS.ite (FS.ite (FS.ite (FS.nmV fun v8 =>
       FS.ite (FS.ite (FS.ite (FS.ob h_s1 (fS_F_fit _ _ ) (le_fs1_fs144) fun r13 s12 h_s12 =>
          FS.ite (FS.nmT (Ft.p_tsA h_s12 rfl) fun s17 h_s17 =>
           FS.ob h_s17 (fS_F_isBad _ ) (le_fs0_fs144) fun r19 s18 h_s18 =>
           FS.ite (FS.ob h_s18 (fS_F_solveBlocks _ ) (le_fs88_fs144) fun r62 s61 h_s61 =>
            FS.call h_s61 (fS_J_slope_64 _ _ _ ) (le_fs143_fs144))
           (FS.call h_s18 (fS_J_slope_64 _ _ _ ) (le_fs143_fs144)))
          (FS.none))
         (FS.none))
        (FS.none))
       (FS.none))
      (FS.none))
     (FS.none))
    (FS.none)
theorem fS_F_linear (x1 : Int32) (x2 : Int32) (σ : TS)  : FS fs145 σ (F_linear x1 x2 σ) := by
  unfold F_linear
  exact FS.ite (FS.some (Ft.rf _ _))
    (FS.ite (FS.ite (FS.some (Ft.rf _ _))
      (FS.ite (FS.some (Ft.rf _ _))
       (FS.ite (FS.some (Ft.rf _ _))
        (FS.ite (FS.nmT (Ft.p_tsI (Ft.rf _ _) rfl) fun s3 h_s3 =>
          FS.nmV fun v4 =>
          FS.ob h_s3 (fS_F_slope _ _ _ ) (le_fs144_fs145) fun r6 s5 h_s5 =>
          FS.nmT (Ft.p_tsI h_s5 rfl) fun s9 h_s9 =>
          FS.ob h_s9 (fS_F_isBad _ ) (le_fs0_fs145) fun r11 s10 h_s10 =>
          FS.ite (FS.some h_s10)
          (FS.ob h_s10 (fS_F_faulted _ ) (le_fs97_fs145) fun r15 s14 h_s14 =>
           FS.some h_s14))
         (FS.some (Ft.rf _ _))))))
     (FS.some (Ft.rf _ _)))
theorem fS_F_newName (σ : TS)  : FS fs19 σ (F_newName σ) := by
  unfold F_newName
  exact FS.nmV fun v1 =>
    FS.nmV fun v2 =>
    FS.ob (Ft.rf _ _) (fS_F_passName _ ) (FtR fs19) fun r4 s3 h_s3 =>
    FS.ob h_s3 (fS_F_isBad _ ) (le_fs0_fs19) fun r8 s7 h_s7 =>
    FS.ite (FS.ob h_s7 (fS_F_function _ _ ) (le_fs0_fs19) fun r12 s11 h_s11 =>
     FS.ite (FS.ob h_s11 (fS_F_bad _ _ _ ) (le_fs1_fs19) fun r16 s15 h_s15 =>
      FS.some h_s15)
     (FS.ob h_s11 (fS_F_classOf _ _ ) (le_fs0_fs19) fun r20 s19 h_s19 =>
      FS.ite (FS.some h_s19)
      (FS.ob h_s19 (fS_F_bad _ _ _ ) (le_fs1_fs19) fun r24 s23 h_s23 =>
       FS.some h_s23)))
    (FS.some h_s7)
theorem fS_L_readFunction_53   : ∀ (n : Nat) (x3 : Int64) (σ : TS), FS fs146 σ (L_readFunction_53  n x3 σ)
  | 0, _, _ => FS.none
  | n + 1, x3, σ => by
    rw [L_readFunction_53]
    exact FS.ob (Ft.rf _ _) (fS_F_isBad _ ) (le_fs0_fs146) fun r21 s20 h_s20 =>
      FS.ite (FS.nmV fun v24 =>
       FS.ob h_s20 (fS_F_passName _ ) (le_fs19_fs146) fun r26 s25 h_s25 =>
       FS.ob h_s25 (fS_F_isBad _ ) (le_fs0_fs146) fun r30 s29 h_s29 =>
       FS.ite (FS.ob h_s29 (fS_F_formal _ _ ) (le_fs0_fs146) fun r34 s33 h_s33 =>
        FS.ite (FS.ite (FS.ob h_s33 (fS_F_bad _ _ _ ) (le_fs1_fs146) fun r55 s54 h_s54 =>
          FS.some h_s54)
         (FS.ite (FS.nmT (Ft.p_tsB h_s33 rfl) fun s38 h_s38 =>
           FS.nmT (Ft.p_tsI h_s38 rfl) fun s39 h_s39 =>
           FS.ob h_s39 (fS_F_isSign _ _ ) (le_fs0_fs146) fun r41 s40 h_s40 =>
           FS.ite (FS.some h_s40)
           (FS.ite (FS.ob h_s40 (fS_F_cantStand _ ) (le_fs1_fs146) fun r49 s48 h_s48 =>
             FS.some h_s48)
            (FS.ob h_s40 (fS_F_next _ ) (le_fs16_fs146) fun r45 s44 h_s44 =>
             FS.call h_s44 (fS_L_readFunction_53  _ _ _) (FtR fs146))))
          (FS.none)))
        (FS.ob h_s33 (fS_F_bad _ _ _ ) (le_fs1_fs146) fun r60 s59 h_s59 =>
         FS.some h_s59))
       (FS.some h_s29))
      (FS.some h_s20)
theorem fS_J_readFunction_174 (x3 : Int64) (σ : TS)  : FS fs147 σ (J_readFunction_174 x3 σ) := by
  unfold J_readFunction_174
  exact FS.ob (Ft.rf _ _) (fS_F_pass _ _ ) (le_fs19_fs147) fun r70 s69 h_s69 =>
    FS.ob h_s69 (fS_F_pass _ _ ) (le_fs19_fs147) fun r74 s73 h_s73 =>
    FS.nmT (Ft.p_tsI h_s73 rfl) fun s77 h_s77 =>
    FS.ob h_s77 (fS_F_expression  _) (le_fs26_fs147) fun r79 s78 h_s78 =>
    FS.nmT (Ft.p_tsI h_s78 rfl) fun s82 h_s82 =>
    FS.ob h_s82 (fS_F_pass _ _ ) (le_fs19_fs147) fun r84 s83 h_s83 =>
    FS.ob h_s83 (fS_F_isBad _ ) (le_fs0_fs147) fun r88 s87 h_s87 =>
    FS.ite (FS.ite (FS.nmT (Ft.p_tsB h_s87 rfl) fun s92 h_s92 =>
      FS.ite (FS.nmT (Ft.p_tsA h_s92 rfl) fun s94 h_s94 =>
       FS.ite (FS.nmT (Ft.p_tsA h_s94 rfl) fun s96 h_s96 =>
        FS.nmT (Ft.p_tsI h_s96 rfl) fun s97 h_s97 =>
        FS.nmT (Ft.p_tsI h_s97 rfl) fun s98 h_s98 =>
        FS.some h_s98)
       (FS.none))
      (FS.none))
     (FS.none))
    (FS.some h_s87)
theorem fS_J_readFunction_42 (x3 : Int64) (σ : TS)  : FS fs148 σ (J_readFunction_42 x3 σ) := by
  unfold J_readFunction_42
  exact FS.nmT (Ft.p_tsI (Ft.rf _ _) rfl) fun s15 h_s15 =>
    FS.ob h_s15 (fS_F_pass _ _ ) (le_fs19_fs148) fun r17 s16 h_s16 =>
    FS.ob h_s16 (fS_L_readFunction_53  _ _ _) (le_fs146_fs148) fun q66 s67 h_s67 =>
    FS.call h_s67 (fS_J_readFunction_174 _ _ ) (le_fs147_fs148)
theorem fS_F_readFunction (σ : TS)  : FS fs148 σ (F_readFunction σ) := by
  unfold F_readFunction
  exact FS.nmV fun v1 =>
    FS.ob (Ft.rf _ _) (fS_F_next _ ) (le_fs16_fs148) fun r3 s2 h_s2 =>
    FS.nmV fun v6 =>
    FS.ob h_s2 (fS_F_newName _ ) (le_fs19_fs148) fun r8 s7 h_s7 =>
    FS.ob h_s7 (fS_F_isBad _ ) (le_fs0_fs148) fun r12 s11 h_s11 =>
    FS.ite (FS.ite (FS.ob h_s11 (fS_F_bad _ _ _ ) (le_fs1_fs148) fun r102 s101 h_s101 =>
      FS.call h_s101 (fS_J_readFunction_42 _ _ ) (FtR fs148))
     (FS.call h_s11 (fS_J_readFunction_42 _ _ ) (FtR fs148)))
    (FS.call h_s11 (fS_J_readFunction_42 _ _ ) (FtR fs148))
theorem fS_L_readClass_125   : ∀ (n : Nat) (x1 : Int32) (x5 : Int32) (σ : TS), FS fs71 σ (L_readClass_125  n x1 x5 σ)
  | 0, _, _, _ => FS.none
  | n + 1, x1, x5, σ => by
    rw [L_readClass_125]
    exact FS.ob (Ft.rf _ _) (fS_F_isBad _ ) (le_fs0_fs71) fun r36 s35 h_s35 =>
      FS.ite (FS.ob h_s35 (fS_F_isWord _ _ ) (le_fs0_fs71) fun r40 s39 h_s39 =>
       FS.ite (FS.ite (FS.ob h_s39 (fS_F_isWord _ _ ) (le_fs0_fs71) fun r48 s47 h_s47 =>
         FS.ite (FS.ob h_s47 (fS_F_element _ _ ) (FtR fs71) fun r52 s51 h_s51 =>
          FS.call h_s51 (fS_L_readClass_125  _ _ _ _) (FtR fs71))
         (FS.some h_s47))
        (FS.ob h_s39 (fS_F_element _ _ ) (FtR fs71) fun r44 s43 h_s43 =>
         FS.call h_s43 (fS_L_readClass_125  _ _ _ _) (FtR fs71)))
       (FS.some h_s39))
      (FS.some h_s35)
theorem fS_J_readClass_165 (x5 : Int32) (σ : TS)  : FS fs149 σ (J_readClass_165 x5 σ) := by
  unfold J_readClass_165
  exact FS.ob (Ft.rf _ _) (fS_F_isBad _ ) (le_fs0_fs149) fun r63 s62 h_s62 =>
    FS.ite (FS.ob h_s62 (fS_F_isWord _ _ ) (le_fs0_fs149) fun r75 s74 h_s74 =>
     FS.ite (FS.ob h_s74 (fS_F_passWord _ _ ) (le_fs19_fs149) fun r79 s78 h_s78 =>
      FS.ob h_s78 (fS_F_pass _ _ ) (le_fs19_fs149) fun r83 s82 h_s82 =>
      FS.some h_s82)
     (FS.ob h_s74 (fS_F_next _ ) (le_fs16_fs149) fun r87 s86 h_s86 =>
      FS.ob h_s86 (fS_F_equations  _ _) (le_fs84_fs149) fun r91 s90 h_s90 =>
      FS.ite (FS.nmT (Ft.p_tsA h_s90 rfl) fun s95 h_s95 =>
       FS.ob h_s95 (fS_F_passWord _ _ ) (le_fs19_fs149) fun r97 s96 h_s96 =>
       FS.ob h_s96 (fS_F_pass _ _ ) (le_fs19_fs149) fun r101 s100 h_s100 =>
       FS.some h_s100)
      (FS.none)))
    (FS.ob h_s62 (fS_F_passWord _ _ ) (le_fs19_fs149) fun r67 s66 h_s66 =>
     FS.ob h_s66 (fS_F_pass _ _ ) (le_fs19_fs149) fun r71 s70 h_s70 =>
     FS.some h_s70)
theorem fS_J_readClass_53 (x1 : Int32) (x3 : Int64) (σ : TS)  : FS fs150 σ (J_readClass_53 x1 x3 σ) := by
  unfold J_readClass_53
  exact FS.ob (Ft.rf _ _) (fS_F_isBad _ ) (le_fs0_fs150) fun r19 s18 h_s18 =>
    FS.ite (FS.nmV fun v22 =>
     FS.ite (FS.nmT (Ft.p_tsB h_s18 rfl) fun s24 h_s24 =>
      FS.ite (FS.nmT (Ft.p_tsA h_s24 rfl) fun s26 h_s26 =>
       FS.ite (FS.nmT (Ft.p_tsA h_s26 rfl) fun s28 h_s28 =>
        FS.ite (FS.nmT (Ft.p_tsA h_s28 rfl) fun s30 h_s30 =>
         FS.ite (FS.nmT (Ft.p_tsA h_s30 rfl) fun s32 h_s32 =>
          FS.nmT (Ft.p_tsI h_s32 rfl) fun s33 h_s33 =>
          FS.nmT (Ft.p_tsI h_s33 rfl) fun s34 h_s34 =>
          FS.ob h_s34 (fS_L_readClass_125  _ _ _ _) (le_fs71_fs150) fun q59 s60 h_s60 =>
          FS.call h_s60 (fS_J_readClass_165 _ _ ) (le_fs149_fs150))
         (FS.none))
        (FS.none))
       (FS.none))
      (FS.none))
     (FS.none))
    (FS.some h_s18)
theorem fS_J_readClass_15 (y0 : Int32) (σ : TS)  : FS fs150 σ (J_readClass_15 y0 σ) := by
  unfold J_readClass_15
  exact FS.ob (Ft.rf _ _) (fS_F_next _ ) (le_fs16_fs150) fun r6 s5 h_s5 =>
    FS.nmV fun v9 =>
    FS.ob h_s5 (fS_F_newName _ ) (le_fs19_fs150) fun r11 s10 h_s10 =>
    FS.ob h_s10 (fS_F_isBad _ ) (le_fs0_fs150) fun r15 s14 h_s14 =>
    FS.ite (FS.ite (FS.ob h_s14 (fS_F_bad _ _ _ ) (le_fs1_fs150) fun r109 s108 h_s108 =>
      FS.call h_s108 (fS_J_readClass_53 _ _ _ ) (FtR fs150))
     (FS.call h_s14 (fS_J_readClass_53 _ _ _ ) (FtR fs150)))
    (FS.call h_s14 (fS_J_readClass_53 _ _ _ ) (FtR fs150))
theorem fS_F_readClass (σ : TS)  : FS fs150 σ (F_readClass σ) := by
  unfold F_readClass
  exact FS.ob (Ft.rf _ _) (fS_F_isWord _ _ ) (le_fs0_fs150) fun r2 s1 h_s1 =>
    FS.ite (FS.call h_s1 (fS_J_readClass_15 _ _ ) (FtR fs150))
    (FS.call h_s1 (fS_J_readClass_15 _ _ ) (FtR fs150))
theorem fS_L_load_82   : ∀ (n : Nat) (x1 : Int32) (x2 : Int32) (x3 : Int32) (x4 : Int32) (x5 : Int32) (x6 : Int32) (x7 : Int32) (σ : TS), FS fs151 σ (L_load_82  n x1 x2 x3 x4 x5 x6 x7 σ)
  | 0, _, _, _, _, _, _, _, _ => FS.none
  | n + 1, x1, x2, x3, x4, x5, x6, x7, σ => by
    rw [L_load_82]
    exact FS.ob (Ft.rf _ _) (fS_F_isBad _ ) (le_fs0_fs151) fun r24 s23 h_s23 =>
      FS.ite (FS.ite (FS.some h_s23)
       (FS.ob h_s23 (fS_F_isWord _ _ ) (le_fs0_fs151) fun r28 s27 h_s27 =>
        FS.ite (FS.ob h_s27 (fS_F_isWord _ _ ) (le_fs0_fs151) fun r32 s31 h_s31 =>
         FS.ite (FS.ob h_s31 (fS_F_isWord _ _ ) (le_fs0_fs151) fun r40 s39 h_s39 =>
          FS.ite (FS.ob h_s39 (fS_F_cantStand _ ) (le_fs1_fs151) fun r44 s43 h_s43 =>
           FS.call h_s43 (fS_L_load_82  _ _ _ _ _ _ _ _ _) (FtR fs151))
          (FS.ob h_s39 (fS_F_readClass _ ) (le_fs150_fs151) fun r48 s47 h_s47 =>
           FS.call h_s47 (fS_L_load_82  _ _ _ _ _ _ _ _ _) (FtR fs151)))
         (FS.ob h_s31 (fS_F_readClass _ ) (le_fs150_fs151) fun r36 s35 h_s35 =>
          FS.call h_s35 (fS_L_load_82  _ _ _ _ _ _ _ _ _) (FtR fs151)))
        (FS.ob h_s27 (fS_F_readFunction _ ) (le_fs148_fs151) fun r54 s53 h_s53 =>
         FS.call h_s53 (fS_L_load_82  _ _ _ _ _ _ _ _ _) (FtR fs151))))
      (FS.some h_s23)
theorem fS_J_load_181 (x1 : Int32) (x2 : Int32) (x3 : Int32) (x4 : Int32) (x5 : Int32) (x6 : Int32) (x7 : Int32) (σ : TS)  : FS fs152 σ (J_load_181 x1 x2 x3 x4 x5 x6 x7 σ) := by
  unfold J_load_181
  exact FS.ob (Ft.rf _ _) (fS_F_isBad _ ) (le_fs0_fs152) fun r68 s67 h_s67 =>
    FS.ite (FS.nmT (Ft.p_tsI h_s67 rfl) fun s71 h_s71 =>
     FS.some h_s71)
    (FS.nmT (Ft.p_tsI h_s67 rfl) fun s72 h_s72 =>
     FS.nmT (Ft.p_tsI h_s72 rfl) fun s73 h_s73 =>
     FS.nmT (Ft.p_tsI h_s73 rfl) fun s74 h_s74 =>
     FS.nmT (Ft.p_tsI h_s74 rfl) fun s75 h_s75 =>
     FS.nmT (Ft.p_tsI h_s75 rfl) fun s76 h_s76 =>
     FS.nmT (Ft.p_tsI h_s76 rfl) fun s77 h_s77 =>
     FS.nmT (Ft.p_tsI h_s77 rfl) fun s78 h_s78 =>
     FS.ob h_s78 (fS_F_faulted _ ) (le_fs97_fs152) fun r80 s79 h_s79 =>
     FS.some h_s79)
theorem fS_J_load_147 (x1 : Int32) (x2 : Int32) (x3 : Int32) (x4 : Int32) (x5 : Int32) (x6 : Int32) (x7 : Int32) (σ : TS)  : FS fs153 σ (J_load_147 x1 x2 x3 x4 x5 x6 x7 σ) := by
  unfold J_load_147
  exact FS.ob (Ft.rf _ _) (fS_F_isBad _ ) (le_fs0_fs153) fun r64 s63 h_s63 =>
    FS.ite (FS.ite (FS.call h_s63 (fS_J_load_181 _ _ _ _ _ _ _ _ ) (le_fs152_fs153))
     (FS.ob h_s63 (fS_F_bad _ _ _ ) (le_fs1_fs153) fun r85 s84 h_s84 =>
      FS.call h_s84 (fS_J_load_181 _ _ _ _ _ _ _ _ ) (le_fs152_fs153)))
    (FS.call h_s63 (fS_J_load_181 _ _ _ _ _ _ _ _ ) (le_fs152_fs153))
theorem fS_F_load (σ : TS)  : FS fs154 σ (F_load σ) := by
  unfold F_load
  exact FS.ob (Ft.rf _ _) (fS_F_takeTape _ ) (le_fs110_fs154) fun r2 s1 h_s1 =>
    FS.nmT (Ft.p_tsI h_s1 rfl) fun s5 h_s5 =>
    FS.nmT (Ft.p_tsI h_s5 rfl) fun s6 h_s6 =>
    FS.nmT (Ft.p_tsI h_s6 rfl) fun s7 h_s7 =>
    FS.nmT (Ft.p_tsI h_s7 rfl) fun s8 h_s8 =>
    FS.nmT (Ft.p_tsI h_s8 rfl) fun s9 h_s9 =>
    FS.nmT (Ft.p_tsI h_s9 rfl) fun s10 h_s10 =>
    FS.nmT (Ft.p_tsI h_s10 rfl) fun s11 h_s11 =>
    FS.nmV fun v12 =>
    FS.nmV fun v13 =>
    FS.nmV fun v14 =>
    FS.nmV fun v15 =>
    FS.nmV fun v16 =>
    FS.nmV fun v17 =>
    FS.nmV fun v18 =>
    FS.ob h_s11 (fS_F_next _ ) (le_fs16_fs154) fun r20 s19 h_s19 =>
    FS.ob h_s19 (fS_L_load_82  _ _ _ _ _ _ _ _ _) (le_fs151_fs154) fun q60 s61 h_s61 =>
    FS.call h_s61 (fS_J_load_147 _ _ _ _ _ _ _ _ ) (le_fs153_fs154)
theorem fS_L_walk_59 (cf_walk : Int32 → TS → Option (Unit × TS)) (hcf_walk : ∀ (a0 : Int32) (a1 : TS), FS fs155 a1 (cf_walk a0 a1)) : ∀ (n : Nat) (x1 : Int32) (x2 : Int32) (σ : TS), FS fs155 σ (L_walk_59 cf_walk n x1 x2 σ)
  | 0, _, _, _ => FS.none
  | n + 1, x1, x2, σ => by
    rw [L_walk_59]
    exact FS.ite (FS.some (Ft.rf _ _))
      (FS.ob (Ft.rf _ _) (fS_F_isIn _ _ _ ) (le_fs0_fs155) fun r12 s11 h_s11 =>
       FS.ite (FS.nmV fun v15 =>
        FS.call h_s11 (fS_L_walk_59 _ hcf_walk _ _ _ _) (FtR fs155))
       (FS.ite (FS.ite (FS.nmV fun v43 =>
          FS.call h_s11 (fS_L_walk_59 _ hcf_walk _ _ _ _) (FtR fs155))
         (FS.ite (FS.nmV fun v18 =>
           FS.ite (FS.nmV fun v19 =>
            FS.call h_s11 (fS_L_walk_59 _ hcf_walk _ _ _ _) (FtR fs155))
           (FS.ite (FS.nmV fun v40 =>
             FS.call h_s11 (fS_L_walk_59 _ hcf_walk _ _ _ _) (FtR fs155))
            (FS.ite (FS.ite (FS.ite (FS.ite (FS.nmV fun v23 =>
                 FS.call h_s11 (fS_L_walk_59 _ hcf_walk _ _ _ _) (FtR fs155))
                (FS.ite (FS.ite (FS.ite (FS.nmT (Ft.p_tsA h_s11 rfl) fun s27 h_s27 =>
                    FS.nmV fun v28 =>
                    FS.call h_s27 (fS_L_walk_59 _ hcf_walk _ _ _ _) (FtR fs155))
                   (FS.none))
                  (FS.none))
                 (FS.none)))
               (FS.none))
              (FS.ob h_s11 (hcf_walk _ _) (FtR fs155) fun r31 s30 h_s30 =>
               FS.ite (FS.ite (FS.ite (FS.nmT (Ft.p_tsA h_s30 rfl) fun s37 h_s37 =>
                  FS.nmV fun v38 =>
                  FS.call h_s37 (fS_L_walk_59 _ hcf_walk _ _ _ _) (FtR fs155))
                 (FS.none))
                (FS.none))
               (FS.none)))
             (FS.none))))
          (FS.none)))
        (FS.none)))
theorem fS_B_walk (cf_walk : Int32 → TS → Option (Unit × TS)) (x1 : Int32) (σ : TS) (hcf_walk : ∀ (a0 : Int32) (a1 : TS), FS fs155 a1 (cf_walk a0 a1)) : FS fs155 σ (B_walk cf_walk x1 σ) := by
  unfold B_walk
  exact FS.ite (FS.nmT (Ft.p_tsA (Ft.rf _ _) rfl) fun s2 h_s2 =>
     FS.ite (FS.nmT (Ft.p_tsA h_s2 rfl) fun s4 h_s4 =>
      FS.nmT (Ft.p_tsI h_s4 rfl) fun s5 h_s5 =>
      FS.ite (FS.nmT (Ft.p_tsA h_s5 rfl) fun s7 h_s7 =>
       FS.nmT (Ft.p_tsI h_s7 rfl) fun s8 h_s8 =>
       FS.ite (FS.nmT (Ft.p_tsA h_s8 rfl) fun s10 h_s10 =>
        FS.ob h_s10 (fS_L_walk_59 _ hcf_walk _ _ _ _) (FtR fs155) fun q47 s48 h_s48 =>
        FS.ite (FS.ite (FS.ite (FS.ob h_s48 (fS_F_endBlock _ _ ) (le_fs81_fs155) fun r53 s52 h_s52 =>
           FS.some h_s52)
          (FS.some h_s48))
         (FS.none))
        (FS.none))
       (FS.none))
      (FS.none))
     (FS.none))
    (FS.none)
theorem fS_G_walk : ∀ d : Nat, (∀ (a0 : Int32) (a1 : TS), FS fs155 a1 ((G_walk d) a0 a1)) := by
  intro d
  induction d with
  | zero => exact fun _ _ => FS.none
  | succ d ih => exact fun a0 a1 => fS_B_walk _ a0 a1 (fun b0 b1 => ih b0 b1)
theorem fS_F_walk (a0 : Int32) (a1 : TS) : FS fs155 a1 (F_walk a0 a1) := (fS_G_walk 300) a0 a1
theorem fS_L_makeBlocks_7   : ∀ (n : Nat) (x1 : Int32) (σ : TS), FS fs156 σ (L_makeBlocks_7  n x1 σ)
  | 0, _, _ => FS.none
  | n + 1, x1, σ => by
    rw [L_makeBlocks_7]
    exact FS.ite (FS.some (Ft.rf _ _))
      (FS.ite (FS.nmT (Ft.p_tsA (Ft.rf _ _) rfl) fun s3 h_s3 =>
        FS.nmV fun v4 =>
        FS.call h_s3 (fS_L_makeBlocks_7  _ _ _) (FtR fs156))
       (FS.none))
theorem fS_L_makeBlocks_30   : ∀ (n : Nat) (x1 : Int32) (σ : TS), FS fs44 σ (L_makeBlocks_30  n x1 σ)
  | 0, _, _ => FS.none
  | n + 1, x1, σ => by
    rw [L_makeBlocks_30]
    exact FS.ite (FS.some (Ft.rf _ _))
      (FS.ob (Ft.rf _ _) (fS_F_isBad _ ) (le_fs0_fs44) fun r10 s9 h_s9 =>
       FS.ite (FS.ite (FS.ite (FS.ob h_s9 (fS_F_unmark _ ) (le_fs42_fs44) fun r16 s15 h_s15 =>
          FS.ob h_s15 (fS_F_attempt  _ _) (le_fs27_fs44) fun r20 s19 h_s19 =>
          FS.ite (FS.ob h_s19 (fS_F_bad _ _ _ ) (le_fs1_fs44) fun r25 s24 h_s24 =>
           FS.nmV fun v28 =>
           FS.call h_s24 (fS_L_makeBlocks_30  _ _ _) (FtR fs44))
          (FS.nmV fun v23 =>
           FS.call h_s19 (fS_L_makeBlocks_30  _ _ _) (FtR fs44)))
         (FS.nmV fun v30 =>
          FS.call h_s9 (fS_L_makeBlocks_30  _ _ _) (FtR fs44)))
        (FS.none))
       (FS.some h_s9))
theorem fS_L_makeBlocks_112   : ∀ (n : Nat) (x1 : Int32) (σ : TS), FS fs157 σ (L_makeBlocks_112  n x1 σ)
  | 0, _, _ => FS.none
  | n + 1, x1, σ => by
    rw [L_makeBlocks_112]
    exact FS.ite (FS.some (Ft.rf _ _))
      (FS.ite (FS.nmT (Ft.p_tsA (Ft.rf _ _) rfl) fun s46 h_s46 =>
        FS.ite (FS.nmT (Ft.p_tsA h_s46 rfl) fun s48 h_s48 =>
         FS.ite (FS.nmT (Ft.p_tsA h_s48 rfl) fun s50 h_s50 =>
          FS.nmV fun v51 =>
          FS.call h_s50 (fS_L_makeBlocks_112  _ _ _) (FtR fs157))
         (FS.none))
        (FS.none))
       (FS.none))
theorem fS_L_makeBlocks_149   : ∀ (n : Nat) (x1 : Int32) (σ : TS), FS fs155 σ (L_makeBlocks_149  n x1 σ)
  | 0, _, _ => FS.none
  | n + 1, x1, σ => by
    rw [L_makeBlocks_149]
    exact FS.ite (FS.some (Ft.rf _ _))
      (FS.ob (Ft.rf _ _) (fS_F_isBad _ ) (le_fs0_fs155) fun r57 s56 h_s56 =>
       FS.ite (FS.ite (FS.ite (FS.ite (FS.ite (FS.nmV fun v64 =>
            FS.call h_s56 (fS_L_makeBlocks_149  _ _ _) (FtR fs155))
           (FS.ob h_s56 (fS_F_walk  _ _) (FtR fs155) fun r66 s65 h_s65 =>
            FS.nmV fun v69 =>
            FS.call h_s65 (fS_L_makeBlocks_149  _ _ _) (FtR fs155)))
          (FS.none))
         (FS.nmV fun v62 =>
          FS.call h_s56 (fS_L_makeBlocks_149  _ _ _) (FtR fs155)))
        (FS.none))
       (FS.some h_s56))
theorem fS_J_makeBlocks_82 (σ : TS)  : FS fs155 σ (J_makeBlocks_82 σ) := by
  unfold J_makeBlocks_82
  exact FS.ob (Ft.rf _ _) (fS_F_isBad _ ) (le_fs0_fs155) fun r38 s37 h_s37 =>
    FS.ite (FS.nmT (Ft.p_tsI h_s37 rfl) fun s41 h_s41 =>
     FS.nmT (Ft.p_tsI h_s41 rfl) fun s42 h_s42 =>
     FS.nmT (Ft.p_tsI h_s42 rfl) fun s43 h_s43 =>
     FS.nmT (Ft.p_tsI h_s43 rfl) fun s44 h_s44 =>
     FS.ob h_s44 (fS_L_makeBlocks_112  _ _ _) (le_fs157_fs155) fun q53 s54 h_s54 =>
     FS.ob h_s54 (fS_L_makeBlocks_149  _ _ _) (FtR fs155) fun q74 s75 h_s75 =>
     FS.some h_s75)
    (FS.some h_s37)
theorem fS_F_makeBlocks (σ : TS)  : FS fs158 σ (F_makeBlocks σ) := by
  unfold F_makeBlocks
  exact FS.nmT (Ft.p_tsI (Ft.rf _ _) rfl) fun s1 h_s1 =>
    FS.ob h_s1 (fS_L_makeBlocks_7  _ _ _) (le_fs156_fs158) fun q6 s7 h_s7 =>
    FS.ob h_s7 (fS_L_makeBlocks_30  _ _ _) (le_fs44_fs158) fun q34 s35 h_s35 =>
    FS.call h_s35 (fS_J_makeBlocks_82 _ ) (le_fs155_fs158)
theorem fS_L_makeUnknowns_12   : ∀ (n : Nat) (x1 : Int32) (σ : TS), FS fs159 σ (L_makeUnknowns_12  n x1 σ)
  | 0, _, _ => FS.none
  | n + 1, x1, σ => by
    rw [L_makeUnknowns_12]
    exact FS.ite (FS.some (Ft.rf _ _))
      (FS.ite (FS.nmT (Ft.p_tsA (Ft.rf _ _) rfl) fun s4 h_s4 =>
        FS.nmV fun v5 =>
        FS.call h_s4 (fS_L_makeUnknowns_12  _ _ _) (FtR fs159))
       (FS.none))
theorem fS_L_makeUnknowns_35   : ∀ (n : Nat) (x1 : Int32) (σ : TS), FS fs160 σ (L_makeUnknowns_35  n x1 σ)
  | 0, _, _ => FS.none
  | n + 1, x1, σ => by
    rw [L_makeUnknowns_35]
    exact FS.ite (FS.some (Ft.rf _ _))
      (FS.ite (FS.ite (FS.ite (FS.ite (FS.ob (Ft.rf _ _) (fS_F_newUnknown _ _ _ _ ) (le_fs64_fs160) fun r14 s13 h_s13 =>
           FS.ite (FS.nmT (Ft.p_tsA h_s13 rfl) fun s18 h_s18 =>
            FS.nmV fun v19 =>
            FS.call h_s18 (fS_L_makeUnknowns_35  _ _ _) (FtR fs160))
           (FS.none))
          (FS.nmV fun v20 =>
           FS.call (Ft.rf _ _) (fS_L_makeUnknowns_35  _ _ _) (FtR fs160)))
         (FS.none))
        (FS.nmV fun v11 =>
         FS.call (Ft.rf _ _) (fS_L_makeUnknowns_35  _ _ _) (FtR fs160)))
       (FS.none))
theorem fS_L_makeUnknowns_86   : ∀ (n : Nat) (x1 : Int32) (σ : TS), FS fs1 σ (L_makeUnknowns_86  n x1 σ)
  | 0, _, _ => FS.none
  | n + 1, x1, σ => by
    rw [L_makeUnknowns_86]
    exact FS.ite (FS.some (Ft.rf _ _))
      (FS.ob (Ft.rf _ _) (fS_F_isBad _ ) (le_fs0_fs1) fun r28 s27 h_s27 =>
       FS.ite (FS.ite (FS.ite (FS.nmV fun v32 =>
          FS.call h_s27 (fS_L_makeUnknowns_86  _ _ _) (FtR fs1))
         (FS.ob h_s27 (fS_F_isSomewhere _ _ _ ) (le_fs0_fs1) fun r34 s33 h_s33 =>
          FS.ite (FS.ob h_s33 (fS_F_bad _ _ _ ) (FtR fs1) fun r39 s38 h_s38 =>
           FS.nmV fun v42 =>
           FS.call h_s38 (fS_L_makeUnknowns_86  _ _ _) (FtR fs1))
          (FS.nmV fun v37 =>
           FS.call h_s33 (fS_L_makeUnknowns_86  _ _ _) (FtR fs1))))
        (FS.none))
       (FS.some h_s27))
theorem fS_L_makeUnknowns_170   : ∀ (n : Nat) (x3 : Int32) (σ : TS), FS fs64 σ (L_makeUnknowns_170  n x3 σ)
  | 0, _, _ => FS.none
  | n + 1, x3, σ => by
    rw [L_makeUnknowns_170]
    exact FS.ite (FS.some (Ft.rf _ _))
      (FS.ob (Ft.rf _ _) (fS_F_isBad _ ) (le_fs0_fs64) fun r57 s56 h_s56 =>
       FS.ite (FS.ite (FS.ite (FS.nmV fun v61 =>
          FS.call h_s56 (fS_L_makeUnknowns_170  _ _ _) (FtR fs64))
         (FS.ob h_s56 (fS_F_isSomewhere _ _ _ ) (le_fs0_fs64) fun r63 s62 h_s62 =>
          FS.ite (FS.nmV fun v66 =>
           FS.call h_s62 (fS_L_makeUnknowns_170  _ _ _) (FtR fs64))
          (FS.ite (FS.ob h_s62 (fS_F_newUnknown _ _ _ _ ) (FtR fs64) fun r69 s68 h_s68 =>
            FS.nmV fun v72 =>
            FS.call h_s68 (fS_L_makeUnknowns_170  _ _ _) (FtR fs64))
           (FS.none))))
        (FS.none))
       (FS.some h_s56))
theorem fS_J_makeUnknowns_168 (σ : TS)  : FS fs64 σ (J_makeUnknowns_168 σ) := by
  unfold J_makeUnknowns_168
  exact FS.ob (Ft.rf _ _) (fS_L_makeUnknowns_170  _ _ _) (FtR fs64) fun q77 s78 h_s78 =>
    FS.some h_s78
theorem fS_J_makeUnknowns_132 (σ : TS)  : FS fs64 σ (J_makeUnknowns_132 σ) := by
  unfold J_makeUnknowns_132
  exact FS.nmV fun v50 =>
    FS.nmV fun v51 =>
    FS.ob (Ft.rf _ _) (fS_F_isBad _ ) (le_fs0_fs64) fun r53 s52 h_s52 =>
    FS.ite (FS.ite (FS.call h_s52 (fS_J_makeUnknowns_168 _ ) (FtR fs64))
     (FS.ob h_s52 (fS_F_bad _ _ _ ) (le_fs1_fs64) fun r82 s81 h_s81 =>
      FS.call h_s81 (fS_J_makeUnknowns_168 _ ) (FtR fs64)))
    (FS.call h_s52 (fS_J_makeUnknowns_168 _ ) (FtR fs64))
theorem fS_F_makeUnknowns (σ : TS)  : FS fs161 σ (F_makeUnknowns σ) := by
  unfold F_makeUnknowns
  exact FS.nmT (Ft.p_tsI (Ft.rf _ _) rfl) fun s1 h_s1 =>
    FS.nmT (Ft.p_tsI h_s1 rfl) fun s2 h_s2 =>
    FS.ob h_s2 (fS_L_makeUnknowns_12  _ _ _) (le_fs159_fs161) fun q7 s8 h_s8 =>
    FS.ob h_s8 (fS_L_makeUnknowns_35  _ _ _) (le_fs160_fs161) fun q24 s25 h_s25 =>
    FS.ob h_s25 (fS_L_makeUnknowns_86  _ _ _) (le_fs1_fs161) fun q47 s48 h_s48 =>
    FS.call h_s48 (fS_J_makeUnknowns_132 _ ) (le_fs64_fs161)
theorem fS_L_member_39   : ∀ (n : Nat) (x1 : Int32) (x2 : Int32) (x3 : Int32) (x4 : Int32) (σ : TS), FS fs0 σ (L_member_39  n x1 x2 x3 x4 σ)
  | 0, _, _, _, _, _ => FS.none
  | n + 1, x1, x2, x3, x4, σ => by
    rw [L_member_39]
    exact FS.ite (FS.some (Ft.rf _ _))
      (FS.ob (Ft.rf _ _) (fS_F_headOf _ _ ) (FtR fs0) fun r5 s4 h_s4 =>
       FS.ite (FS.ite (FS.ite (FS.some h_s4)
         (FS.nmV fun v9 =>
          FS.nmV fun v10 =>
          FS.call h_s4 (fS_L_member_39  _ _ _ _ _ _) (FtR fs0)))
        (FS.nmV fun v12 =>
         FS.call h_s4 (fS_L_member_39  _ _ _ _ _ _) (FtR fs0)))
       (FS.none))
theorem fS_F_member (x1 : Int32) (x2 : Int32) (σ : TS)  : FS fs0 σ (F_member x1 x2 σ) := by
  unfold F_member
  exact FS.ite (FS.some (Ft.rf _ _))
    (FS.ite (FS.some (Ft.rf _ _))
     (FS.ite (FS.some (Ft.rf _ _))
      (FS.ite (FS.ite (FS.nmV fun v3 =>
         FS.obS (Ft.rf _ _) (fS_L_member_39  _ _ _ _ _ _) (FtR fs0) (fun r19 s16 h_s16 => FS.some h_s16) fun q15 s16 h_s16 =>
         FS.some h_s16)
        (FS.none))
       (FS.some (Ft.rf _ _)))))
theorem fS_F_method (x1 : Int32) (x2 : Int32) (σ : TS)  : FS fs162 σ (F_method x1 x2 σ) := by
  unfold F_method
  exact FS.ite (FS.some (Ft.rf _ _))
    (FS.ite (FS.some (Ft.rf _ _))
     (FS.ite (FS.some (Ft.rf _ _))
      (FS.ite (FS.nmT (Ft.p_tsI (Ft.rf _ _) rfl) fun s1 h_s1 =>
        FS.nmT (Ft.p_tsI h_s1 rfl) fun s2 h_s2 =>
        FS.some h_s2)
       (FS.some (Ft.rf _ _)))))
theorem fS_L_move_241_2   : ∀ (n : Nat) (x1 : Int32) (x3 : Int32) (σ : TS), FS fs85 σ (L_move_241_2  n x1 x3 σ)
  | 0, _, _, _ => FS.none
  | n + 1, x1, x3, σ => by
    rw [L_move_241_2]
    exact FS.ite (FS.some (Ft.rf _ _))
      (FS.ob (Ft.rf _ _) (fS_F_isBad _ ) (le_fs0_fs85) fun r2 s1 h_s1 =>
       FS.ite (FS.ite (FS.ob h_s1 (fS_F_times _ _ _ ) (le_fs1_fs85) fun r7 s6 h_s6 =>
         FS.ob h_s6 (fS_F_isBad _ ) (le_fs0_fs85) fun r11 s10 h_s10 =>
         FS.ite (FS.ite (FS.ite (FS.ob h_s10 (fS_F_fit _ _ ) (le_fs1_fs85) fun r18 s17 h_s17 =>
            FS.ite (FS.nmT (Ft.p_tsA h_s17 rfl) fun s22 h_s22 =>
             FS.nmV fun v23 =>
             FS.call h_s22 (fS_L_move_241_2  _ _ _ _) (FtR fs85))
            (FS.none))
           (FS.none))
          (FS.none))
         (FS.nmV fun v14 =>
          FS.call h_s10 (fS_L_move_241_2  _ _ _ _) (FtR fs85)))
        (FS.none))
       (FS.some h_s1))
theorem fS_F_move_241 (x1 : Int32) (σ : TS)  : FS fs85 σ (F_move_241 x1 σ) := by
  unfold F_move_241
  exact FS.ob (Ft.rf _ _) (fS_L_move_241_2  _ _ _ _) (FtR fs85) fun q27 s28 h_s28 =>
    FS.some h_s28
theorem fS_L_move_242_2   : ∀ (n : Nat) (x1 : Int32) (x3 : Int32) (σ : TS), FS fs85 σ (L_move_242_2  n x1 x3 σ)
  | 0, _, _, _ => FS.none
  | n + 1, x1, x3, σ => by
    rw [L_move_242_2]
    exact FS.ite (FS.some (Ft.rf _ _))
      (FS.ob (Ft.rf _ _) (fS_F_isBad _ ) (le_fs0_fs85) fun r2 s1 h_s1 =>
       FS.ite (FS.ite (FS.ob h_s1 (fS_F_times _ _ _ ) (le_fs1_fs85) fun r7 s6 h_s6 =>
         FS.ob h_s6 (fS_F_isBad _ ) (le_fs0_fs85) fun r11 s10 h_s10 =>
         FS.ite (FS.ite (FS.ite (FS.ob h_s10 (fS_F_fit _ _ ) (le_fs1_fs85) fun r18 s17 h_s17 =>
            FS.ite (FS.nmT (Ft.p_tsA h_s17 rfl) fun s22 h_s22 =>
             FS.nmV fun v23 =>
             FS.call h_s22 (fS_L_move_242_2  _ _ _ _) (FtR fs85))
            (FS.none))
           (FS.none))
          (FS.none))
         (FS.nmV fun v14 =>
          FS.call h_s10 (fS_L_move_242_2  _ _ _ _) (FtR fs85)))
        (FS.none))
       (FS.some h_s1))
theorem fS_F_move_242 (x1 : Int32) (σ : TS)  : FS fs85 σ (F_move_242 x1 σ) := by
  unfold F_move_242
  exact FS.ob (Ft.rf _ _) (fS_L_move_242_2  _ _ _ _) (FtR fs85) fun q27 s28 h_s28 =>
    FS.some h_s28
theorem fS_L_move_243_2   : ∀ (n : Nat) (x1 : Int32) (x3 : Int32) (σ : TS), FS fs85 σ (L_move_243_2  n x1 x3 σ)
  | 0, _, _, _ => FS.none
  | n + 1, x1, x3, σ => by
    rw [L_move_243_2]
    exact FS.ite (FS.some (Ft.rf _ _))
      (FS.ob (Ft.rf _ _) (fS_F_isBad _ ) (le_fs0_fs85) fun r2 s1 h_s1 =>
       FS.ite (FS.ite (FS.ob h_s1 (fS_F_times _ _ _ ) (le_fs1_fs85) fun r7 s6 h_s6 =>
         FS.ob h_s6 (fS_F_isBad _ ) (le_fs0_fs85) fun r11 s10 h_s10 =>
         FS.ite (FS.ite (FS.ite (FS.ob h_s10 (fS_F_fit _ _ ) (le_fs1_fs85) fun r18 s17 h_s17 =>
            FS.ite (FS.nmT (Ft.p_tsA h_s17 rfl) fun s22 h_s22 =>
             FS.nmV fun v23 =>
             FS.call h_s22 (fS_L_move_243_2  _ _ _ _) (FtR fs85))
            (FS.none))
           (FS.none))
          (FS.none))
         (FS.nmV fun v14 =>
          FS.call h_s10 (fS_L_move_243_2  _ _ _ _) (FtR fs85)))
        (FS.none))
       (FS.some h_s1))
theorem fS_F_move_243 (x1 : Int32) (σ : TS)  : FS fs85 σ (F_move_243 x1 σ) := by
  unfold F_move_243
  exact FS.ob (Ft.rf _ _) (fS_L_move_243_2  _ _ _ _) (FtR fs85) fun q27 s28 h_s28 =>
    FS.some h_s28
theorem fS_F_name (x1 : Int32) (σ : TS)  : FS fs163 σ (F_name x1 σ) := by
  unfold F_name
  exact FS.ite (FS.some (Ft.rf _ _))
    (FS.ob (Ft.rf _ _) (fS_F_isVariable _ _ ) (le_fs0_fs163) fun r3 s2 h_s2 =>
     FS.ite (FS.some h_s2)
     (FS.nmT (Ft.p_tsI h_s2 rfl) fun s6 h_s6 =>
      FS.nmT (Ft.p_tsI h_s6 rfl) fun s7 h_s7 =>
      FS.ob h_s7 (fS_F_printVariable _ _ ) (le_fs111_fs163) fun r9 s8 h_s8 =>
      FS.some h_s8))
theorem fS_L_nextSize_8   : ∀ (n : Nat) (x1 : Int64) (x3 : Int32) (σ : TS), FS fs0 σ (L_nextSize_8  n x1 x3 σ)
  | 0, _, _, _ => FS.none
  | n + 1, x1, x3, σ => by
    rw [L_nextSize_8]
    exact FS.ite (FS.some (Ft.rf _ _))
      (FS.ite (FS.ite (FS.ite (FS.ite (FS.ite (FS.nmV fun v6 =>
            FS.ite (FS.ite (FS.nmV fun v9 =>
              FS.ite (FS.ite (FS.nmV fun v11 =>
                FS.nmV fun v12 =>
                FS.nmV fun v13 =>
                FS.call (Ft.rf _ _) (fS_L_nextSize_8  _ _ _ _) (FtR fs0))
               (FS.none))
              (FS.nmV fun v14 =>
               FS.nmV fun v15 =>
               FS.call (Ft.rf _ _) (fS_L_nextSize_8  _ _ _ _) (FtR fs0)))
             (FS.none))
            (FS.none))
           (FS.none))
          (FS.none))
         (FS.nmV fun v17 =>
          FS.call (Ft.rf _ _) (fS_L_nextSize_8  _ _ _ _) (FtR fs0)))
        (FS.none))
       (FS.none))
theorem fS_F_nextSize (σ : TS)  : FS fs0 σ (F_nextSize σ) := by
  unfold F_nextSize
  exact FS.nmV fun v1 =>
    FS.ob (Ft.rf _ _) (fS_L_nextSize_8  _ _ _ _) (FtR fs0) fun q20 s21 h_s21 =>
    FS.some h_s21
theorem fS_F_octet (x1 : Int32) (σ : TS)  : FS fs0 σ (F_octet x1 σ) := by
  unfold F_octet
  exact FS.ite (FS.some (Ft.rf _ _))
    (FS.ite (FS.some (Ft.rf _ _))
     (FS.ite (FS.ite (FS.some (Ft.rf _ _))
       (FS.none))
      (FS.some (Ft.rf _ _))))
theorem fS_L_rates_241_14   : ∀ (n : Nat) (x2 : Int32) (σ : TS), FS fs164 σ (L_rates_241_14  n x2 σ)
  | 0, _, _ => FS.none
  | n + 1, x2, σ => by
    rw [L_rates_241_14]
    exact FS.ite (FS.some (Ft.rf _ _))
      (FS.ite (FS.ite (FS.ite (FS.ite (FS.nmT (Ft.p_tsA (Ft.rf _ _) rfl) fun s13 h_s13 =>
           FS.nmV fun v14 =>
           FS.call h_s13 (fS_L_rates_241_14  _ _ _) (FtR fs164))
          (FS.none))
         (FS.none))
        (FS.none))
       (FS.none))
theorem fS_F_rates_241 (σ : TS)  : FS fs165 σ (F_rates_241 σ) := by
  unfold F_rates_241
  exact FS.ob (Ft.rf _ _) (fS_F_isBad _ ) (le_fs0_fs165) fun r2 s1 h_s1 =>
    FS.ite (FS.ob h_s1 (fS_F_solveBlocks _ ) (le_fs88_fs165) fun r6 s5 h_s5 =>
     FS.ob h_s5 (fS_L_rates_241_14  _ _ _) (le_fs164_fs165) fun q16 s17 h_s17 =>
     FS.some h_s17)
    (FS.some h_s1)
theorem fS_L_rates_242_14   : ∀ (n : Nat) (x2 : Int32) (σ : TS), FS fs166 σ (L_rates_242_14  n x2 σ)
  | 0, _, _ => FS.none
  | n + 1, x2, σ => by
    rw [L_rates_242_14]
    exact FS.ite (FS.some (Ft.rf _ _))
      (FS.ite (FS.ite (FS.ite (FS.ite (FS.nmT (Ft.p_tsA (Ft.rf _ _) rfl) fun s13 h_s13 =>
           FS.nmV fun v14 =>
           FS.call h_s13 (fS_L_rates_242_14  _ _ _) (FtR fs166))
          (FS.none))
         (FS.none))
        (FS.none))
       (FS.none))
theorem fS_F_rates_242 (σ : TS)  : FS fs167 σ (F_rates_242 σ) := by
  unfold F_rates_242
  exact FS.ob (Ft.rf _ _) (fS_F_isBad _ ) (le_fs0_fs167) fun r2 s1 h_s1 =>
    FS.ite (FS.ob h_s1 (fS_F_solveBlocks _ ) (le_fs88_fs167) fun r6 s5 h_s5 =>
     FS.ob h_s5 (fS_L_rates_242_14  _ _ _) (le_fs166_fs167) fun q16 s17 h_s17 =>
     FS.some h_s17)
    (FS.some h_s1)
theorem fS_L_rates_243_14   : ∀ (n : Nat) (x2 : Int32) (σ : TS), FS fs168 σ (L_rates_243_14  n x2 σ)
  | 0, _, _ => FS.none
  | n + 1, x2, σ => by
    rw [L_rates_243_14]
    exact FS.ite (FS.some (Ft.rf _ _))
      (FS.ite (FS.ite (FS.ite (FS.ite (FS.nmT (Ft.p_tsA (Ft.rf _ _) rfl) fun s13 h_s13 =>
           FS.nmV fun v14 =>
           FS.call h_s13 (fS_L_rates_243_14  _ _ _) (FtR fs168))
          (FS.none))
         (FS.none))
        (FS.none))
       (FS.none))
theorem fS_F_rates_243 (σ : TS)  : FS fs169 σ (F_rates_243 σ) := by
  unfold F_rates_243
  exact FS.ob (Ft.rf _ _) (fS_F_isBad _ ) (le_fs0_fs169) fun r2 s1 h_s1 =>
    FS.ite (FS.ob h_s1 (fS_F_solveBlocks _ ) (le_fs88_fs169) fun r6 s5 h_s5 =>
     FS.ob h_s5 (fS_L_rates_243_14  _ _ _) (le_fs168_fs169) fun q16 s17 h_s17 =>
     FS.some h_s17)
    (FS.some h_s1)
theorem fS_L_rates_244_14   : ∀ (n : Nat) (x2 : Int32) (σ : TS), FS fs170 σ (L_rates_244_14  n x2 σ)
  | 0, _, _ => FS.none
  | n + 1, x2, σ => by
    rw [L_rates_244_14]
    exact FS.ite (FS.some (Ft.rf _ _))
      (FS.ite (FS.ite (FS.ite (FS.ite (FS.nmT (Ft.p_tsA (Ft.rf _ _) rfl) fun s13 h_s13 =>
           FS.nmV fun v14 =>
           FS.call h_s13 (fS_L_rates_244_14  _ _ _) (FtR fs170))
          (FS.none))
         (FS.none))
        (FS.none))
       (FS.none))
theorem fS_F_rates_244 (σ : TS)  : FS fs171 σ (F_rates_244 σ) := by
  unfold F_rates_244
  exact FS.ob (Ft.rf _ _) (fS_F_isBad _ ) (le_fs0_fs171) fun r2 s1 h_s1 =>
    FS.ite (FS.ob h_s1 (fS_F_solveBlocks _ ) (le_fs88_fs171) fun r6 s5 h_s5 =>
     FS.ob h_s5 (fS_L_rates_244_14  _ _ _) (le_fs170_fs171) fun q16 s17 h_s17 =>
     FS.some h_s17)
    (FS.some h_s1)
theorem fS_L_step_7   : ∀ (n : Nat) (x1 : Int32) (x2 : Int32) (x3 : Int32) (σ : TS), FS fs172 σ (L_step_7  n x1 x2 x3 σ)
  | 0, _, _, _, _ => FS.none
  | n + 1, x1, x2, x3, σ => by
    rw [L_step_7]
    exact FS.ite (FS.some (Ft.rf _ _))
      (FS.ite (FS.ite (FS.ite (FS.nmT (Ft.p_tsA (Ft.rf _ _) rfl) fun s5 h_s5 =>
          FS.nmV fun v6 =>
          FS.call h_s5 (fS_L_step_7  _ _ _ _ _) (FtR fs172))
         (FS.none))
        (FS.none))
       (FS.none))
theorem fS_L_step_433   : ∀ (n : Nat) (x1 : Int32) (x2 : Int32) (x3 : Int32) (σ : TS), FS fs167 σ (L_step_433  n x1 x2 x3 σ)
  | 0, _, _, _, _ => FS.none
  | n + 1, x1, x2, x3, σ => by
    rw [L_step_433]
    exact FS.ite (FS.some (Ft.rf _ _))
      (FS.ob (Ft.rf _ _) (fS_F_rates_242 _ ) (FtR fs167) fun r35 s34 h_s34 =>
       FS.ob h_s34 (fS_F_move_242 _ _ ) (le_fs85_fs167) fun r39 s38 h_s38 =>
       FS.nmV fun v42 =>
       FS.call h_s38 (fS_L_step_433  _ _ _ _ _) (FtR fs167))
theorem fS_J_step_363_175 (rec : Int32 → Int32 → Int32 → TS → Option (Unit × TS)) (x1 : Int32) (x2 : Int32) (x3 : Int32) (y0 : Int32) (σ : TS) (hrec : ∀ (a0 : Int32) (a1 : Int32) (a2 : Int32) (a3 : TS), FS fs85 a3 (rec a0 a1 a2 a3)) : FS fs85 σ (J_step_363_175 rec x1 x2 x3 y0 σ) := by
  unfold J_step_363_175
  exact FS.ob (Ft.rf _ _) (fS_F_isBad _ ) (le_fs0_fs85) fun r148 s147 h_s147 =>
    FS.ite (FS.ite (FS.ite (FS.ob h_s147 (fS_F_fit _ _ ) (le_fs1_fs85) fun r155 s154 h_s154 =>
       FS.ite (FS.nmT (Ft.p_tsA h_s154 rfl) fun s159 h_s159 =>
        FS.nmV fun v160 =>
        FS.call h_s159 (hrec _ _ _ _) (FtR fs85))
       (FS.none))
      (FS.none))
     (FS.none))
    (FS.nmV fun v151 =>
     FS.call h_s147 (hrec _ _ _ _) (FtR fs85))
theorem fS_J_step_341_175 (rec : Int32 → Int32 → Int32 → TS → Option (Unit × TS)) (x1 : Int32) (x2 : Int32) (x3 : Int32) (y0 : Int32) (σ : TS) (hrec : ∀ (a0 : Int32) (a1 : Int32) (a2 : Int32) (a3 : TS), FS fs85 a3 (rec a0 a1 a2 a3)) : FS fs85 σ (J_step_341_175 rec x1 x2 x3 y0 σ) := by
  unfold J_step_341_175
  exact FS.ob (Ft.rf _ _) (fS_F_isBad _ ) (le_fs0_fs85) fun r140 s139 h_s139 =>
    FS.ite (FS.ob h_s139 (fS_F_over _ _ _ ) (le_fs1_fs85) fun r144 s143 h_s143 =>
     FS.call h_s143 (fS_J_step_363_175 _ _ _ _ _ _ hrec ) (FtR fs85))
    (FS.call h_s139 (fS_J_step_363_175 _ _ _ _ _ _ hrec ) (FtR fs85))
theorem fS_J_step_321_175 (rec : Int32 → Int32 → Int32 → TS → Option (Unit × TS)) (x1 : Int32) (x2 : Int32) (x3 : Int32) (y0 : Int32) (σ : TS) (hrec : ∀ (a0 : Int32) (a1 : Int32) (a2 : Int32) (a3 : TS), FS fs85 a3 (rec a0 a1 a2 a3)) : FS fs85 σ (J_step_321_175 rec x1 x2 x3 y0 σ) := by
  unfold J_step_321_175
  exact FS.ob (Ft.rf _ _) (fS_F_isBad _ ) (le_fs0_fs85) fun r132 s131 h_s131 =>
    FS.ite (FS.ob h_s131 (fS_F_times _ _ _ ) (le_fs1_fs85) fun r136 s135 h_s135 =>
     FS.call h_s135 (fS_J_step_341_175 _ _ _ _ _ _ hrec ) (FtR fs85))
    (FS.call h_s131 (fS_J_step_341_175 _ _ _ _ _ _ hrec ) (FtR fs85))
theorem fS_J_step_293_175 (rec : Int32 → Int32 → Int32 → TS → Option (Unit × TS)) (x1 : Int32) (x2 : Int32) (x3 : Int32) (y0 : Int32) (σ : TS) (hrec : ∀ (a0 : Int32) (a1 : Int32) (a2 : Int32) (a3 : TS), FS fs85 a3 (rec a0 a1 a2 a3)) : FS fs85 σ (J_step_293_175 rec x1 x2 x3 y0 σ) := by
  unfold J_step_293_175
  exact FS.ob (Ft.rf _ _) (fS_F_isBad _ ) (le_fs0_fs85) fun r123 s122 h_s122 =>
    FS.ite (FS.ite (FS.ob h_s122 (fS_F_fit _ _ ) (le_fs1_fs85) fun r128 s127 h_s127 =>
      FS.call h_s127 (fS_J_step_321_175 _ _ _ _ _ _ hrec ) (FtR fs85))
     (FS.none))
    (FS.call h_s122 (fS_J_step_321_175 _ _ _ _ _ _ hrec ) (FtR fs85))
theorem fS_J_step_269_175 (rec : Int32 → Int32 → Int32 → TS → Option (Unit × TS)) (x1 : Int32) (x2 : Int32) (x3 : Int32) (x5 : Int32) (y0 : Int32) (σ : TS) (hrec : ∀ (a0 : Int32) (a1 : Int32) (a2 : Int32) (a3 : TS), FS fs85 a3 (rec a0 a1 a2 a3)) : FS fs85 σ (J_step_269_175 rec x1 x2 x3 x5 y0 σ) := by
  unfold J_step_269_175
  exact FS.ob (Ft.rf _ _) (fS_F_isBad _ ) (le_fs0_fs85) fun r115 s114 h_s114 =>
    FS.ite (FS.ob h_s114 (fS_F_fit _ _ ) (le_fs1_fs85) fun r119 s118 h_s118 =>
     FS.call h_s118 (fS_J_step_293_175 _ _ _ _ _ _ hrec ) (FtR fs85))
    (FS.call h_s114 (fS_J_step_293_175 _ _ _ _ _ _ hrec ) (FtR fs85))
theorem fS_J_step_237_175 (rec : Int32 → Int32 → Int32 → TS → Option (Unit × TS)) (x1 : Int32) (x2 : Int32) (x3 : Int32) (y0 : Int32) (σ : TS) (hrec : ∀ (a0 : Int32) (a1 : Int32) (a2 : Int32) (a3 : TS), FS fs85 a3 (rec a0 a1 a2 a3)) : FS fs85 σ (J_step_237_175 rec x1 x2 x3 y0 σ) := by
  unfold J_step_237_175
  exact FS.ob (Ft.rf _ _) (fS_F_isBad _ ) (le_fs0_fs85) fun r105 s104 h_s104 =>
    FS.ite (FS.ite (FS.ite (FS.ob h_s104 (fS_F_fit _ _ ) (le_fs1_fs85) fun r111 s110 h_s110 =>
       FS.call h_s110 (fS_J_step_269_175 _ _ _ _ _ _ _ hrec ) (FtR fs85))
      (FS.none))
     (FS.none))
    (FS.call h_s104 (fS_J_step_269_175 _ _ _ _ _ _ _ hrec ) (FtR fs85))
theorem fS_L_step_175   : ∀ (n : Nat) (x1 : Int32) (x2 : Int32) (x3 : Int32) (σ : TS), FS fs85 σ (L_step_175  n x1 x2 x3 σ)
  | 0, _, _, _, _ => FS.none
  | n + 1, x1, x2, x3, σ => by
    rw [L_step_175]
    exact FS.ite (FS.some (Ft.rf _ _))
      (FS.ob (Ft.rf _ _) (fS_F_isBad _ ) (le_fs0_fs85) fun r86 s85 h_s85 =>
       FS.ite (FS.ite (FS.ite (FS.ob h_s85 (fS_F_fit _ _ ) (le_fs1_fs85) fun r92 s91 h_s91 =>
          FS.ob h_s91 (fS_F_isBad _ ) (le_fs0_fs85) fun r96 s95 h_s95 =>
          FS.ite (FS.ite (FS.ob h_s95 (fS_F_fit _ _ ) (le_fs1_fs85) fun r101 s100 h_s100 =>
            FS.call h_s100 (fS_J_step_237_175 _ _ _ _ _ _ (fun a0 a1 a2 a3 => fS_L_step_175   _ a0 a1 a2 a3) ) (FtR fs85))
           (FS.none))
          (FS.call h_s95 (fS_J_step_237_175 _ _ _ _ _ _ (fun a0 a1 a2 a3 => fS_L_step_175   _ a0 a1 a2 a3) ) (FtR fs85)))
         (FS.none))
        (FS.none))
       (FS.some h_s85))
theorem fS_F_step (x1 : Int32) (σ : TS)  : FS fs173 σ (F_step x1 σ) := by
  unfold F_step
  exact FS.nmV fun v1 =>
    FS.ob (Ft.rf _ _) (fS_L_step_7  _ _ _ _ _) (le_fs172_fs173) fun q8 s9 h_s9 =>
    FS.ob h_s9 (fS_F_rates_241 _ ) (le_fs165_fs173) fun r12 s11 h_s11 =>
    FS.ite (FS.nmT (Ft.p_tsI h_s11 rfl) fun s185 h_s185 =>
     FS.ob h_s185 (fS_F_move_241 _ _ ) (le_fs85_fs173) fun r187 s186 h_s186 =>
     FS.ob h_s186 (fS_F_rates_242 _ ) (le_fs167_fs173) fun r191 s190 h_s190 =>
     FS.ob h_s190 (fS_F_move_242 _ _ ) (le_fs85_fs173) fun r195 s194 h_s194 =>
     FS.nmT (Ft.p_tsI h_s194 rfl) fun s198 h_s198 =>
     FS.ob h_s198 (fS_F_isBad _ ) (le_fs0_fs173) fun r200 s199 h_s199 =>
     FS.ite (FS.ob h_s199 (fS_F_solveBlocks _ ) (le_fs88_fs173) fun r204 s203 h_s203 =>
      FS.some h_s203)
     (FS.some h_s199))
    (FS.ite (FS.nmT (Ft.p_tsI h_s11 rfl) fun s59 h_s59 =>
      FS.ob h_s59 (fS_F_move_241 _ _ ) (le_fs85_fs173) fun r61 s60 h_s60 =>
      FS.ob h_s60 (fS_F_rates_242 _ ) (le_fs167_fs173) fun r65 s64 h_s64 =>
      FS.ob h_s64 (fS_F_move_242 _ _ ) (le_fs85_fs173) fun r69 s68 h_s68 =>
      FS.ob h_s68 (fS_F_rates_243 _ ) (le_fs169_fs173) fun r73 s72 h_s72 =>
      FS.nmT (Ft.p_tsI h_s72 rfl) fun s76 h_s76 =>
      FS.ob h_s76 (fS_F_move_243 _ _ ) (le_fs85_fs173) fun r78 s77 h_s77 =>
      FS.ob h_s77 (fS_F_rates_244 _ ) (le_fs171_fs173) fun r82 s81 h_s81 =>
      FS.ob h_s81 (fS_L_step_175  _ _ _ _ _) (le_fs85_fs173) fun q170 s171 h_s171 =>
      FS.nmT (Ft.p_tsI h_s171 rfl) fun s173 h_s173 =>
      FS.ob h_s173 (fS_F_isBad _ ) (le_fs0_fs173) fun r175 s174 h_s174 =>
      FS.ite (FS.ob h_s174 (fS_F_solveBlocks _ ) (le_fs88_fs173) fun r179 s178 h_s178 =>
       FS.some h_s178)
      (FS.some h_s174))
     (FS.ite (FS.ob h_s11 (fS_F_move_241 _ _ ) (le_fs85_fs173) fun r30 s29 h_s29 =>
       FS.nmT (Ft.p_tsI h_s29 rfl) fun s33 h_s33 =>
       FS.ob h_s33 (fS_L_step_433  _ _ _ _ _) (le_fs167_fs173) fun q44 s45 h_s45 =>
       FS.nmT (Ft.p_tsI h_s45 rfl) fun s47 h_s47 =>
       FS.ob h_s47 (fS_F_isBad _ ) (le_fs0_fs173) fun r49 s48 h_s48 =>
       FS.ite (FS.ob h_s48 (fS_F_solveBlocks _ ) (le_fs88_fs173) fun r53 s52 h_s52 =>
        FS.some h_s52)
       (FS.some h_s48))
      (FS.ob h_s11 (fS_F_move_241 _ _ ) (le_fs85_fs173) fun r16 s15 h_s15 =>
       FS.nmT (Ft.p_tsI h_s15 rfl) fun s19 h_s19 =>
       FS.ob h_s19 (fS_F_isBad _ ) (le_fs0_fs173) fun r21 s20 h_s20 =>
       FS.ite (FS.ob h_s20 (fS_F_solveBlocks _ ) (le_fs88_fs173) fun r25 s24 h_s24 =>
        FS.some h_s24)
       (FS.some h_s20))))
theorem fS_J_oneStep_196 (σ : TS)  : FS fs174 σ (J_oneStep_196 σ) := by
  unfold J_oneStep_196
  exact FS.nmV fun v22 =>
    FS.nmV fun v23 =>
    FS.ob (Ft.rf _ _) (fS_F_event _ _ ) (le_fs96_fs174) fun r25 s24 h_s24 =>
    FS.ob h_s24 (fS_F_isBad _ ) (le_fs0_fs174) fun r29 s28 h_s28 =>
    FS.ite (FS.some h_s28)
    (FS.ob h_s28 (fS_F_back _ _ ) (le_fs32_fs174) fun r33 s32 h_s32 =>
     FS.nmT (Ft.p_tsI h_s32 rfl) fun s36 h_s36 =>
     FS.nmT (Ft.p_tsI h_s36 rfl) fun s37 h_s37 =>
     FS.nmT (Ft.p_tsI h_s37 rfl) fun s38 h_s38 =>
     FS.some h_s38)
theorem fS_J_oneStep_159 (x2 : Int32) (σ : TS)  : FS fs174 σ (J_oneStep_159 x2 σ) := by
  unfold J_oneStep_159
  exact FS.ob (Ft.rf _ _) (fS_F_isBad _ ) (le_fs0_fs174) fun r18 s17 h_s17 =>
    FS.ite (FS.nmT (Ft.p_tsI h_s17 rfl) fun s21 h_s21 =>
     FS.ite (FS.ob h_s21 (fS_F_anyDue _ ) (le_fs0_fs174) fun r41 s40 h_s40 =>
      FS.ite (FS.some h_s40)
      (FS.call h_s40 (fS_J_oneStep_196 _ ) (FtR fs174)))
     (FS.call h_s21 (fS_J_oneStep_196 _ ) (FtR fs174)))
    (FS.ob h_s17 (fS_F_back _ _ ) (le_fs32_fs174) fun r47 s46 h_s46 =>
     FS.some h_s46)
theorem fS_L_oneStep_68   : ∀ (n : Nat) (x2 : Int32) (x3 : Int32) (x4 : Int32) (σ : TS), FS fs175 σ (L_oneStep_68  n x2 x3 x4 σ)
  | 0, _, _, _, _ => FS.none
  | n + 1, x2, x3, x4, σ => by
    rw [L_oneStep_68]
    exact FS.ite (FS.some (Ft.rf _ _))
      (FS.ob (Ft.rf _ _) (fS_F_isBad _ ) (le_fs0_fs175) fun r52 s51 h_s51 =>
       FS.ite (FS.nmV fun v55 =>
        FS.ob h_s51 (fS_F_back _ _ ) (le_fs32_fs175) fun r57 s56 h_s56 =>
        FS.ob h_s56 (fS_F_step _ _ ) (le_fs173_fs175) fun r61 s60 h_s60 =>
        FS.ob h_s60 (fS_F_isBad _ ) (le_fs0_fs175) fun r65 s64 h_s64 =>
        FS.ite (FS.ob h_s64 (fS_F_differs _ ) (le_fs2_fs175) fun r70 s69 h_s69 =>
         FS.ite (FS.ite (FS.call h_s69 (fS_L_oneStep_68  _ _ _ _ _) (FtR fs175))
          (FS.call h_s69 (fS_L_oneStep_68  _ _ _ _ _) (FtR fs175)))
         (FS.ite (FS.call h_s69 (fS_L_oneStep_68  _ _ _ _ _) (FtR fs175))
          (FS.call h_s69 (fS_L_oneStep_68  _ _ _ _ _) (FtR fs175))))
        (FS.ite (FS.call h_s64 (fS_L_oneStep_68  _ _ _ _ _) (FtR fs175))
         (FS.call h_s64 (fS_L_oneStep_68  _ _ _ _ _) (FtR fs175))))
       (FS.some h_s51))
theorem fS_J_oneStep_141 (x2 : Int32) (x4 : Int32) (σ : TS)  : FS fs176 σ (J_oneStep_141 x2 x4 σ) := by
  unfold J_oneStep_141
  exact FS.ob (Ft.rf _ _) (fS_F_isBad _ ) (le_fs0_fs176) fun r83 s82 h_s82 =>
    FS.ite (FS.ob h_s82 (fS_F_back _ _ ) (le_fs32_fs176) fun r87 s86 h_s86 =>
     FS.ob h_s86 (fS_F_step _ _ ) (le_fs173_fs176) fun r91 s90 h_s90 =>
     FS.call h_s90 (fS_J_oneStep_159 _ _ ) (le_fs174_fs176))
    (FS.call h_s82 (fS_J_oneStep_159 _ _ ) (le_fs174_fs176))
theorem fS_J_oneStep_58 (x1 : Int32) (y0 : Int32) (σ : TS)  : FS fs176 σ (J_oneStep_58 x1 y0 σ) := by
  unfold J_oneStep_58
  exact FS.ite (FS.call (Ft.rf _ _) (fS_J_oneStep_159 _ _ ) (le_fs174_fs176))
    (FS.ob (Ft.rf _ _) (fS_L_oneStep_68  _ _ _ _ _) (le_fs175_fs176) fun q79 s80 h_s80 =>
     FS.call h_s80 (fS_J_oneStep_141 _ _ _ ) (FtR fs176))
theorem fS_J_oneStep_57 (x1 : Int32) (σ : TS)  : FS fs176 σ (J_oneStep_57 x1 σ) := by
  unfold J_oneStep_57
  exact FS.call (Ft.rf _ _) (fS_J_oneStep_58 _ _ _ ) (FtR fs176)
theorem fS_F_oneStep (σ : TS)  : FS fs177 σ (F_oneStep σ) := by
  unfold F_oneStep
  exact FS.ob (Ft.rf _ _) (fS_F_nextSize _ ) (le_fs0_fs177) fun r2 s1 h_s1 =>
    FS.ite (FS.ob h_s1 (fS_F_keep _ _ ) (le_fs142_fs177) fun r6 s5 h_s5 =>
     FS.ob h_s5 (fS_F_step _ _ ) (le_fs173_fs177) fun r10 s9 h_s9 =>
     FS.ob h_s9 (fS_F_isBad _ ) (le_fs0_fs177) fun r14 s13 h_s13 =>
     FS.ite (FS.ob h_s13 (fS_F_differs _ ) (le_fs2_fs177) fun r98 s97 h_s97 =>
      FS.ite (FS.call h_s97 (fS_J_oneStep_57 _ _ ) (le_fs176_fs177))
      (FS.call h_s97 (fS_J_oneStep_58 _ _ _ ) (le_fs176_fs177)))
     (FS.call h_s13 (fS_J_oneStep_57 _ _ ) (le_fs176_fs177)))
    (FS.ob h_s1 (fS_F_bad _ _ _ ) (le_fs1_fs177) fun r104 s103 h_s103 =>
     FS.some h_s103)
theorem fS_L_tellText_2   : ∀ (n : Nat) (x1 : Nat) (x2 : Int32) (σ : TS), FS fs111 σ (L_tellText_2  n x1 x2 σ)
  | 0, _, _, _ => FS.none
  | n + 1, x1, x2, σ => by
    rw [L_tellText_2]
    exact FS.ite (FS.ite (FS.some (Ft.rf _ _))
       (FS.ite (FS.ob (Ft.rf _ _) (fS_F_letter _ _ ) (FtR fs111) fun r4 s3 h_s3 =>
         FS.nmV fun v7 =>
         FS.call h_s3 (fS_L_tellText_2  _ _ _ _) (FtR fs111))
        (FS.none)))
      (FS.none)
theorem fS_F_tellText (x1 : Nat) (σ : TS)  : FS fs111 σ (F_tellText x1 σ) := by
  unfold F_tellText
  exact FS.ob (Ft.rf _ _) (fS_L_tellText_2  _ _ _ _) (FtR fs111) fun q9 s10 h_s10 =>
    FS.some h_s10
theorem fS_J_printLeaf_123 (x2 : Int32) (x4 : Int32) (x5 : Int32) (σ : TS)  : FS fs111 σ (J_printLeaf_123 x2 x4 x5 σ) := by
  unfold J_printLeaf_123
  exact FS.ob (Ft.rf _ _) (fS_F_printVariable _ _ ) (FtR fs111) fun r8 s7 h_s7 =>
    FS.ite (FS.ite (FS.some h_s7)
     (FS.ob h_s7 (fS_F_letter _ _ ) (FtR fs111) fun r12 s11 h_s11 =>
      FS.some h_s11))
    (FS.ob h_s7 (fS_F_letter _ _ ) (FtR fs111) fun r17 s16 h_s16 =>
     FS.ite (FS.some h_s16)
     (FS.ob h_s16 (fS_F_letter _ _ ) (FtR fs111) fun r21 s20 h_s20 =>
      FS.some h_s20))
theorem fS_J_printLeaf_120 (x2 : Int32) (x4 : Int32) (x5 : Int32) (y1 : Nat) (σ : TS)  : FS fs111 σ (J_printLeaf_120 x2 x4 x5 y1 σ) := by
  unfold J_printLeaf_120
  exact FS.ob (Ft.rf _ _) (fS_F_tellText _ _ ) (FtR fs111) fun r28 s27 h_s27 =>
    FS.call h_s27 (fS_J_printLeaf_123 _ _ _ _ ) (FtR fs111)
theorem fS_J_printLeaf_98 (x2 : Int32) (x4 : Int32) (x5 : Int32) (σ : TS)  : FS fs111 σ (J_printLeaf_98 x2 x4 x5 σ) := by
  unfold J_printLeaf_98
  exact FS.ite (FS.ite (FS.call (Ft.rf _ _) (fS_J_printLeaf_120 _ _ _ _ _ ) (FtR fs111))
     (FS.call (Ft.rf _ _) (fS_J_printLeaf_120 _ _ _ _ _ ) (FtR fs111)))
    (FS.call (Ft.rf _ _) (fS_J_printLeaf_123 _ _ _ _ ) (FtR fs111))
theorem fS_J_printLeaf_84 (x2 : Int32) (x4 : Int32) (y0 : Int32) (σ : TS)  : FS fs111 σ (J_printLeaf_84 x2 x4 y0 σ) := by
  unfold J_printLeaf_84
  exact FS.ite (FS.ob (Ft.rf _ _) (fS_F_tellText _ _ ) (FtR fs111) fun r34 s33 h_s33 =>
     FS.call h_s33 (fS_J_printLeaf_98 _ _ _ _ ) (FtR fs111))
    (FS.call (Ft.rf _ _) (fS_J_printLeaf_98 _ _ _ _ ) (FtR fs111))
theorem fS_J_printLeaf_83 (x2 : Int32) (x3 : Int32) (x4 : Int32) (σ : TS)  : FS fs111 σ (J_printLeaf_83 x2 x3 x4 σ) := by
  unfold J_printLeaf_83
  exact FS.call (Ft.rf _ _) (fS_J_printLeaf_84 _ _ _ _ ) (FtR fs111)
theorem fS_J_printLeaf_58 (x2 : Int32) (x3 : Int32) (x4 : Int32) (σ : TS)  : FS fs111 σ (J_printLeaf_58 x2 x3 x4 σ) := by
  unfold J_printLeaf_58
  exact FS.ite (FS.call (Ft.rf _ _) (fS_J_printLeaf_83 _ _ _ _ ) (FtR fs111))
    (FS.ite (FS.ite (FS.ite (FS.call (Ft.rf _ _) (fS_J_printLeaf_84 _ _ _ _ ) (FtR fs111))
       (FS.none))
      (FS.call (Ft.rf _ _) (fS_J_printLeaf_83 _ _ _ _ ) (FtR fs111)))
     (FS.none))
theorem fS_J_printLeaf_44 (x2 : Int32) (x3 : Int32) (y0 : Int32) (σ : TS)  : FS fs111 σ (J_printLeaf_44 x2 x3 y0 σ) := by
  unfold J_printLeaf_44
  exact FS.ite (FS.call (Ft.rf _ _) (fS_J_printLeaf_58 _ _ _ _ ) (FtR fs111))
    (FS.ob (Ft.rf _ _) (fS_F_tellText _ _ ) (FtR fs111) fun r43 s42 h_s42 =>
     FS.call h_s42 (fS_J_printLeaf_58 _ _ _ _ ) (FtR fs111))
theorem fS_J_printLeaf_43 (x2 : Int32) (x3 : Int32) (σ : TS)  : FS fs111 σ (J_printLeaf_43 x2 x3 σ) := by
  unfold J_printLeaf_43
  exact FS.call (Ft.rf _ _) (fS_J_printLeaf_44 _ _ _ _ ) (FtR fs111)
theorem fS_F_printLeaf (x1 : Int32) (σ : TS)  : FS fs111 σ (F_printLeaf x1 σ) := by
  unfold F_printLeaf
  exact FS.ite (FS.nmV fun v2 =>
     FS.ite (FS.nmV fun v4 =>
      FS.ite (FS.call (Ft.rf _ _) (fS_J_printLeaf_43 _ _ _ ) (FtR fs111))
      (FS.ite (FS.ite (FS.ite (FS.ite (FS.call (Ft.rf _ _) (fS_J_printLeaf_43 _ _ _ ) (FtR fs111))
          (FS.call (Ft.rf _ _) (fS_J_printLeaf_44 _ _ _ _ ) (FtR fs111)))
         (FS.none))
        (FS.call (Ft.rf _ _) (fS_J_printLeaf_43 _ _ _ ) (FtR fs111)))
       (FS.none)))
     (FS.none))
    (FS.none)
theorem fS_F_printUnknown (x1 : Int32) (σ : TS)  : FS fs111 σ (F_printUnknown x1 σ) := by
  unfold F_printUnknown
  exact FS.ite (FS.ite (FS.ite (FS.ob (Ft.rf _ _) (fS_F_printVariable _ _ ) (FtR fs111) fun r26 s25 h_s25 =>
       FS.some h_s25)
      (FS.none))
     (FS.ob (Ft.rf _ _) (fS_F_letter _ _ ) (FtR fs111) fun r3 s2 h_s2 =>
      FS.ite (FS.ob h_s2 (fS_F_printNumber _ _ ) (FtR fs111) fun r8 s7 h_s7 =>
       FS.ob h_s7 (fS_F_letter _ _ ) (FtR fs111) fun r12 s11 h_s11 =>
       FS.ite (FS.ob h_s11 (fS_F_printVariable _ _ ) (FtR fs111) fun r17 s16 h_s16 =>
        FS.ob h_s16 (fS_F_letter _ _ ) (FtR fs111) fun r21 s20 h_s20 =>
        FS.some h_s20)
       (FS.none))
      (FS.none)))
    (FS.none)
theorem fS_B_printCall (cf_printNode : Int32 → TS → Option (Unit × TS)) (x1 : Nat) (x2 : Int32) (x3 : Int32) (σ : TS) (hcf_printNode : ∀ (a0 : Int32) (a1 : TS), FS fs178 a1 (cf_printNode a0 a1)) : FS fs178 σ (B_printCall cf_printNode x1 x2 x3 σ) := by
  unfold B_printCall
  exact FS.ob (Ft.rf _ _) (fS_F_tellText _ _ ) (le_fs111_fs178) fun r2 s1 h_s1 =>
    FS.ite (FS.ob h_s1 (hcf_printNode _ _) (FtR fs178) fun r7 s6 h_s6 =>
     FS.ite (FS.ob h_s6 (fS_F_letter _ _ ) (le_fs111_fs178) fun r15 s14 h_s14 =>
      FS.ite (FS.ob h_s14 (hcf_printNode _ _) (FtR fs178) fun r20 s19 h_s19 =>
       FS.ob h_s19 (fS_F_letter _ _ ) (le_fs111_fs178) fun r24 s23 h_s23 =>
       FS.some h_s23)
      (FS.none))
     (FS.ob h_s6 (fS_F_letter _ _ ) (le_fs111_fs178) fun r11 s10 h_s10 =>
      FS.some h_s10))
    (FS.none)
theorem fS_L_printChain_7 (cf_printNode : Int32 → TS → Option (Unit × TS)) (hcf_printNode : ∀ (a0 : Int32) (a1 : TS), FS fs178 a1 (cf_printNode a0 a1)) : ∀ (n : Nat) (x2 : Int32) (x3 : Int32) (σ : TS), FS fs178 σ (L_printChain_7 cf_printNode n x2 x3 σ)
  | 0, _, _, _ => FS.none
  | n + 1, x2, x3, σ => by
    rw [L_printChain_7]
    exact FS.ite (FS.ob (Ft.rf _ _) (fS_F_isArithmetic _ _ ) (le_fs0_fs178) fun r4 s3 h_s3 =>
       FS.ite (FS.some h_s3)
       (FS.ite (FS.nmT (Ft.p_tsA h_s3 rfl) fun s8 h_s8 =>
         FS.nmT (Ft.p_tsI h_s8 rfl) fun s9 h_s9 =>
         FS.ob h_s9 (fS_F_letter _ _ ) (le_fs111_fs178) fun r11 s10 h_s10 =>
         FS.ite (FS.nmV fun v15 =>
          FS.call h_s10 (fS_L_printChain_7 _ hcf_printNode _ _ _ _) (FtR fs178))
         (FS.none))
        (FS.none)))
      (FS.none)
theorem fS_L_printChain_60 (cf_printNode : Int32 → TS → Option (Unit × TS)) (hcf_printNode : ∀ (a0 : Int32) (a1 : TS), FS fs178 a1 (cf_printNode a0 a1)) : ∀ (n : Nat) (x2 : Int32) (σ : TS), FS fs178 σ (L_printChain_60 cf_printNode n x2 σ)
  | 0, _, _ => FS.none
  | n + 1, x2, σ => by
    rw [L_printChain_60]
    exact FS.ite (FS.some (Ft.rf _ _))
      (FS.nmT (Ft.p_tsI (Ft.rf _ _) rfl) fun s24 h_s24 =>
       FS.ite (FS.nmV fun v26 =>
        FS.ite (FS.nmV fun v28 =>
         FS.ite (FS.ob h_s24 (fS_F_letter _ _ ) (le_fs111_fs178) fun r71 s70 h_s70 =>
          FS.ite (FS.ob h_s70 (hcf_printNode _ _) (FtR fs178) fun r76 s75 h_s75 =>
           FS.ob h_s75 (fS_F_letter _ _ ) (le_fs111_fs178) fun r80 s79 h_s79 =>
           FS.call h_s79 (fS_L_printChain_60 _ hcf_printNode _ _ _) (FtR fs178))
          (FS.none))
         (FS.ite (FS.ob h_s24 (fS_F_letter _ _ ) (le_fs111_fs178) fun r57 s56 h_s56 =>
           FS.ite (FS.ob h_s56 (hcf_printNode _ _) (FtR fs178) fun r62 s61 h_s61 =>
            FS.ob h_s61 (fS_F_letter _ _ ) (le_fs111_fs178) fun r66 s65 h_s65 =>
            FS.call h_s65 (fS_L_printChain_60 _ hcf_printNode _ _ _) (FtR fs178))
           (FS.none))
          (FS.ite (FS.ob h_s24 (fS_F_letter _ _ ) (le_fs111_fs178) fun r43 s42 h_s42 =>
            FS.ite (FS.ob h_s42 (hcf_printNode _ _) (FtR fs178) fun r48 s47 h_s47 =>
             FS.ob h_s47 (fS_F_letter _ _ ) (le_fs111_fs178) fun r52 s51 h_s51 =>
             FS.call h_s51 (fS_L_printChain_60 _ hcf_printNode _ _ _) (FtR fs178))
            (FS.none))
           (FS.ob h_s24 (fS_F_letter _ _ ) (le_fs111_fs178) fun r30 s29 h_s29 =>
            FS.ite (FS.ob h_s29 (hcf_printNode _ _) (FtR fs178) fun r35 s34 h_s34 =>
             FS.ob h_s34 (fS_F_letter _ _ ) (le_fs111_fs178) fun r39 s38 h_s38 =>
             FS.call h_s38 (fS_L_printChain_60 _ hcf_printNode _ _ _) (FtR fs178))
            (FS.none)))))
        (FS.none))
       (FS.none))
theorem fS_B_printChain (cf_printNode : Int32 → TS → Option (Unit × TS)) (x1 : Int32) (σ : TS) (hcf_printNode : ∀ (a0 : Int32) (a1 : TS), FS fs178 a1 (cf_printNode a0 a1)) : FS fs178 σ (B_printChain cf_printNode x1 σ) := by
  unfold B_printChain
  exact FS.nmV fun v1 =>
    FS.ob (Ft.rf _ _) (fS_L_printChain_7 _ hcf_printNode _ _ _ _) (FtR fs178) fun q17 s18 h_s18 =>
    FS.ob h_s18 (hcf_printNode _ _) (FtR fs178) fun r21 s20 h_s20 =>
    FS.ob h_s20 (fS_L_printChain_60 _ hcf_printNode _ _ _) (FtR fs178) fun q85 s86 h_s86 =>
    FS.some h_s86
theorem fS_J_printNode_521 (cf_printNode : Int32 → TS → Option (Unit × TS)) (cf_printCall : Nat → Int32 → Int32 → TS → Option (Unit × TS)) (cf_printChain : Int32 → TS → Option (Unit × TS)) (x1 : Int32) (σ : TS) (hcf_printNode : ∀ (a0 : Int32) (a1 : TS), FS fs178 a1 (cf_printNode a0 a1)) (hcf_printCall : ∀ (a0 : Nat) (a1 : Int32) (a2 : Int32) (a3 : TS), FS fs178 a3 (cf_printCall a0 a1 a2 a3)) (hcf_printChain : ∀ (a0 : Int32) (a1 : TS), FS fs178 a1 (cf_printChain a0 a1)) : FS fs178 σ (J_printNode_521 cf_printNode cf_printCall cf_printChain x1 σ) := by
  unfold J_printNode_521
  exact FS.ite (FS.ob (Ft.rf _ _) (fS_F_letter _ _ ) (le_fs111_fs178) fun r153 s152 h_s152 =>
     FS.ite (FS.ob h_s152 (hcf_printNode _ _) (FtR fs178) fun r158 s157 h_s157 =>
      FS.ob h_s157 (fS_F_letter _ _ ) (le_fs111_fs178) fun r162 s161 h_s161 =>
      FS.some h_s161)
     (FS.none))
    (FS.none)
theorem fS_B_printNode (cf_printNode : Int32 → TS → Option (Unit × TS)) (cf_printCall : Nat → Int32 → Int32 → TS → Option (Unit × TS)) (cf_printChain : Int32 → TS → Option (Unit × TS)) (x1 : Int32) (σ : TS) (hcf_printNode : ∀ (a0 : Int32) (a1 : TS), FS fs178 a1 (cf_printNode a0 a1)) (hcf_printCall : ∀ (a0 : Nat) (a1 : Int32) (a2 : Int32) (a3 : TS), FS fs178 a3 (cf_printCall a0 a1 a2 a3)) (hcf_printChain : ∀ (a0 : Int32) (a1 : TS), FS fs178 a1 (cf_printChain a0 a1)) : FS fs178 σ (B_printNode cf_printNode cf_printCall cf_printChain x1 σ) := by
  unfold B_printNode
  exact FS.ite (FS.ite (FS.nmV fun v2 =>
      FS.ite (FS.ite (FS.ob (Ft.rf _ _) (fS_F_printNumber _ _ ) (le_fs111_fs178) fun r6 s5 h_s5 =>
        FS.some h_s5)
       (FS.none))
      (FS.ite (FS.ob (Ft.rf _ _) (fS_F_tellText _ _ ) (le_fs111_fs178) fun r11 s10 h_s10 =>
        FS.some h_s10)
       (FS.ite (FS.ob (Ft.rf _ _) (fS_F_printLeaf _ _ ) (le_fs111_fs178) fun r16 s15 h_s15 =>
         FS.some h_s15)
        (FS.ite (FS.ob (Ft.rf _ _) (fS_F_printLeaf _ _ ) (le_fs111_fs178) fun r21 s20 h_s20 =>
          FS.some h_s20)
         (FS.ite (FS.ob (Ft.rf _ _) (fS_F_printLeaf _ _ ) (le_fs111_fs178) fun r26 s25 h_s25 =>
           FS.some h_s25)
          (FS.ite (FS.ob (Ft.rf _ _) (hcf_printChain _ _) (FtR fs178) fun r31 s30 h_s30 =>
            FS.some h_s30)
           (FS.ite (FS.ob (Ft.rf _ _) (hcf_printChain _ _) (FtR fs178) fun r36 s35 h_s35 =>
             FS.some h_s35)
            (FS.ite (FS.ob (Ft.rf _ _) (fS_F_tellText _ _ ) (le_fs111_fs178) fun r41 s40 h_s40 =>
              FS.ite (FS.ob h_s40 (hcf_printNode _ _) (FtR fs178) fun r46 s45 h_s45 =>
               FS.ob h_s45 (fS_F_letter _ _ ) (le_fs111_fs178) fun r50 s49 h_s49 =>
               FS.some h_s49)
              (FS.none))
             (FS.ite (FS.ob (Ft.rf _ _) (hcf_printChain _ _) (FtR fs178) fun r55 s54 h_s54 =>
               FS.some h_s54)
              (FS.ite (FS.ob (Ft.rf _ _) (hcf_printChain _ _) (FtR fs178) fun r60 s59 h_s59 =>
                FS.some h_s59)
               (FS.ite (FS.ob (Ft.rf _ _) (hcf_printCall _ _ _ _) (FtR fs178) fun r65 s64 h_s64 =>
                 FS.some h_s64)
                (FS.ite (FS.ob (Ft.rf _ _) (hcf_printCall _ _ _ _) (FtR fs178) fun r70 s69 h_s69 =>
                  FS.some h_s69)
                 (FS.ite (FS.ob (Ft.rf _ _) (hcf_printCall _ _ _ _) (FtR fs178) fun r75 s74 h_s74 =>
                   FS.some h_s74)
                  (FS.ite (FS.ob (Ft.rf _ _) (hcf_printCall _ _ _ _) (FtR fs178) fun r80 s79 h_s79 =>
                    FS.some h_s79)
                   (FS.ite (FS.ob (Ft.rf _ _) (hcf_printCall _ _ _ _) (FtR fs178) fun r85 s84 h_s84 =>
                     FS.some h_s84)
                    (FS.ite (FS.ob (Ft.rf _ _) (hcf_printCall _ _ _ _) (FtR fs178) fun r90 s89 h_s89 =>
                      FS.some h_s89)
                     (FS.ite (FS.ob (Ft.rf _ _) (fS_F_tellText _ _ ) (le_fs111_fs178) fun r95 s94 h_s94 =>
                       FS.ite (FS.ob h_s94 (hcf_printNode _ _) (FtR fs178) fun r100 s99 h_s99 =>
                        FS.ob h_s99 (fS_F_tellText _ _ ) (le_fs111_fs178) fun r104 s103 h_s103 =>
                        FS.ite (FS.ob h_s103 (hcf_printNode _ _) (FtR fs178) fun r109 s108 h_s108 =>
                         FS.ob h_s108 (fS_F_tellText _ _ ) (le_fs111_fs178) fun r113 s112 h_s112 =>
                         FS.ite (FS.ob h_s112 (hcf_printNode _ _) (FtR fs178) fun r118 s117 h_s117 =>
                          FS.ob h_s117 (fS_F_letter _ _ ) (le_fs111_fs178) fun r122 s121 h_s121 =>
                          FS.some h_s121)
                         (FS.none))
                        (FS.none))
                       (FS.none))
                      (FS.ite (FS.ob (Ft.rf _ _) (hcf_printChain _ _) (FtR fs178) fun r127 s126 h_s126 =>
                        FS.some h_s126)
                       (FS.ite (FS.ob (Ft.rf _ _) (hcf_printChain _ _) (FtR fs178) fun r132 s131 h_s131 =>
                         FS.some h_s131)
                        (FS.ite (FS.ob (Ft.rf _ _) (hcf_printChain _ _) (FtR fs178) fun r137 s136 h_s136 =>
                          FS.some h_s136)
                         (FS.ite (FS.ob (Ft.rf _ _) (fS_F_letter _ _ ) (le_fs111_fs178) fun r142 s141 h_s141 =>
                           FS.ite (FS.ob h_s141 (hcf_printNode _ _) (FtR fs178) fun r147 s146 h_s146 =>
                            FS.ite (FS.ite (FS.call h_s146 (fS_J_printNode_521 _ _ _ _ _ hcf_printNode hcf_printCall hcf_printChain ) (FtR fs178))
                             (FS.ite (FS.ob h_s146 (fS_F_letter _ _ ) (le_fs111_fs178) fun r167 s166 h_s166 =>
                               FS.call h_s166 (fS_J_printNode_521 _ _ _ _ _ hcf_printNode hcf_printCall hcf_printChain ) (FtR fs178))
                              (FS.none)))
                            (FS.none))
                           (FS.none))
                          (FS.ite (FS.ob (Ft.rf _ _) (fS_F_letter _ _ ) (le_fs111_fs178) fun r173 s172 h_s172 =>
                            FS.ite (FS.ob h_s172 (hcf_printNode _ _) (FtR fs178) fun r178 s177 h_s177 =>
                             FS.ite (FS.ob h_s177 (fS_F_tellText _ _ ) (le_fs111_fs178) fun r195 s194 h_s194 =>
                              FS.ite (FS.ob h_s194 (hcf_printNode _ _) (FtR fs178) fun r200 s199 h_s199 =>
                               FS.ob h_s199 (fS_F_letter _ _ ) (le_fs111_fs178) fun r204 s203 h_s203 =>
                               FS.some h_s203)
                              (FS.none))
                             (FS.ob h_s177 (fS_F_tellText _ _ ) (le_fs111_fs178) fun r182 s181 h_s181 =>
                              FS.ite (FS.ob h_s181 (hcf_printNode _ _) (FtR fs178) fun r187 s186 h_s186 =>
                               FS.ob h_s186 (fS_F_letter _ _ ) (le_fs111_fs178) fun r191 s190 h_s190 =>
                               FS.some h_s190)
                              (FS.none)))
                            (FS.none))
                           (FS.ite (FS.ob (Ft.rf _ _) (fS_F_letter _ _ ) (le_fs111_fs178) fun r210 s209 h_s209 =>
                             FS.ite (FS.ob h_s209 (hcf_printNode _ _) (FtR fs178) fun r215 s214 h_s214 =>
                              FS.ite (FS.ob h_s214 (fS_F_tellText _ _ ) (le_fs111_fs178) fun r232 s231 h_s231 =>
                               FS.ite (FS.ob h_s231 (hcf_printNode _ _) (FtR fs178) fun r237 s236 h_s236 =>
                                FS.ob h_s236 (fS_F_letter _ _ ) (le_fs111_fs178) fun r241 s240 h_s240 =>
                                FS.some h_s240)
                               (FS.none))
                              (FS.ob h_s214 (fS_F_tellText _ _ ) (le_fs111_fs178) fun r219 s218 h_s218 =>
                               FS.ite (FS.ob h_s218 (hcf_printNode _ _) (FtR fs178) fun r224 s223 h_s223 =>
                                FS.ob h_s223 (fS_F_letter _ _ ) (le_fs111_fs178) fun r228 s227 h_s227 =>
                                FS.some h_s227)
                               (FS.none)))
                             (FS.none))
                            (FS.ite (FS.ob (Ft.rf _ _) (fS_F_tellText _ _ ) (le_fs111_fs178) fun r247 s246 h_s246 =>
                              FS.ite (FS.ob h_s246 (hcf_printNode _ _) (FtR fs178) fun r252 s251 h_s251 =>
                               FS.ob h_s251 (fS_F_letter _ _ ) (le_fs111_fs178) fun r256 s255 h_s255 =>
                               FS.some h_s255)
                              (FS.none))
                             (FS.ite (FS.ob (Ft.rf _ _) (fS_F_tellText _ _ ) (le_fs111_fs178) fun r261 s260 h_s260 =>
                               FS.ite (FS.ob h_s260 (fS_F_printNumber _ _ ) (le_fs111_fs178) fun r266 s265 h_s265 =>
                                FS.ob h_s265 (fS_F_letter _ _ ) (le_fs111_fs178) fun r270 s269 h_s269 =>
                                FS.ite (FS.ob h_s269 (fS_F_printNumber _ _ ) (le_fs111_fs178) fun r275 s274 h_s274 =>
                                 FS.ob h_s274 (fS_F_letter _ _ ) (le_fs111_fs178) fun r279 s278 h_s278 =>
                                 FS.some h_s278)
                                (FS.none))
                               (FS.none))
                              (FS.ite (FS.ob (Ft.rf _ _) (fS_F_letter _ _ ) (le_fs111_fs178) fun r284 s283 h_s283 =>
                                FS.ite (FS.ob h_s283 (hcf_printNode _ _) (FtR fs178) fun r289 s288 h_s288 =>
                                 FS.ite (FS.ite (FS.call h_s288 (fS_J_printNode_521 _ _ _ _ _ hcf_printNode hcf_printCall hcf_printChain ) (FtR fs178))
                                  (FS.ite (FS.ob h_s288 (fS_F_letter _ _ ) (le_fs111_fs178) fun r295 s294 h_s294 =>
                                    FS.call h_s294 (fS_J_printNode_521 _ _ _ _ _ hcf_printNode hcf_printCall hcf_printChain ) (FtR fs178))
                                   (FS.none)))
                                 (FS.none))
                                (FS.none))
                               (FS.ite (FS.ob (Ft.rf _ _) (hcf_printChain _ _) (FtR fs178) fun r301 s300 h_s300 =>
                                 FS.some h_s300)
                                (FS.ite (FS.ob (Ft.rf _ _) (hcf_printChain _ _) (FtR fs178) fun r306 s305 h_s305 =>
                                  FS.some h_s305)
                                 (FS.ite (FS.ob (Ft.rf _ _) (hcf_printChain _ _) (FtR fs178) fun r311 s310 h_s310 =>
                                   FS.some h_s310)
                                  (FS.ite (FS.ob (Ft.rf _ _) (hcf_printChain _ _) (FtR fs178) fun r316 s315 h_s315 =>
                                    FS.some h_s315)
                                   (FS.ite (FS.ite (FS.ob (Ft.rf _ _) (fS_F_printUnknown _ _ ) (le_fs111_fs178) fun r322 s321 h_s321 =>
                                      FS.some h_s321)
                                     (FS.none))
                                    (FS.ob (Ft.rf _ _) (hcf_printChain _ _) (FtR fs178) fun r326 s325 h_s325 =>
                                     FS.some h_s325))))))))))))))))))))))))))))))))
     (FS.none))
    (FS.some (Ft.rf _ _))
theorem fS_G_printCall : ∀ d : Nat, (∀ (a0 : Nat) (a1 : Int32) (a2 : Int32) (a3 : TS), FS fs178 a3 ((G_printCall d).1 a0 a1 a2 a3)) ∧ (∀ (a0 : Int32) (a1 : TS), FS fs178 a1 ((G_printCall d).2.1 a0 a1)) ∧ (∀ (a0 : Int32) (a1 : TS), FS fs178 a1 ((G_printCall d).2.2 a0 a1)) := by
  intro d
  induction d with
  | zero => exact ⟨fun _ _ _ _ => FS.none, fun _ _ => FS.none, fun _ _ => FS.none⟩
  | succ d ih => exact ⟨fun a0 a1 a2 a3 => fS_B_printCall _ a0 a1 a2 a3 (fun b0 b1 => ih.2.2 b0 b1), fun a0 a1 => fS_B_printChain _ a0 a1 (fun b0 b1 => ih.2.2 b0 b1), fun a0 a1 => fS_B_printNode _ _ _ a0 a1 (fun b0 b1 => ih.2.2 b0 b1) (fun b0 b1 b2 b3 => ih.1 b0 b1 b2 b3) (fun b0 b1 => ih.2.1 b0 b1)⟩
theorem fS_F_printCall (a0 : Nat) (a1 : Int32) (a2 : Int32) (a3 : TS) : FS fs178 a3 (F_printCall a0 a1 a2 a3) := (fS_G_printCall 500).1 a0 a1 a2 a3
theorem fS_F_printChain (a0 : Int32) (a1 : TS) : FS fs178 a1 (F_printChain a0 a1) := (fS_G_printCall 500).2.1 a0 a1
theorem fS_F_printNode (a0 : Int32) (a1 : TS) : FS fs178 a1 (F_printNode a0 a1) := (fS_G_printCall 500).2.2 a0 a1
theorem fS_J_print_279 (x2 : Int32) (y1 : Nat) (σ : TS)  : FS fs179 σ (J_print_279 x2 y1 σ) := by
  unfold J_print_279
  exact FS.ob (Ft.rf _ _) (fS_F_tellText _ _ ) (le_fs111_fs179) fun r12 s11 h_s11 =>
    FS.ite (FS.ob h_s11 (fS_F_printNode  _ _) (le_fs178_fs179) fun r17 s16 h_s16 =>
     FS.ite (FS.ite (FS.ob h_s16 (fS_F_letter _ _ ) (le_fs111_fs179) fun r23 s22 h_s22 =>
       FS.nmT (Ft.p_tsI h_s22 rfl) fun s26 h_s26 =>
       FS.some h_s26)
      (FS.nmT (Ft.p_tsI h_s16 rfl) fun s21 h_s21 =>
       FS.some h_s21))
     (FS.none))
    (FS.none)
theorem fS_J_print_248 (x2 : Int32) (σ : TS)  : FS fs179 σ (J_print_248 x2 σ) := by
  unfold J_print_248
  exact FS.ite (FS.ob (Ft.rf _ _) (fS_F_printVariable _ _ ) (le_fs111_fs179) fun r7 s6 h_s6 =>
     FS.ite (FS.ite (FS.call h_s6 (fS_J_print_279 _ _ _ ) (FtR fs179))
      (FS.call h_s6 (fS_J_print_279 _ _ _ ) (FtR fs179)))
     (FS.none))
    (FS.none)
theorem fS_J_print_158 (x1 : Int32) (x2 : Int32) (y1 : Int32) (σ : TS)  : FS fs179 σ (J_print_158 x1 x2 y1 σ) := by
  unfold J_print_158
  exact FS.ob (Ft.rf _ _) (fS_F_printNode  _ _) (le_fs178_fs179) fun r50 s49 h_s49 =>
    FS.ob h_s49 (fS_F_tellText _ _ ) (le_fs111_fs179) fun r54 s53 h_s53 =>
    FS.ite (FS.ite (FS.ob h_s53 (fS_F_printNode  _ _) (le_fs178_fs179) fun r65 s64 h_s64 =>
      FS.nmT (Ft.p_tsI h_s64 rfl) fun s68 h_s68 =>
      FS.some h_s68)
     (FS.none))
    (FS.ite (FS.ob h_s53 (fS_F_printNode  _ _) (le_fs178_fs179) fun r59 s58 h_s58 =>
      FS.nmT (Ft.p_tsI h_s58 rfl) fun s62 h_s62 =>
      FS.some h_s62)
     (FS.none))
theorem fS_J_print_130 (x1 : Int32) (x2 : Int32) (y1 : Int32) (σ : TS)  : FS fs179 σ (J_print_130 x1 x2 y1 σ) := by
  unfold J_print_130
  exact FS.nmT (Ft.p_tsI (Ft.rf _ _) rfl) fun s3 h_s3 =>
    FS.ite (FS.ite (FS.ite (FS.ob h_s3 (fS_F_printNode  _ _) (le_fs178_fs179) fun r43 s42 h_s42 =>
       FS.nmT (Ft.p_tsI h_s42 rfl) fun s46 h_s46 =>
       FS.some h_s46)
      (FS.none))
     (FS.ite (FS.ite (FS.ob h_s3 (fS_F_printNode  _ _) (le_fs178_fs179) fun r36 s35 h_s35 =>
        FS.nmT (Ft.p_tsI h_s35 rfl) fun s39 h_s39 =>
        FS.some h_s39)
       (FS.none))
      (FS.ite (FS.ite (FS.ob h_s3 (fS_F_tellText _ _ ) (le_fs111_fs179) fun r30 s29 h_s29 =>
         FS.call h_s29 (fS_J_print_248 _ _ ) (FtR fs179))
        (FS.call h_s3 (fS_J_print_248 _ _ ) (FtR fs179)))
       (FS.none))))
    (FS.ite (FS.ite (FS.call h_s3 (fS_J_print_158 _ _ _ _ ) (FtR fs179))
      (FS.none))
     (FS.ite (FS.call h_s3 (fS_J_print_158 _ _ _ _ ) (FtR fs179))
      (FS.none)))
theorem fS_J_print_114 (x1 : Int32) (x2 : Int32) (σ : TS)  : FS fs179 σ (J_print_114 x1 x2 σ) := by
  unfold J_print_114
  exact FS.nmT (Ft.p_tsI (Ft.rf _ _) rfl) fun s2 h_s2 =>
    FS.ite (FS.call h_s2 (fS_J_print_130 _ _ _ _ ) (FtR fs179))
    (FS.call h_s2 (fS_J_print_130 _ _ _ _ ) (FtR fs179))
theorem fS_J_print_87 (x1 : Int32) (x2 : Int32) (y0 : Int32) (σ : TS)  : FS fs179 σ (J_print_87 x1 x2 y0 σ) := by
  unfold J_print_87
  exact FS.ite (FS.some (Ft.rf _ _))
    (FS.ite (FS.some (Ft.rf _ _))
     (FS.ite (FS.ite (FS.ite (FS.call (Ft.rf _ _) (fS_J_print_114 _ _ _ ) (FtR fs179))
        (FS.some (Ft.rf _ _)))
       (FS.none))
      (FS.call (Ft.rf _ _) (fS_J_print_114 _ _ _ ) (FtR fs179))))
theorem fS_J_print_36 (x1 : Int32) (x2 : Int32) (σ : TS)  : FS fs179 σ (J_print_36 x1 x2 σ) := by
  unfold J_print_36
  exact FS.ite (FS.call (Ft.rf _ _) (fS_J_print_87 _ _ _ _ ) (FtR fs179))
    (FS.ite (FS.call (Ft.rf _ _) (fS_J_print_87 _ _ _ _ ) (FtR fs179))
     (FS.ite (FS.call (Ft.rf _ _) (fS_J_print_87 _ _ _ _ ) (FtR fs179))
      (FS.ite (FS.call (Ft.rf _ _) (fS_J_print_87 _ _ _ _ ) (FtR fs179))
       (FS.call (Ft.rf _ _) (fS_J_print_87 _ _ _ _ ) (FtR fs179)))))
theorem fS_F_print (x1 : Int32) (x2 : Int32) (σ : TS)  : FS fs179 σ (F_print x1 x2 σ) := by
  unfold F_print
  exact FS.ite (FS.some (Ft.rf _ _))
    (FS.ite (FS.some (Ft.rf _ _))
     (FS.ite (FS.ite (FS.ite (FS.some (Ft.rf _ _))
        (FS.call (Ft.rf _ _) (fS_J_print_36 _ _ _ ) (FtR fs179)))
       (FS.call (Ft.rf _ _) (fS_J_print_36 _ _ _ ) (FtR fs179)))
      (FS.some (Ft.rf _ _))))
theorem fS_L_reduce_7   : ∀ (n : Nat) (x1 : Int32) (σ : TS), FS fs156 σ (L_reduce_7  n x1 σ)
  | 0, _, _ => FS.none
  | n + 1, x1, σ => by
    rw [L_reduce_7]
    exact FS.ite (FS.some (Ft.rf _ _))
      (FS.ite (FS.nmT (Ft.p_tsA (Ft.rf _ _) rfl) fun s3 h_s3 =>
        FS.nmV fun v4 =>
        FS.call h_s3 (fS_L_reduce_7  _ _ _) (FtR fs156))
       (FS.none))
theorem fS_L_reduce_94   : ∀ (n : Nat) (x1 : Int32) (x2 : Int32) (x3 : Int32) (x4 : Int32) (σ : TS), FS fs64 σ (L_reduce_94  n x1 x2 x3 x4 σ)
  | 0, _, _, _, _, _ => FS.none
  | n + 1, x1, x2, x3, x4, σ => by
    rw [L_reduce_94]
    exact FS.ite (FS.some (Ft.rf _ _))
      (FS.ob (Ft.rf _ _) (fS_F_isBad _ ) (le_fs0_fs64) fun r30 s29 h_s29 =>
       FS.ite (FS.ite (FS.ite (FS.nmV fun v35 =>
          FS.call h_s29 (fS_L_reduce_94  _ _ _ _ _ _) (FtR fs64))
         (FS.ite (FS.ite (FS.ob h_s29 (fS_F_newUnknown _ _ _ _ ) (FtR fs64) fun r39 s38 h_s38 =>
            FS.nmV fun v42 =>
            FS.call h_s38 (fS_L_reduce_94  _ _ _ _ _ _) (FtR fs64))
           (FS.none))
          (FS.none)))
        (FS.none))
       (FS.some h_s29))
theorem fS_L_reduce_155   : ∀ (n : Nat) (x1 : Int32) (x2 : Int32) (x3 : Int32) (x4 : Int32) (x5 : Int32) (σ : TS), FS fs69 σ (L_reduce_155  n x1 x2 x3 x4 x5 σ)
  | 0, _, _, _, _, _, _ => FS.none
  | n + 1, x1, x2, x3, x4, x5, σ => by
    rw [L_reduce_155]
    exact FS.ite (FS.some (Ft.rf _ _))
      (FS.ob (Ft.rf _ _) (fS_F_isBad _ ) (le_fs0_fs69) fun r51 s50 h_s50 =>
       FS.ite (FS.ite (FS.ite (FS.nmV fun v56 =>
          FS.call h_s50 (fS_L_reduce_155  _ _ _ _ _ _ _) (FtR fs69))
         (FS.ob h_s50 (fS_F_differentiate _ _ ) (FtR fs69) fun r58 s57 h_s57 =>
          FS.nmV fun v61 =>
          FS.call h_s57 (fS_L_reduce_155  _ _ _ _ _ _ _) (FtR fs69)))
        (FS.none))
       (FS.some h_s50))
theorem fS_L_reduce_202   : ∀ (n : Nat) (x1 : Int32) (x2 : Int32) (x3 : Int32) (x5 : Int32) (σ : TS), FS fs156 σ (L_reduce_202  n x1 x2 x3 x5 σ)
  | 0, _, _, _, _, _ => FS.none
  | n + 1, x1, x2, x3, x5, σ => by
    rw [L_reduce_202]
    exact FS.ite (FS.some (Ft.rf _ _))
      (FS.ite (FS.ite (FS.nmV fun v74 =>
         FS.call (Ft.rf _ _) (fS_L_reduce_202  _ _ _ _ _ _) (FtR fs156))
        (FS.ite (FS.ite (FS.ite (FS.ite (FS.nmT (Ft.p_tsA (Ft.rf _ _) rfl) fun s79 h_s79 =>
             FS.nmV fun v80 =>
             FS.call h_s79 (fS_L_reduce_202  _ _ _ _ _ _) (FtR fs156))
            (FS.none))
           (FS.none))
          (FS.none))
         (FS.none)))
       (FS.none))
theorem fS_J_reduce_191_64 (rec : Int32 → Int32 → TS → Option ((Unit ⊕ Unit) × TS)) (x1 : Int32) (x2 : Int32) (x3 : Int32) (σ : TS) (hrec : ∀ (a0 : Int32) (a1 : Int32) (a2 : TS), FS fs180 a2 (rec a0 a1 a2)) : FS fs180 σ (J_reduce_191_64 rec x1 x2 x3 σ) := by
  unfold J_reduce_191_64
  exact FS.ob (Ft.rf _ _) (fS_F_isBad _ ) (le_fs0_fs180) fun r69 s68 h_s68 =>
    FS.ite (FS.ob h_s68 (fS_L_reduce_202  _ _ _ _ _ _) (le_fs156_fs180) fun q83 s84 h_s84 =>
     FS.ite (FS.nmV fun v87 =>
      FS.call h_s84 (hrec _ _ _) (FtR fs180))
     (FS.none))
    (FS.some h_s68)
theorem fS_J_reduce_146_64 (rec : Int32 → Int32 → TS → Option ((Unit ⊕ Unit) × TS)) (x1 : Int32) (x2 : Int32) (x3 : Int32) (σ : TS) (hrec : ∀ (a0 : Int32) (a1 : Int32) (a2 : TS), FS fs180 a2 (rec a0 a1 a2)) : FS fs180 σ (J_reduce_146_64 rec x1 x2 x3 σ) := by
  unfold J_reduce_146_64
  exact FS.nmV fun v49 =>
    FS.ob (Ft.rf _ _) (fS_L_reduce_155  _ _ _ _ _ _ _) (le_fs69_fs180) fun q65 s66 h_s66 =>
    FS.call h_s66 (fS_J_reduce_191_64 _ _ _ _ _ hrec ) (FtR fs180)
theorem fS_L_reduce_64   : ∀ (n : Nat) (x1 : Int32) (x2 : Int32) (σ : TS), FS fs180 σ (L_reduce_64  n x1 x2 σ)
  | 0, _, _, _ => FS.none
  | n + 1, x1, x2, σ => by
    rw [L_reduce_64]
    exact FS.ob (Ft.rf _ _) (fS_F_isBad _ ) (le_fs0_fs180) fun r17 s16 h_s16 =>
      FS.ite (FS.ob h_s16 (fS_F_unmark _ ) (le_fs42_fs180) fun r21 s20 h_s20 =>
       FS.ob h_s20 (fS_F_attempt  _ _) (le_fs27_fs180) fun r25 s24 h_s24 =>
       FS.ite (FS.nmV fun v28 =>
        FS.ob h_s24 (fS_L_reduce_94  _ _ _ _ _ _) (le_fs64_fs180) fun q46 s47 h_s47 =>
        FS.call h_s47 (fS_J_reduce_146_64 _ _ _ _ _ (fun a0 a1 a2 => fS_L_reduce_64   _ a0 a1 a2) ) (FtR fs180))
       (FS.some h_s24))
      (FS.some h_s16)
theorem fS_L_reduce_30   : ∀ (n : Nat) (x1 : Int32) (σ : TS), FS fs181 σ (L_reduce_30  n x1 σ)
  | 0, _, _ => FS.none
  | n + 1, x1, σ => by
    rw [L_reduce_30]
    exact FS.ite (FS.some (Ft.rf _ _))
      (FS.ob (Ft.rf _ _) (fS_F_isBad _ ) (le_fs0_fs181) fun r10 s9 h_s9 =>
       FS.ite (FS.ite (FS.ite (FS.nmT (Ft.p_tsI h_s9 rfl) fun s15 h_s15 =>
          FS.obS h_s15 (fS_L_reduce_64  _ _ _ _) (le_fs180_fs181) (fun r99 s95 h_s95 => FS.some h_s95) fun q94 s95 h_s95 =>
          FS.nmV fun v97 =>
          FS.call h_s95 (fS_L_reduce_30  _ _ _) (FtR fs181))
         (FS.nmV fun v100 =>
          FS.call h_s9 (fS_L_reduce_30  _ _ _) (FtR fs181)))
        (FS.none))
       (FS.some h_s9))
theorem fS_F_reduce (σ : TS)  : FS fs182 σ (F_reduce σ) := by
  unfold F_reduce
  exact FS.nmT (Ft.p_tsI (Ft.rf _ _) rfl) fun s1 h_s1 =>
    FS.ob h_s1 (fS_L_reduce_7  _ _ _) (le_fs156_fs182) fun q6 s7 h_s7 =>
    FS.obS h_s7 (fS_L_reduce_30  _ _ _) (le_fs181_fs182) (fun r108 s105 h_s105 => FS.some h_s105) fun q104 s105 h_s105 =>
    FS.some h_s105
theorem fS_F_relation (x1 : Int32) (σ : TS)  : FS fs0 σ (F_relation x1 σ) := by
  unfold F_relation
  exact FS.ite (FS.some (Ft.rf _ _))
    (FS.ite (FS.ite (FS.some (Ft.rf _ _))
      (FS.ite (FS.ite (FS.ite (FS.some (Ft.rf _ _))
         (FS.some (Ft.rf _ _)))
        (FS.none))
       (FS.some (Ft.rf _ _))))
     (FS.ite (FS.some (Ft.rf _ _))
      (FS.ite (FS.ite (FS.some (Ft.rf _ _))
        (FS.some (Ft.rf _ _)))
       (FS.none))))
theorem fS_L_run_39   : ∀ (n : Nat) (x1 : Int32) (x2 : Int32) (x3 : Int32) (σ : TS), FS fs183 σ (L_run_39  n x1 x2 x3 σ)
  | 0, _, _, _, _ => FS.none
  | n + 1, x1, x2, x3, σ => by
    rw [L_run_39]
    exact FS.ite (FS.some (Ft.rf _ _))
      (FS.ob (Ft.rf _ _) (fS_F_oneStep _ ) (le_fs177_fs183) fun r5 s4 h_s4 =>
       FS.ite (FS.ob h_s4 (fS_F_isBad _ ) (le_fs0_fs183) fun r9 s8 h_s8 =>
        FS.ite (FS.nmV fun v12 =>
         FS.call h_s8 (fS_L_run_39  _ _ _ _ _) (FtR fs183))
        (FS.nmT (Ft.p_tsI h_s8 rfl) fun s13 h_s13 =>
         FS.ob h_s13 (fS_F_faulted _ ) (le_fs97_fs183) fun r15 s14 h_s14 =>
         FS.some h_s14))
       (FS.nmV fun v19 =>
        FS.ob h_s4 (fS_F_isBad _ ) (le_fs0_fs183) fun r21 s20 h_s20 =>
        FS.ite (FS.nmV fun v24 =>
         FS.call h_s20 (fS_L_run_39  _ _ _ _ _) (FtR fs183))
        (FS.nmT (Ft.p_tsI h_s20 rfl) fun s25 h_s25 =>
         FS.ob h_s25 (fS_F_faulted _ ) (le_fs97_fs183) fun r27 s26 h_s26 =>
         FS.some h_s26)))
theorem fS_F_run (x1 : Int32) (σ : TS)  : FS fs183 σ (F_run x1 σ) := by
  unfold F_run
  exact FS.ite (FS.some (Ft.rf _ _))
    (FS.ite (FS.ite (FS.some (Ft.rf _ _))
      (FS.ite (FS.nmT (Ft.p_tsI (Ft.rf _ _) rfl) fun s3 h_s3 =>
        FS.obS h_s3 (fS_L_run_39  _ _ _ _ _) (FtR fs183) (fun r37 s34 h_s34 => FS.some h_s34) fun q33 s34 h_s34 =>
        FS.some h_s34)
       (FS.some (Ft.rf _ _))))
     (FS.some (Ft.rf _ _)))
theorem fS_L_set_52   : ∀ (n : Nat) (x1 : Int32) (x2 : Int32) (x3 : Int32) (σ : TS), FS fs184 σ (L_set_52  n x1 x2 x3 σ)
  | 0, _, _, _, _ => FS.none
  | n + 1, x1, x2, x3, σ => by
    rw [L_set_52]
    exact FS.ite (FS.some (Ft.rf _ _))
      (FS.ite (FS.ite (FS.nmT (Ft.p_tsA (Ft.rf _ _) rfl) fun s11 h_s11 =>
         FS.ite (FS.ite (FS.nmT (Ft.p_tsA h_s11 rfl) fun s14 h_s14 =>
           FS.ite (FS.nmT (Ft.p_tsA h_s14 rfl) fun s16 h_s16 =>
            FS.nmV fun v17 =>
            FS.call h_s16 (fS_L_set_52  _ _ _ _ _) (FtR fs184))
           (FS.none))
          (FS.none))
         (FS.none))
        (FS.none))
       (FS.none))
theorem fS_L_set_121   : ∀ (n : Nat) (x1 : Int32) (x3 : Int32) (x4 : Int32) (σ : TS), FS fs2 σ (L_set_121  n x1 x3 x4 σ)
  | 0, _, _, _, _ => FS.none
  | n + 1, x1, x3, x4, σ => by
    rw [L_set_121]
    exact FS.ite (FS.some (Ft.rf _ _))
      (FS.ob (Ft.rf _ _) (fS_F_isBad _ ) (le_fs0_fs2) fun r29 s28 h_s28 =>
       FS.ite (FS.ite (FS.ite (FS.ob h_s28 (fS_F_parameter  _ _) (FtR fs2) fun r35 s34 h_s34 =>
          FS.nmV fun v38 =>
          FS.call h_s34 (fS_L_set_121  _ _ _ _ _) (FtR fs2))
         (FS.nmV fun v33 =>
          FS.call h_s28 (fS_L_set_121  _ _ _ _ _) (FtR fs2)))
        (FS.none))
       (FS.some h_s28))
theorem fS_L_set_163   : ∀ (n : Nat) (x1 : Int32) (x3 : Int32) (x4 : Int32) (σ : TS), FS fs119 σ (L_set_163  n x1 x3 x4 σ)
  | 0, _, _, _, _ => FS.none
  | n + 1, x1, x3, x4, σ => by
    rw [L_set_163]
    exact FS.ite (FS.some (Ft.rf _ _))
      (FS.ob (Ft.rf _ _) (fS_F_isBad _ ) (le_fs0_fs119) fun r46 s45 h_s45 =>
       FS.ite (FS.ob h_s45 (fS_F_startOf _ _ ) (FtR fs119) fun r50 s49 h_s49 =>
        FS.nmV fun v53 =>
        FS.call h_s49 (fS_L_set_163  _ _ _ _ _) (FtR fs119))
       (FS.some h_s45))
theorem fS_L_set_208   : ∀ (n : Nat) (x4 : Int32) (σ : TS), FS fs185 σ (L_set_208  n x4 σ)
  | 0, _, _ => FS.none
  | n + 1, x4, σ => by
    rw [L_set_208]
    exact FS.ite (FS.some (Ft.rf _ _))
      (FS.ite (FS.ite (FS.nmT (Ft.p_tsA (Ft.rf _ _) rfl) fun s69 h_s69 =>
         FS.ite (FS.ite (FS.nmT (Ft.p_tsA h_s69 rfl) fun s72 h_s72 =>
           FS.ite (FS.nmT (Ft.p_tsA h_s72 rfl) fun s74 h_s74 =>
            FS.nmV fun v75 =>
            FS.call h_s74 (fS_L_set_208  _ _ _) (FtR fs185))
           (FS.none))
          (FS.none))
         (FS.none))
        (FS.none))
       (FS.none))
theorem fS_J_set_191 (x1 : Int32) (x3 : Int32) (σ : TS)  : FS fs186 σ (J_set_191 x1 x3 σ) := by
  unfold J_set_191
  exact FS.ob (Ft.rf _ _) (fS_F_isBad _ ) (le_fs0_fs186) fun r60 s59 h_s59 =>
    FS.ite (FS.nmT (Ft.p_tsI h_s59 rfl) fun s63 h_s63 =>
     FS.nmT (Ft.p_tsI h_s63 rfl) fun s64 h_s64 =>
     FS.some h_s64)
    (FS.ite (FS.nmT (Ft.p_tsA h_s59 rfl) fun s66 h_s66 =>
      FS.ob h_s66 (fS_L_set_208  _ _ _) (le_fs185_fs186) fun q77 s78 h_s78 =>
      FS.ob h_s78 (fS_F_faulted _ ) (le_fs97_fs186) fun r81 s80 h_s80 =>
      FS.some h_s80)
     (FS.none))
theorem fS_J_set_160 (x1 : Int32) (x3 : Int32) (σ : TS)  : FS fs187 σ (J_set_160 x1 x3 σ) := by
  unfold J_set_160
  exact FS.ob (Ft.rf _ _) (fS_L_set_163  _ _ _ _ _) (le_fs119_fs187) fun q56 s57 h_s57 =>
    FS.call h_s57 (fS_J_set_191 _ _ _ ) (le_fs186_fs187)
theorem fS_F_set (x1 : Int32) (x2 : Int32) (σ : TS)  : FS fs188 σ (F_set x1 x2 σ) := by
  unfold F_set
  exact FS.ite (FS.some (Ft.rf _ _))
    (FS.ob (Ft.rf _ _) (fS_F_isVariable _ _ ) (le_fs0_fs188) fun r3 s2 h_s2 =>
     FS.ite (FS.some h_s2)
     (FS.ite (FS.ite (FS.ite (FS.some h_s2)
        (FS.nmT (Ft.p_tsI h_s2 rfl) fun s7 h_s7 =>
         FS.nmT (Ft.p_tsI h_s7 rfl) fun s8 h_s8 =>
         FS.ob h_s8 (fS_L_set_52  _ _ _ _ _) (le_fs184_fs188) fun q19 s20 h_s20 =>
         FS.ite (FS.nmV fun v23 =>
          FS.ite (FS.nmT (Ft.p_tsA h_s20 rfl) fun s25 h_s25 =>
           FS.ite (FS.nmT (Ft.p_tsA h_s25 rfl) fun s27 h_s27 =>
            FS.ob h_s27 (fS_L_set_121  _ _ _ _ _) (le_fs2_fs188) fun q42 s43 h_s43 =>
            FS.call h_s43 (fS_J_set_160 _ _ _ ) (le_fs187_fs188))
           (FS.none))
          (FS.none))
         (FS.none)))
       (FS.some h_s2))
      (FS.none)))
theorem fS_L_slopes_19   : ∀ (n : Nat) (x1 : Int32) (x2 : Int32) (σ : TS), FS fs189 σ (L_slopes_19  n x1 x2 σ)
  | 0, _, _, _ => FS.none
  | n + 1, x1, x2, σ => by
    rw [L_slopes_19]
    exact FS.ite (FS.some (Ft.rf _ _))
      (FS.ob (Ft.rf _ _) (fS_F_isBad _ ) (le_fs0_fs189) fun r6 s5 h_s5 =>
       FS.ite (FS.ob h_s5 (fS_F_slope _ _ _ ) (le_fs144_fs189) fun r10 s9 h_s9 =>
        FS.ite (FS.nmT (Ft.p_tsA h_s9 rfl) fun s14 h_s14 =>
         FS.nmV fun v15 =>
         FS.call h_s14 (fS_L_slopes_19  _ _ _ _) (FtR fs189))
        (FS.none))
       (FS.some h_s5))
