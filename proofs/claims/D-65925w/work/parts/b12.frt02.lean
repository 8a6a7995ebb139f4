/-! Layer B: frames of the twin -/
set_option maxRecDepth 100000
theorem fS_L_slopes_2   : ∀ (n : Nat) (x1 : Int32) (σ : TS), FS fs189 σ (L_slopes_2  n x1 σ)
  | 0, _, _ => FS.none
  | n + 1, x1, σ => by
    rw [L_slopes_2]
    exact FS.ite (FS.some (Ft.rf _ _))
      (FS.ob (Ft.rf _ _) (fS_F_isBad _ ) (le_fs0_fs189) fun r2 s1 h_s1 =>
       FS.ite (FS.ob h_s1 (fS_L_slopes_19  _ _ _ _) (FtR fs189) fun q18 s19 h_s19 =>
        FS.nmV fun v21 =>
        FS.call h_s19 (fS_L_slopes_2  _ _ _) (FtR fs189))
       (FS.some h_s1))
theorem fS_L_slopes_76   : ∀ (n : Nat) (x1 : Int32) (x2 : Int32) (σ : TS), FS fs72 σ (L_slopes_76  n x1 x2 σ)
  | 0, _, _, _ => FS.none
  | n + 1, x1, x2, σ => by
    rw [L_slopes_76]
    exact FS.ite (FS.some (Ft.rf _ _))
      (FS.ite (FS.ite (FS.nmT (Ft.p_tsA (Ft.rf _ _) rfl) fun s30 h_s30 =>
         FS.nmV fun v31 =>
         FS.call h_s30 (fS_L_slopes_76  _ _ _ _) (FtR fs72))
        (FS.none))
       (FS.none))
theorem fS_L_slopes_66   : ∀ (n : Nat) (x1 : Int32) (σ : TS), FS fs72 σ (L_slopes_66  n x1 σ)
  | 0, _, _ => FS.none
  | n + 1, x1, σ => by
    rw [L_slopes_66]
    exact FS.ite (FS.some (Ft.rf _ _))
      (FS.ob (Ft.rf _ _) (fS_L_slopes_76  _ _ _ _) (FtR fs72) fun q33 s34 h_s34 =>
       FS.nmV fun v36 =>
       FS.call h_s34 (fS_L_slopes_66  _ _ _) (FtR fs72))
theorem fS_J_slopes_64 (σ : TS)  : FS fs72 σ (J_slopes_64 σ) := by
  unfold J_slopes_64
  exact FS.ob (Ft.rf _ _) (fS_L_slopes_66  _ _ _) (FtR fs72) fun q39 s40 h_s40 =>
    FS.some h_s40
theorem fS_F_slopes (σ : TS)  : FS fs189 σ (F_slopes σ) := by
  unfold F_slopes
  exact FS.ob (Ft.rf _ _) (fS_L_slopes_2  _ _ _) (FtR fs189) fun q25 s26 h_s26 =>
    FS.call h_s26 (fS_J_slopes_64 _ ) (le_fs72_fs189)
theorem fS_L_solve_48   : ∀ (n : Nat) (x1 : Int32) (σ : TS), FS fs190 σ (L_solve_48  n x1 σ)
  | 0, _, _ => FS.none
  | n + 1, x1, σ => by
    rw [L_solve_48]
    exact FS.ite (FS.some (Ft.rf _ _))
      (FS.ite (FS.ite (FS.nmT (Ft.p_tsA (Ft.rf _ _) rfl) fun s10 h_s10 =>
         FS.ite (FS.ite (FS.nmT (Ft.p_tsA h_s10 rfl) fun s13 h_s13 =>
           FS.ite (FS.nmT (Ft.p_tsA h_s13 rfl) fun s15 h_s15 =>
            FS.ite (FS.nmT (Ft.p_tsA h_s15 rfl) fun s17 h_s17 =>
             FS.ite (FS.nmT (Ft.p_tsA h_s17 rfl) fun s19 h_s19 =>
              FS.nmV fun v20 =>
              FS.call h_s19 (fS_L_solve_48  _ _ _) (FtR fs190))
             (FS.none))
            (FS.none))
           (FS.none))
          (FS.none))
         (FS.none))
        (FS.none))
       (FS.none))
theorem fS_L_solve_109   : ∀ (n : Nat) (x1 : Int32) (σ : TS), FS fs67 σ (L_solve_109  n x1 σ)
  | 0, _, _ => FS.none
  | n + 1, x1, σ => by
    rw [L_solve_109]
    exact FS.ite (FS.some (Ft.rf _ _))
      (FS.ite (FS.nmT (Ft.p_tsA (Ft.rf _ _) rfl) fun s26 h_s26 =>
        FS.nmV fun v27 =>
        FS.call h_s26 (fS_L_solve_109  _ _ _) (FtR fs67))
       (FS.none))
theorem fS_L_solve_146   : ∀ (n : Nat) (x1 : Int32) (σ : TS), FS fs191 σ (L_solve_146  n x1 σ)
  | 0, _, _ => FS.none
  | n + 1, x1, σ => by
    rw [L_solve_146]
    exact FS.ite (FS.some (Ft.rf _ _))
      (FS.ob (Ft.rf _ _) (fS_F_isBad _ ) (le_fs0_fs191) fun r42 s41 h_s41 =>
       FS.ite (FS.ite (FS.ite (FS.ob h_s41 (fS_F_learn _ _ ) (le_fs68_fs191) fun r48 s47 h_s47 =>
          FS.ite (FS.ob h_s47 (fS_F_printedSize  _ _) (le_fs0_fs191) fun r53 s52 h_s52 =>
           FS.ite (FS.ob h_s52 (fS_F_printedSize  _ _) (le_fs0_fs191) fun r58 s57 h_s57 =>
            FS.nmT (Ft.p_tsL h_s57 rfl) fun s61 h_s61 =>
            FS.nmV fun v62 =>
            FS.call h_s61 (fS_L_solve_146  _ _ _) (FtR fs191))
           (FS.none))
          (FS.none))
         (FS.nmV fun v63 =>
          FS.call h_s41 (fS_L_solve_146  _ _ _) (FtR fs191)))
        (FS.none))
       (FS.some h_s41))
theorem fS_J_solve_270 (σ : TS)  : FS fs192 σ (J_solve_270 σ) := by
  unfold J_solve_270
  exact FS.ob (Ft.rf _ _) (fS_F_isBad _ ) (le_fs0_fs192) fun r87 s86 h_s86 =>
    FS.ite (FS.nmT (Ft.p_tsI h_s86 rfl) fun s90 h_s90 =>
     FS.nmT (Ft.p_tsI h_s90 rfl) fun s91 h_s91 =>
     FS.some h_s91)
    (FS.ob h_s86 (fS_F_faulted _ ) (le_fs97_fs192) fun r93 s92 h_s92 =>
     FS.some h_s92)
theorem fS_J_solve_259 (σ : TS)  : FS fs193 σ (J_solve_259 σ) := by
  unfold J_solve_259
  exact FS.ob (Ft.rf _ _) (fS_F_isBad _ ) (le_fs0_fs193) fun r83 s82 h_s82 =>
    FS.ite (FS.ob h_s82 (fS_F_makeBlocks _ ) (le_fs158_fs193) fun r98 s97 h_s97 =>
     FS.call h_s97 (fS_J_solve_270 _ ) (le_fs192_fs193))
    (FS.call h_s82 (fS_J_solve_270 _ ) (le_fs192_fs193))
theorem fS_J_solve_236 (σ : TS)  : FS fs193 σ (J_solve_236 σ) := by
  unfold J_solve_236
  exact FS.ob (Ft.rf _ _) (fS_F_isBad _ ) (le_fs0_fs193) fun r79 s78 h_s78 =>
    FS.ite (FS.ite (FS.call h_s78 (fS_J_solve_259 _ ) (FtR fs193))
     (FS.ob h_s78 (fS_F_bad _ _ _ ) (le_fs1_fs193) fun r103 s102 h_s102 =>
      FS.call h_s102 (fS_J_solve_259 _ ) (FtR fs193)))
    (FS.call h_s78 (fS_J_solve_259 _ ) (FtR fs193))
theorem fS_J_solve_225 (σ : TS)  : FS fs194 σ (J_solve_225 σ) := by
  unfold J_solve_225
  exact FS.ob (Ft.rf _ _) (fS_F_isBad _ ) (le_fs0_fs194) fun r75 s74 h_s74 =>
    FS.ite (FS.ob h_s74 (fS_F_chooseStates _ ) (le_fs46_fs194) fun r109 s108 h_s108 =>
     FS.call h_s108 (fS_J_solve_236 _ ) (le_fs193_fs194))
    (FS.call h_s74 (fS_J_solve_236 _ ) (le_fs193_fs194))
theorem fS_J_solve_214 (σ : TS)  : FS fs195 σ (J_solve_214 σ) := by
  unfold J_solve_214
  exact FS.ob (Ft.rf _ _) (fS_F_isBad _ ) (le_fs0_fs195) fun r71 s70 h_s70 =>
    FS.ite (FS.ob h_s70 (fS_F_reduce _ ) (le_fs182_fs195) fun r114 s113 h_s113 =>
     FS.call h_s113 (fS_J_solve_225 _ ) (le_fs194_fs195))
    (FS.call h_s70 (fS_J_solve_225 _ ) (le_fs194_fs195))
theorem fS_F_solve (σ : TS)  : FS fs196 σ (F_solve σ) := by
  unfold F_solve
  exact FS.ite (FS.some (Ft.rf _ _))
    (FS.nmT (Ft.p_tsI (Ft.rf _ _) rfl) fun s2 h_s2 =>
     FS.nmT (Ft.p_tsI h_s2 rfl) fun s3 h_s3 =>
     FS.nmT (Ft.p_tsI h_s3 rfl) fun s4 h_s4 =>
     FS.nmT (Ft.p_tsI h_s4 rfl) fun s5 h_s5 =>
     FS.nmT (Ft.p_tsI h_s5 rfl) fun s6 h_s6 =>
     FS.nmT (Ft.p_tsI h_s6 rfl) fun s7 h_s7 =>
     FS.ob h_s7 (fS_L_solve_48  _ _ _) (le_fs190_fs196) fun q22 s23 h_s23 =>
     FS.ob h_s23 (fS_L_solve_109  _ _ _) (le_fs67_fs196) fun q29 s30 h_s30 =>
     FS.ob h_s30 (fS_F_aliases _ ) (le_fs7_fs196) fun r33 s32 h_s32 =>
     FS.ob h_s32 (fS_F_makeUnknowns _ ) (le_fs161_fs196) fun r37 s36 h_s36 =>
     FS.nmT (Ft.p_tsL h_s36 rfl) fun s40 h_s40 =>
     FS.ob h_s40 (fS_L_solve_146  _ _ _) (le_fs191_fs196) fun q67 s68 h_s68 =>
     FS.call h_s68 (fS_J_solve_214 _ ) (le_fs195_fs196))
theorem fS_L_steady_58   : ∀ (n : Nat) (x1 : Int32) (x2 : Int32) (x3 : Int32) (σ : TS), FS fs72 σ (L_steady_58  n x1 x2 x3 σ)
  | 0, _, _, _, _ => FS.none
  | n + 1, x1, x2, x3, σ => by
    rw [L_steady_58]
    exact FS.ite (FS.some (Ft.rf _ _))
      (FS.ob (Ft.rf _ _) (fS_F_isBad _ ) (le_fs0_fs72) fun r14 s13 h_s13 =>
       FS.ite (FS.ite (FS.ite (FS.ite (FS.ite (FS.nmT (Ft.p_tsA h_s13 rfl) fun s21 h_s21 =>
            FS.nmV fun v22 =>
            FS.call h_s21 (fS_L_steady_58  _ _ _ _ _) (FtR fs72))
           (FS.none))
          (FS.none))
         (FS.none))
        (FS.none))
       (FS.some h_s13))
theorem fS_L_steady_113   : ∀ (n : Nat) (x1 : Int32) (x2 : Int32) (x3 : Int32) (σ : TS), FS fs197 σ (L_steady_113  n x1 x2 x3 σ)
  | 0, _, _, _, _ => FS.none
  | n + 1, x1, x2, x3, σ => by
    rw [L_steady_113]
    exact FS.ite (FS.some (Ft.rf _ _))
      (FS.ob (Ft.rf _ _) (fS_F_isBad _ ) (le_fs0_fs197) fun r29 s28 h_s28 =>
       FS.ite (FS.ite (FS.ite (FS.nmT (Ft.p_tsA h_s28 rfl) fun s34 h_s34 =>
          FS.nmV fun v35 =>
          FS.call h_s34 (fS_L_steady_113  _ _ _ _ _) (FtR fs197))
         (FS.none))
        (FS.none))
       (FS.some h_s28))
theorem fS_L_steady_161   : ∀ (n : Nat) (x1 : Int32) (x2 : Int32) (x3 : Int32) (σ : TS), FS fs72 σ (L_steady_161  n x1 x2 x3 σ)
  | 0, _, _, _, _ => FS.none
  | n + 1, x1, x2, x3, σ => by
    rw [L_steady_161]
    exact FS.ite (FS.some (Ft.rf _ _))
      (FS.ite (FS.ite (FS.nmT (Ft.p_tsA (Ft.rf _ _) rfl) fun s47 h_s47 =>
         FS.nmV fun v48 =>
         FS.call h_s47 (fS_L_steady_161  _ _ _ _ _) (FtR fs72))
        (FS.none))
       (FS.none))
theorem fS_L_steady_238   : ∀ (n : Nat) (x1 : Int32) (x2 : Int32) (x3 : Int32) (x4 : Int32) (σ : TS), FS fs85 σ (L_steady_238  n x1 x2 x3 x4 σ)
  | 0, _, _, _, _, _ => FS.none
  | n + 1, x1, x2, x3, x4, σ => by
    rw [L_steady_238]
    exact FS.ite (FS.some (Ft.rf _ _))
      (FS.ob (Ft.rf _ _) (fS_F_isBad _ ) (le_fs0_fs85) fun r62 s61 h_s61 =>
       FS.ite (FS.ite (FS.ite (FS.ite (FS.ite (FS.ob h_s61 (fS_F_fit _ _ ) (le_fs1_fs85) fun r70 s69 h_s69 =>
            FS.ite (FS.nmT (Ft.p_tsA h_s69 rfl) fun s74 h_s74 =>
             FS.nmV fun v75 =>
             FS.call h_s74 (fS_L_steady_238  _ _ _ _ _ _) (FtR fs85))
            (FS.none))
           (FS.none))
          (FS.none))
         (FS.none))
        (FS.none))
       (FS.some h_s61))
theorem fS_J_steady_234_43 (rec : Int32 → Int32 → TS → Option ((Unit ⊕ Int32) × TS)) (x1 : Int32) (x2 : Int32) (y0 : Int32) (σ : TS) (hrec : ∀ (a0 : Int32) (a1 : Int32) (a2 : TS), FS fs198 a2 (rec a0 a1 a2)) : FS fs198 σ (J_steady_234_43 rec x1 x2 y0 σ) := by
  unfold J_steady_234_43
  exact FS.ob (Ft.rf _ _) (fS_L_steady_238  _ _ _ _ _ _) (le_fs85_fs198) fun q78 s79 h_s79 =>
    FS.ob h_s79 (fS_F_isBad _ ) (le_fs0_fs198) fun r82 s81 h_s81 =>
    FS.ite (FS.ob h_s81 (fS_F_solveBlocks _ ) (le_fs88_fs198) fun r94 s93 h_s93 =>
     FS.ob h_s93 (fS_F_isBad _ ) (le_fs0_fs198) fun r98 s97 h_s97 =>
     FS.ite (FS.ite (FS.nmV fun v102 =>
       FS.call h_s97 (hrec _ _ _) (FtR fs198))
      (FS.some h_s97))
     (FS.nmV fun v101 =>
      FS.call h_s97 (hrec _ _ _) (FtR fs198)))
    (FS.ob h_s81 (fS_F_isBad _ ) (le_fs0_fs198) fun r86 s85 h_s85 =>
     FS.ite (FS.ite (FS.nmV fun v90 =>
       FS.call h_s85 (hrec _ _ _) (FtR fs198))
      (FS.some h_s85))
     (FS.nmV fun v89 =>
      FS.call h_s85 (hrec _ _ _) (FtR fs198)))
theorem fS_J_steady_233_43 (rec : Int32 → Int32 → TS → Option ((Unit ⊕ Int32) × TS)) (x1 : Int32) (x2 : Int32) (σ : TS) (hrec : ∀ (a0 : Int32) (a1 : Int32) (a2 : TS), FS fs198 a2 (rec a0 a1 a2)) : FS fs198 σ (J_steady_233_43 rec x1 x2 σ) := by
  unfold J_steady_233_43
  exact FS.call (Ft.rf _ _) (fS_J_steady_234_43 _ _ _ _ _ hrec ) (FtR fs198)
theorem fS_J_steady_211_43 (rec : Int32 → Int32 → TS → Option ((Unit ⊕ Int32) × TS)) (x1 : Int32) (x2 : Int32) (σ : TS) (hrec : ∀ (a0 : Int32) (a1 : Int32) (a2 : TS), FS fs198 a2 (rec a0 a1 a2)) : FS fs198 σ (J_steady_211_43 rec x1 x2 σ) := by
  unfold J_steady_211_43
  exact FS.ob (Ft.rf _ _) (fS_F_isBad _ ) (le_fs0_fs198) fun r58 s57 h_s57 =>
    FS.ite (FS.ob h_s57 (fS_F_areSmall _ _ ) (le_fs0_fs198) fun r108 s107 h_s107 =>
     FS.ite (FS.call h_s107 (fS_J_steady_233_43 _ _ _ _ hrec ) (FtR fs198))
     (FS.call h_s107 (fS_J_steady_234_43 _ _ _ _ _ hrec ) (FtR fs198)))
    (FS.call h_s57 (fS_J_steady_233_43 _ _ _ _ hrec ) (FtR fs198))
theorem fS_J_steady_155_43 (rec : Int32 → Int32 → TS → Option ((Unit ⊕ Int32) × TS)) (x1 : Int32) (x2 : Int32) (σ : TS) (hrec : ∀ (a0 : Int32) (a1 : Int32) (a2 : TS), FS fs198 a2 (rec a0 a1 a2)) : FS fs198 σ (J_steady_155_43 rec x1 x2 σ) := by
  unfold J_steady_155_43
  exact FS.ob (Ft.rf _ _) (fS_F_slopes _ ) (le_fs189_fs198) fun r42 s41 h_s41 =>
    FS.ob h_s41 (fS_L_steady_161  _ _ _ _ _) (le_fs72_fs198) fun q50 s51 h_s51 =>
    FS.ob h_s51 (fS_F_isBad _ ) (le_fs0_fs198) fun r54 s53 h_s53 =>
    FS.ite (FS.ob h_s53 (fS_F_eliminate _ _ ) (le_fs75_fs198) fun r114 s113 h_s113 =>
     FS.call h_s113 (fS_J_steady_211_43 _ _ _ _ hrec ) (FtR fs198))
    (FS.call h_s53 (fS_J_steady_211_43 _ _ _ _ hrec ) (FtR fs198))
theorem fS_J_steady_111_43 (rec : Int32 → Int32 → TS → Option ((Unit ⊕ Int32) × TS)) (x1 : Int32) (x2 : Int32) (σ : TS) (hrec : ∀ (a0 : Int32) (a1 : Int32) (a2 : TS), FS fs198 a2 (rec a0 a1 a2)) : FS fs198 σ (J_steady_111_43 rec x1 x2 σ) := by
  unfold J_steady_111_43
  exact FS.ob (Ft.rf _ _) (fS_L_steady_113  _ _ _ _ _) (le_fs197_fs198) fun q38 s39 h_s39 =>
    FS.call h_s39 (fS_J_steady_155_43 _ _ _ _ hrec ) (FtR fs198)
theorem fS_L_steady_43   : ∀ (n : Nat) (x1 : Int32) (x2 : Int32) (σ : TS), FS fs198 σ (L_steady_43  n x1 x2 σ)
  | 0, _, _, _ => FS.none
  | n + 1, x1, x2, σ => by
    rw [L_steady_43]
    exact FS.ite (FS.some (Ft.rf _ _))
      (FS.ob (Ft.rf _ _) (fS_F_isBad _ ) (le_fs0_fs198) fun r10 s9 h_s9 =>
       FS.ite (FS.ob h_s9 (fS_L_steady_58  _ _ _ _ _) (le_fs72_fs198) fun q25 s26 h_s26 =>
        FS.call h_s26 (fS_J_steady_111_43 _ _ _ _ (fun a0 a1 a2 => fS_L_steady_43   _ a0 a1 a2) ) (FtR fs198))
       (FS.some h_s9))
theorem fS_J_steady_328 (x1 : Int32) (σ : TS)  : FS fs199 σ (J_steady_328 x1 σ) := by
  unfold J_steady_328
  exact FS.ob (Ft.rf _ _) (fS_F_isBad _ ) (le_fs0_fs199) fun r127 s126 h_s126 =>
    FS.ite (FS.ob h_s126 (fS_F_bad _ _ _ ) (le_fs1_fs199) fun r140 s139 h_s139 =>
     FS.ob h_s139 (fS_F_back _ _ ) (le_fs32_fs199) fun r144 s143 h_s143 =>
     FS.nmT (Ft.p_tsI h_s143 rfl) fun s147 h_s147 =>
     FS.ob h_s147 (fS_F_faulted _ ) (le_fs97_fs199) fun r149 s148 h_s148 =>
     FS.some h_s148)
    (FS.ob h_s126 (fS_F_back _ _ ) (le_fs32_fs199) fun r131 s130 h_s130 =>
     FS.nmT (Ft.p_tsI h_s130 rfl) fun s134 h_s134 =>
     FS.ob h_s134 (fS_F_faulted _ ) (le_fs97_fs199) fun r136 s135 h_s135 =>
     FS.some h_s135)
theorem fS_F_steady (σ : TS)  : FS fs200 σ (F_steady σ) := by
  unfold F_steady
  exact FS.ite (FS.some (Ft.rf _ _))
    (FS.ite (FS.ite (FS.some (Ft.rf _ _))
      (FS.nmT (Ft.p_tsI (Ft.rf _ _) rfl) fun s3 h_s3 =>
       FS.nmV fun v4 =>
       FS.ob h_s3 (fS_F_keep _ _ ) (le_fs142_fs200) fun r6 s5 h_s5 =>
       FS.obS h_s5 (fS_L_steady_43  _ _ _ _) (le_fs198_fs200) (fun r154 s124 h_s124 => FS.some h_s124) fun q123 s124 h_s124 =>
       FS.call h_s124 (fS_J_steady_328 _ _ ) (le_fs199_fs200)))
     (FS.some (Ft.rf _ _)))
theorem fS_F_time (σ : TS)  : FS fs0 σ (F_time σ) := by
  unfold F_time
  exact FS.ite (FS.some (Ft.rf _ _))
    (FS.some (Ft.rf _ _))
theorem fS_F_unknown (x1 : Int32) (x2 : Int32) (σ : TS)  : FS fs0 σ (F_unknown x1 x2 σ) := by
  unfold F_unknown
  exact FS.ite (FS.some (Ft.rf _ _))
    (FS.ite (FS.some (Ft.rf _ _))
     (FS.ite (FS.ite (FS.ite (FS.some (Ft.rf _ _))
        (FS.none))
       (FS.ite (FS.ite (FS.some (Ft.rf _ _))
         (FS.none))
        (FS.ite (FS.ite (FS.ob (Ft.rf _ _) (fS_F_orNone _ _ ) (FtR fs0) fun r9 s8 h_s8 =>
           FS.some h_s8)
          (FS.none))
         (FS.ite (FS.ite (FS.ite (FS.some (Ft.rf _ _))
            (FS.ite (FS.ob (Ft.rf _ _) (fS_F_orNone _ _ ) (FtR fs0) fun r16 s15 h_s15 =>
              FS.some h_s15)
             (FS.none)))
           (FS.none))
          (FS.ite (FS.ite (FS.some (Ft.rf _ _))
            (FS.none))
           (FS.some (Ft.rf _ _)))))))
      (FS.some (Ft.rf _ _))))
theorem fS_J_value_144 (x1 : Int32) (y0 : Int32) (σ : TS)  : FS fs0 σ (J_value_144 x1 y0 σ) := by
  unfold J_value_144
  exact FS.ite (FS.some (Ft.rf _ _))
    (FS.ite (FS.ite (FS.ob (Ft.rf _ _) (fS_F_derOf _ _ ) (FtR fs0) fun r11 s10 h_s10 =>
       FS.some h_s10)
      (FS.some (Ft.rf _ _)))
     (FS.none))
theorem fS_J_value_71 (x1 : Int32) (x2 : Int32) (σ : TS)  : FS fs2 σ (J_value_71 x1 x2 σ) := by
  unfold J_value_71
  exact FS.ite (FS.some (Ft.rf _ _))
    (FS.ite (FS.ite (FS.some (Ft.rf _ _))
      (FS.ite (FS.ob (Ft.rf _ _) (fS_F_valueOf  _ _) (FtR fs2) fun r25 s24 h_s24 =>
        FS.some h_s24)
       (FS.ite (FS.ob (Ft.rf _ _) (fS_F_preOf _ _ ) (le_fs0_fs2) fun r20 s19 h_s19 =>
         FS.some h_s19)
        (FS.ite (FS.ite (FS.ite (FS.ite (FS.call (Ft.rf _ _) (fS_J_value_144 _ _ _ ) (le_fs0_fs2))
            (FS.none))
           (FS.none))
          (FS.call (Ft.rf _ _) (fS_J_value_144 _ _ _ ) (le_fs0_fs2)))
         (FS.none)))))
     (FS.none))
theorem fS_F_value (x1 : Int32) (x2 : Int32) (σ : TS)  : FS fs2 σ (F_value x1 x2 σ) := by
  unfold F_value
  exact FS.ite (FS.some (Ft.rf _ _))
    (FS.ob (Ft.rf _ _) (fS_F_isVariable _ _ ) (le_fs0_fs2) fun r3 s2 h_s2 =>
     FS.ite (FS.some h_s2)
     (FS.ite (FS.some h_s2)
      (FS.ite (FS.ite (FS.ite (FS.some h_s2)
         (FS.none))
        (FS.ite (FS.ite (FS.ite (FS.ite (FS.some h_s2)
            (FS.none))
           (FS.call h_s2 (fS_J_value_71 _ _ _ ) (FtR fs2)))
          (FS.none))
         (FS.call h_s2 (fS_J_value_71 _ _ _ ) (FtR fs2))))
       (FS.some h_s2))))
theorem fS_F_variable (x1 : Int32) (x2 : Int32) (σ : TS)  : FS fs116 σ (F_variable x1 x2 σ) := by
  unfold F_variable
  exact FS.ite (FS.some (Ft.rf _ _))
    (FS.ob (Ft.rf _ _) (fS_F_isVariable _ _ ) (le_fs0_fs116) fun r3 s2 h_s2 =>
     FS.ite (FS.some h_s2)
     (FS.ite (FS.ite (FS.some h_s2)
       (FS.none))
      (FS.ite (FS.ite (FS.ite (FS.some h_s2)
         (FS.ite (FS.some h_s2)
          (FS.none)))
        (FS.none))
       (FS.ite (FS.ite (FS.ite (FS.some h_s2)
          (FS.ite (FS.some h_s2)
           (FS.none)))
         (FS.none))
        (FS.ite (FS.ite (FS.ite (FS.some h_s2)
           (FS.ite (FS.some h_s2)
            (FS.none)))
          (FS.none))
         (FS.ite (FS.ob h_s2 (fS_F_letters _ _ ) (FtR fs116) fun r22 s21 h_s21 =>
           FS.some h_s21)
          (FS.ite (FS.ite (FS.some h_s2)
            (FS.none))
           (FS.ite (FS.ite (FS.some h_s2)
             (FS.none))
            (FS.some h_s2)))))))))
