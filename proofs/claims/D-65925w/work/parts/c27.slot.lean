/-! Layer B: what the twin kept first stays while slopes are taken -/
set_option maxRecDepth 100000
def Sl0 (σ σ' : TS) : Prop := tA σ' 232 0 = tA σ 232 0 ∧ (∀ k, k < 200 → tA σ' 228 k = tA σ 228 k ∧ tA σ' 229 k = tA σ 229 k) ∧ (∀ k, k < 96 → tA σ' 230 k = tA σ 230 k ∧ tA σ' 231 k = tA σ 231 k) ∧ (∀ k, k < 24 → tA σ' 233 k = tA σ 233 k) ∧ ∀ k, k < 12 → tA σ' 234 k = tA σ 234 k
/-- counts of a solvable model, the twin's -/
def Cn4 (U V q Wn : Nat) (σ : TS) : Prop := (tI σ 197 = nI U ∧ tI σ 107 = nI V ∧ tI σ 154 = nI q ∧ tI σ 148 = nI Wn) ∧ (U ≤ 180 ∧ V ≤ 96 ∧ q ≤ 24 ∧ Wn ≤ 12)
def PsR (U V q Wn : Nat) (σ σ' : TS) : Prop := Sl0 σ σ' ∧ Cn4 U V q Wn σ'
section SLOT
variable {pq : Bool} {C C' : PC} {B : Nat} {P : Nat → Prop} {mss fss : List Nat} {V U S q A Wn K1 K2 N e r w v b n i j k a m kf tf h wo nb : Nat} {D : FQ} {M M' M1 : CM} {σ σ' s s1 s2 : TS} {x x1 x2 x3 y z : Int32} {I A0 T : List Nat} {u : Unit}
theorem Sl0.rf : Sl0 σ σ := ⟨rfl, fun _ _ => ⟨rfl, rfl⟩, fun _ _ => ⟨rfl, rfl⟩, fun _ _ => rfl, fun _ _ => rfl⟩
theorem Sl0.tr (h : Sl0 σ s) (g : Sl0 s s1) : Sl0 σ s1 := by
  obtain ⟨b1, b2, b3, b4, b5⟩ := h
  obtain ⟨d1, d2, d3, d4, d5⟩ := g
  exact ⟨d1.trans b1, fun u hu => ⟨(d2 u hu).1.trans (b2 u hu).1, (d2 u hu).2.trans (b2 u hu).2⟩, fun u hu => ⟨(d3 u hu).1.trans (b3 u hu).1, (d3 u hu).2.trans (b3 u hu).2⟩, fun u hu => (d4 u hu).trans (b4 u hu), fun u hu => (d5 u hu).trans (b5 u hu)⟩
theorem Sl0.ft (f : Ft T σ s) (hT : [228, 229, 230, 231, 232, 233, 234].all (fun k => !T.contains k) = true) : Sl0 σ s := by
  have hf : ∀ k, k ∈ [228, 229, 230, 231, 232, 233, 234] → ∀ j, tA s k j = tA σ k j := fun k hk => (f k (by simpa using List.all_eq_true.mp hT k hk)).2.2.1
  exact ⟨hf 232 (by decide) 0, fun u _ => ⟨hf 228 (by decide) u, hf 229 (by decide) u⟩, fun u _ => ⟨hf 230 (by decide) u, hf 231 (by decide) u⟩, fun u _ => hf 233 (by decide) u, fun u _ => hf 234 (by decide) u⟩
theorem Cn4.ft (c : Cn4 U V q Wn σ) (f : Ft T σ s) (hT : [107, 148, 154, 197].all (fun k => !T.contains k) = true) : Cn4 U V q Wn s := by
  have hf : ∀ k, k ∈ [107, 148, 154, 197] → tI s k = tI σ k := fun k hk => (f k (by simpa using List.all_eq_true.mp hT k hk)).1
  exact ⟨⟨(hf 197 (by decide)).trans c.1.1, (hf 107 (by decide)).trans c.1.2.1, (hf 154 (by decide)).trans c.1.2.2.1, (hf 148 (by decide)).trans c.1.2.2.2⟩, c.2⟩
theorem PsR.ft (c : Cn4 U V q Wn σ) (f : Ft T σ s) (hT : [107, 148, 154, 197, 228, 229, 230, 231, 232, 233, 234].all (fun k => !T.contains k) = true) : PsR U V q Wn σ s := by
  have hf : ∀ k, k ∈ [107, 148, 154, 197, 228, 229, 230, 231, 232, 233, 234] → T.contains k = false := fun k hk => by simpa using List.all_eq_true.mp hT k hk
  refine ⟨Sl0.ft f ?_, c.ft f ?_⟩
  · simp only [List.all_cons, List.all_nil, Bool.and_true, hf 228 (by decide), hf 229 (by decide), hf 230 (by decide), hf 231 (by decide), hf 232 (by decide), hf 233 (by decide), hf 234 (by decide)]; rfl
  · simp only [List.all_cons, List.all_nil, Bool.and_true, hf 107 (by decide), hf 148 (by decide), hf 154 (by decide), hf 197 (by decide)]; rfl
theorem PsR.tr (h : PsR U V q Wn σ s) (g : PsR U V q Wn s s1) : PsR U V q Wn σ s1 := ⟨h.1.tr g.1, g.2⟩
theorem PsR.rf (c : Cn4 U V q Wn σ) : PsR U V q Wn σ σ := ⟨Sl0.rf, c⟩
theorem ps_slope (c : Cn4 U V q Wn σ) (h : F_slope x1 x2 σ = some (x, σ')) : PsR U V q Wn σ σ' := by
  unfold F_slope at h
  obtain ⟨u1, s1, e1, h⟩ := ob_e h
  obtain ⟨⟨h1, h2, h3, h4⟩, hU, hV, hq, hW⟩ := id c
  obtain ⟨s1', a1, a2, ⟨b1, b1'⟩, ⟨b2, b3⟩, ⟨b4, b5⟩, b6, b7⟩ := t_keep (σ := σ) hU hV hq hW 1 (by omega) h1 h2 h3 h4
  have es : s1' = s1 := by
    have := a1.symm.trans e1
    cases this; rfl
  subst es
  have p1 : PsR U V q Wn σ s1' := ⟨⟨b1' 0 (by decide), fun u hu => ⟨b2.2 u (Or.inl (by omega)), b3.2 u (Or.inl (by omega))⟩, fun u hu => ⟨b4.2 u (Or.inl (by omega)), b5.2 u (Or.inl (by omega))⟩, fun u hu => b6.2 u (Or.inl (by omega)), fun u hu => b7.2 u (Or.inl (by omega))⟩, c.ft a2 (by decide)⟩
  obtain ⟨-, h⟩ := if_e h
  obtain ⟨-, h⟩ := if_e h
  obtain ⟨-, h⟩ := if_e h
  rw [nm_eq] at h
  obtain ⟨-, h⟩ := if_e h
  obtain ⟨-, h⟩ := if_e h
  obtain ⟨-, h⟩ := if_e h
  obtain ⟨r2, s2, e2, h⟩ := ob_e h
  have p2 : PsR U V q Wn s1' s2 := PsR.ft p1.2 (fS_F_fit _ _ _ _ e2) (by decide)
  obtain ⟨-, h⟩ := if_e h
  rw [nm_eq] at h
  obtain ⟨s3, hs3⟩ : ∃ Y, Y = tsA s2 166 (ix (tA s1' 207 (ix x2))) r2 := ⟨_, rfl⟩
  rw [← hs3] at h
  have p3 : PsR U V q Wn s2 s3 := by rw [hs3]; exact PsR.ft p2.2 ((Ft.rf [166] s2).p_tsA rfl) (by decide)
  obtain ⟨rb, -, h⟩ := ob_bad h
  have p13 := (p1.tr p2).tr p3
  by_cases z : rb = 0
  · rw [ifT z] at h
    obtain ⟨r4, s4, e4, h⟩ := ob_e h
    have p4 : PsR U V q Wn s3 s4 := PsR.ft p3.2 (fS_F_solveBlocks _ _ _ e4) (by decide)
    exact (p13.tr p4).tr (PsR.ft p4.2 (fS_J_slope_64 _ _ _ _ _ h) (by decide))
  · rw [ifF z] at h
    exact p13.tr (PsR.ft p3.2 (fS_J_slope_64 _ _ _ _ _ h) (by decide))
theorem ps_19 : ∀ (tf : Nat) (x1 x2 : Int32) (σ : TS), Cn4 U V q Wn σ → ∀ u σ', L_slopes_19 tf x1 x2 σ = some (u, σ') → PsR U V q Wn σ σ'
  | 0, _, _, _, _, _, _, h => by rw [L_slopes_19] at h; cases h
  | tf + 1, x1, x2, σ, c, u, σ', h => by
    rw [L_slopes_19] at h
    by_cases t : tI σ 198 ≤ x2
    · rw [ifT t] at h; cases h; exact PsR.rf c
    · rw [ifF t] at h
      obtain ⟨rb, -, h⟩ := ob_bad h
      by_cases z : rb = 0
      · rw [ifT z] at h
        obtain ⟨r2, s2, e2, h⟩ := ob_e h
        have p2 := ps_slope c e2
        obtain ⟨-, h⟩ := if_e h
        rw [nm_eq, nm_eq] at h
        obtain ⟨s3, hs3⟩ : ∃ Y, Y = tsA s2 245 (ix ((x1 * 180) + x2)) r2 := ⟨_, rfl⟩
        rw [← hs3] at h
        have p3 : PsR U V q Wn s2 s3 := by rw [hs3]; exact PsR.ft p2.2 ((Ft.rf [245] s2).p_tsA rfl) (by decide)
        exact (p2.tr p3).tr (ps_19 tf x1 _ s3 p3.2 u σ' h)
      · rw [ifF z] at h; cases h; exact PsR.rf c
theorem ps_2 : ∀ (tf : Nat) (x1 : Int32) (σ : TS), Cn4 U V q Wn σ → ∀ u σ', L_slopes_2 tf x1 σ = some (u, σ') → PsR U V q Wn σ σ'
  | 0, _, _, _, _, _, h => by rw [L_slopes_2] at h; cases h
  | tf + 1, x1, σ, c, u, σ', h => by
    rw [L_slopes_2] at h
    by_cases t : tI σ 198 ≤ x1
    · rw [ifT t] at h; cases h; exact PsR.rf c
    · rw [ifF t] at h
      obtain ⟨rb, -, h⟩ := ob_bad h
      by_cases z : rb = 0
      · rw [ifT z] at h
        obtain ⟨r2, s2, e2, h⟩ := ob_e h
        have p2 := ps_19 _ _ _ _ c _ _ e2
        rw [nm_eq] at h
        exact p2.tr (ps_2 tf _ s2 p2.2 u σ' h)
      · rw [ifF z] at h; cases h; exact PsR.rf c
theorem ps_234 {rec : Int32 → Int32 → TS → Option ((Unit ⊕ Int32) × TS)} (hr : ∀ x y σ, Cn4 U V q Wn σ → ∀ o σ', rec x y σ = some (o, σ') → PsR U V q Wn σ σ') (c : Cn4 U V q Wn σ) {o : Unit ⊕ Int32} (h : J_steady_234_43 rec x1 x2 y σ = some (o, σ')) : PsR U V q Wn σ σ' := by
  unfold J_steady_234_43 at h
  obtain ⟨r1, s1, e1, h⟩ := ob_e h
  have p1 : PsR U V q Wn σ s1 := PsR.ft c (fS_L_steady_238 _ _ _ _ _ _ _ _ e1) (by decide)
  have fin : ∀ (s : TS), PsR U V q Wn σ s → (if y = 0 then nm (x2 + 1) fun v90 => rec x1 v90 s else some (.inr x2, s)) = some (o, σ') → PsR U V q Wn σ σ' := fun s p h => by
    by_cases z : y = 0
    · rw [ifT z, nm_eq] at h; exact p.tr (hr _ _ _ p.2 _ _ h)
    · rw [ifF z] at h; cases h; exact p
  obtain ⟨rb, -, h⟩ := ob_bad h
  by_cases z : rb = 0
  · rw [ifT z] at h
    obtain ⟨r2, s2, e2, h⟩ := ob_e h
    have p2 := p1.tr (PsR.ft p1.2 (fS_F_solveBlocks _ _ _ e2) (by decide) : PsR U V q Wn s1 s2)
    obtain ⟨rb2, -, h⟩ := ob_bad h
    by_cases z2 : rb2 = 0
    · rw [ifT z2] at h; exact fin s2 p2 h
    · rw [ifF z2, nm_eq] at h; exact p2.tr (hr _ _ _ p2.2 _ _ h)
  · rw [ifF z] at h
    obtain ⟨rb2, -, h⟩ := ob_bad h
    by_cases z2 : rb2 = 0
    · rw [ifT z2] at h; exact fin s1 p1 h
    · rw [ifF z2, nm_eq] at h; exact p1.tr (hr _ _ _ p1.2 _ _ h)
theorem ps_211 {rec : Int32 → Int32 → TS → Option ((Unit ⊕ Int32) × TS)} (hr : ∀ x y σ, Cn4 U V q Wn σ → ∀ o σ', rec x y σ = some (o, σ') → PsR U V q Wn σ σ') (c : Cn4 U V q Wn σ) {o : Unit ⊕ Int32} (h : J_steady_211_43 rec x1 x2 σ = some (o, σ')) : PsR U V q Wn σ σ' := by
  unfold J_steady_211_43 at h
  obtain ⟨rb, -, h⟩ := ob_bad h
  by_cases z : rb = 0
  · rw [ifT z] at h
    obtain ⟨r2, s2, e2, h⟩ := ob_e h
    have p2 : PsR U V q Wn σ s2 := PsR.ft c (fS_F_areSmall _ _ _ _ e2) (by decide)
    by_cases z2 : r2 = 0
    · rw [ifT z2] at h
      unfold J_steady_233_43 at h
      exact p2.tr (ps_234 hr p2.2 h)
    · rw [ifF z2] at h
      exact p2.tr (ps_234 hr p2.2 h)
  · rw [ifF z] at h
    unfold J_steady_233_43 at h
    exact ps_234 hr c h
theorem ps_43 : ∀ (tf : Nat) (x1 x2 : Int32) (σ : TS), Cn4 U V q Wn σ → ∀ o σ', L_steady_43 tf x1 x2 σ = some (o, σ') → PsR U V q Wn σ σ'
  | 0, _, _, _, _, _, _, h => by rw [L_steady_43] at h; cases h
  | tf + 1, x1, x2, σ, c, o, σ', h => by
    rw [L_steady_43] at h
    by_cases t : 10 < x2
    · rw [ifT t] at h; cases h; exact PsR.rf c
    · rw [ifF t] at h
      obtain ⟨rb, -, h⟩ := ob_bad h
      by_cases z : rb = 0
      · rw [ifT z] at h
        obtain ⟨r1, s1, e1, h⟩ := ob_e h
        have p1 : PsR U V q Wn σ s1 := PsR.ft c (fS_L_steady_58 _ _ _ _ _ _ _ e1) (by decide)
        unfold J_steady_111_43 at h
        obtain ⟨r2, s2, e2, h⟩ := ob_e h
        have p2 := p1.tr (PsR.ft p1.2 (fS_L_steady_113 _ _ _ _ _ _ _ e2) (by decide) : PsR U V q Wn s1 s2)
        unfold J_steady_155_43 at h
        obtain ⟨r3, s3, e3, h⟩ := ob_e h
        unfold F_slopes at e3
        obtain ⟨r4, s4, e4, e3⟩ := ob_e e3
        have p4 := p2.tr (ps_2 _ _ _ p2.2 _ _ e4)
        have p3 := p4.tr (PsR.ft p4.2 (fS_J_slopes_64 _ _ _ e3) (by decide) : PsR U V q Wn s4 s3)
        obtain ⟨r5, s5, e5, h⟩ := ob_e h
        have p5 := p3.tr (PsR.ft p3.2 (fS_L_steady_161 _ _ _ _ _ _ _ e5) (by decide) : PsR U V q Wn s3 s5)
        obtain ⟨rb2, -, h⟩ := ob_bad h
        by_cases z2 : rb2 = 0
        · rw [ifT z2] at h
          obtain ⟨r6, s6, e6, h⟩ := ob_e h
          have p6 := p5.tr (PsR.ft p5.2 (fS_F_eliminate _ _ _ _ e6) (by decide) : PsR U V q Wn s5 s6)
          exact p6.tr (ps_211 (fun x y σ c o σ' h => ps_43 tf x y σ c o σ' h) p6.2 h)
        · rw [ifF z2] at h
          exact p5.tr (ps_211 (fun x y σ c o σ' h => ps_43 tf x y σ c o σ' h) p5.2 h)
      · rw [ifF z] at h; cases h; exact PsR.rf c
/-- both go back behind a fault; what the twin kept first is known to stay -/
theorem back_fs {I' A' T' : List Nat} (hI' : I.all I'.contains = true ∧ I'.all rnI.contains = true ∧ [85, 3213, 3214, 3804].all I'.contains = true) (hA' : A0.all A'.contains = true ∧ A'.all rnA.contains = true ∧ [124, 125, 148].all A'.contains = true) (hT' : T.all T'.contains = true ∧ T'.all rnT.contains = true ∧ bckT.all T'.contains = true) (w : RnW C B P mss fss V U S q A Wn K1 K2 N D M σ) (ke : KeR 0 V U Wn D M σ) (h : FoR true I A0 T nb V D M σ M' σ' wo) (hI : I.contains 800 = false) (hA : [152, 153, 154, 155, 156, 157].all (fun k => !A0.contains k) = true) (hS : Sl0 σ σ') (c1 : cN C + nb ≤ 601024) (c2 : cS C + 8 * nb ≤ 7293034) :
    ∃ n M2 σ2, (n ≤ nb ∧ K_X0_back M' = some ((), M2) ∧ F_back 0 σ' = some ((), σ2)) ∧ RB D I' A' n M M2 ∧ Ft T' σ σ2 ∧ VaV V U Wn D M2 σ2 ∧ PaK V D σ M M2 ∧ (wo < mn M2 ∧ mk M2 wo = 7 ∧ mI M2 1200 wo = tI σ2 0 ∧ mI M2 1201 wo = tI σ2 1 ∧ tI σ2 0 ≠ 0) ∧ tI σ2 171 = nI 0 := by
  obtain ⟨n, r, ⟨n1, rb⟩, ⟨o1, o2, o3⟩, r0, ⟨e0, e1⟩, f, ⟨h171, h90⟩, pk⟩ := h
  have fR' : Ft T' σ σ' := f.mono hT'.1
  have fR : Ft rnT σ σ' := fR'.mono hT'.2.1
  have rb' : RB D I' A' n M M' := RB.mono hI'.1 hA'.1 n M M' rb
  have rbS : RB D rnI rnA n M M' := RB.mono hI'.2.1 hA'.2.1 n M M' rb'
  obtain ⟨⟨V96, V98, U180, -, q24, -⟩, ⟨h15, h107⟩, ⟨-, h197⟩, ⟨-, h154⟩, ⟨⟨h39, h148⟩, W12, Wl⟩, -⟩ := w.st
  have n167 := w.1.n167
  obtain ⟨W', -, -, i3, -, a3, -, -⟩ := FW.rb w.1 n M' rbS (by omega) (by omega)
  obtain ⟨W2, -⟩ := W'.kf (I0 := []) (R := []) (A0 := []) (X0 := []) KF.rf rfl rfl rfl fR (by decide)
  obtain ⟨b1, b2⟩ : (mI M' 800 151 = mI M 800 151) ∧ ∀ a, a ∈ [152, 153, 154, 155, 156, 157] → ∀ j, mA M' a j = mA M a j := by
    obtain ⟨k1, -, k3, -, -⟩ := RbF.of n M' rb
    exact ⟨k1 800 151 (by omega) hI, fun a ha j => k3 a j (by
      have : ∀ a, a ∈ [152, 153, 154, 155, 156, 157] → a < 167 := by decide
      have := this a ha
      omega) (by simpa using List.all_eq_true.mp hA a ha)⟩
  obtain ⟨t1, t2, t3, t4, t5⟩ := hS
  have ke2 : KeR 0 V U Wn D M' σ' := by
    obtain ⟨d1, d2, d3, d4, d5⟩ := ke
    refine ⟨by rw [b1, t1]; exact d1, fun u hu => ?_, fun v hv => ⟨fun z => ?_, fun z => ?_⟩, fun r hr z => ?_, fun w hw => ?_⟩
    · rw [b2 152 (by decide), b2 153 (by decide), (t2 _ (by omega)).1, (t2 _ (by omega)).2]; exact d2 u hu
    · rw [(fR 94 rfl).2.2.1] at z
      rw [b2 154 (by decide), pk v hv z]; exact (d3 v hv).1 z
    · rw [(fR 94 rfl).2.2.1] at z
      rw [b2 154 (by decide), b2 155 (by decide), (t3 _ (by omega)).1, (t3 _ (by omega)).2]; exact (d3 v hv).2 z
    · rw [(fR 154 rfl).1] at z
      rw [b2 156 (by decide), t4 _ (by omega)]; exact d4 r hr z
    · rw [b2 157 (by decide), t5 _ (by omega)]; exact d5 w hw
  obtain ⟨M2, σ2, g1, g2, ⟨g3, g4, g5⟩, g6⟩ := z_goback W2 ⟨V98, V96⟩ ⟨Wl, W12⟩ U180 q24 ((i3 15 1 (by omega) (by decide)).trans h15) ((i3 39 1 (by omega) (by decide)).trans h39) ((fR 197 rfl).1.trans h197) ((fR 107 rfl).1.trans h107) ((fR 154 rfl).1.trans h154) ((fR 148 rfl).1.trans h148) ke2
  have g3' : KF D I' [] A' [] M' M2 := g3.mono hI'.2.2 (by decide) hA'.2.2 (by decide)
  refine ⟨n, M2, σ2, ⟨n1, g1, g2⟩, RB.kf g3' n rb', fR'.tr (g4.mono hT'.2.2), g6, pk.tr g5 (fun v => (fR 94 rfl).2.2.1 v), ⟨by rw [g3.n]; exact o1, (g3.k _).trans o2, ?_, ?_, ?_⟩, (g4 171 rfl).1.trans h171⟩
  · rw [g3.i rfl, o3, (g4 0 rfl).1]; exact e0.symm
  · rw [g3.i rfl, (g4 1 rfl).1]; exact e1 rfl
  · rw [(g4 0 rfl).1, e0]; exact r0
end SLOT
