/-! Layer B: equations: by their first words -/
set_option maxRecDepth 100000
section BODY
variable {C : PC} {M M' : CM} {σ σ' : TS} {i dep c s n c' s' k fl : Nat} {cE : Nat → Int32 → CM → Option ((Unit ⊕ Nat) × CM)} {cI : Int32 → CM → Option ((Nat ⊕ Nat) × CM)} {f1 f2 : TS → Option (Int32 × TS)} {x : Int32}
/-- what the component does at `for` -/
def kFor (cE : Nat → Int32 → CM → Option ((Unit ⊕ Nat) × CM)) (v2 : Int32) (M7 : CM) : Option ((Nat ⊕ Nat) × CM) :=
  obS (K_X2_deeper v2 M7) (fun w74 M70 => some (.inr w74, M70)) fun _ M70 => if mn M70 ≤ 601024 ∧ ms M70 + 8 ≤ 7293034 then nm (mn M70) fun v76 => nm (mnew M70 13 0 8) fun M77 => if ¬ v76 = 0 then ob (K_X13_init v76 18 M77) fun _ M79 => obS (K_X2_name M79) (fun w87 M83 => some (.inr w87, M83)) fun r84 M83 => if mk M83 v76 = 13 then nm (msI M83 2403 v76 r84) fun M89 => obS (K_X2_key 19 M89) (fun w94 M90 => some (.inr w94, M90)) fun _ M90 => obS (K_X2_number 0 99 M90) (fun w99 M95 => some (.inr w99, M95)) fun r96 M95 => if mk M95 v76 = 13 then nm (msI M95 2404 v76 r96) fun M101 => obS (K_X2_sign 58 M101) (fun w106 M102 => some (.inr w106, M102)) fun _ M102 => obS (K_X2_number 0 99 M102) (fun w111 M107 => some (.inr w111, M107)) fun r108 M107 => if mk M107 v76 = 13 then nm (msI M107 2405 v76 r108) fun M113 => obS (K_X2_key 20 M113) (fun w118 M114 => some (.inr w118, M114)) fun _ M114 => if mk M114 v76 = 13 then ob (K_J16_valueOf (mI M114 2403 v76) M114) fun r121 M120 => ob (K_J2_add 95 r121 M120) fun _ M124 => if mk M124 v76 = 13 then obS (cE (mR M124 2406 v76) 0 M124) (fun w133 M129 => some (.inr w133, M129)) fun _ M129 => ob (K_J2_size 95 M129) fun r135 M134 => ob (K_J2_remove 95 (r135 - 1) M134) fun _ M138 => obS (K_X2_key 3 M138) (fun w146 M142 => some (.inr w146, M142)) fun _ M142 => obS (K_X2_sign 59 M142) (fun w151 M147 => some (.inr w151, M147)) fun _ M147 => nm (msI M147 406 90 ((mI M147 406 90) - 1)) fun M152 => some (.inl v76, M152) else none else none else none else none else none else none else none
/-- by the first word -/
theorem eq_hB (P : PE C M σ i dep c s n) (hc : 80 ≤ c) (hs : 8000 ≤ s) (hn : 20 ≤ n) (hfl : fl ≠ 1) (hx : x = 0 ∨ x = 1)
    (hF : ∀ (M' : CM), K_X2_takeKey 18 M = some (1, M') → i < ct C → tI σ 11 = 1 → mA M 92 i = 18 → Rje C M σ (GE C M σ i dep (c + 16) (s + 2048) n fl) (kFor cE (mA M 94 i) M') (ob (f1 σ) fun r54 s53 => some (r54, s53)))
    (hI : i < ct C → tI σ 11 = 1 → mA M 92 i = 21 → Rje C M σ (GE C M σ i dep (c + 16) (s + 2048) n fl) (obS (cI (mA M 94 i) M) (fun w68 M64 => some (.inr w68, M64)) fun r65 M64 => some (.inl r65, M64)) (ob (f2 σ) fun r49 s48 => some (r49, s48)))
    (hW : x = 1 → i < ct C → tI σ 11 = 1 → mA M 92 i = 16 → Rje C M σ (GE C M σ i dep (c + 16) (s + 2048) n fl) (obS (K_X2_when (msI M 405 90 (nI (i + 1)))) (fun w56 M52 => some (.inr w56, M52)) fun r53 M52 => some (.inl r53, M52)) (ob (F_readWhen σ) fun r43 s42 => some (r43, s42))) :
    Rje C M σ (GE C M σ i dep (c + 16) (s + 2048) n fl) (KB_X2_equation cE cI x M) (tEqB f1 f2 x σ) := by
  have h167 := P.1.n167
  obtain ⟨g1, g2⟩ := P.1.px.in1
  obtain ⟨a4, a5, a6, a7, a8⟩ := P.1.2.2.2.1
  unfold tEqB
  rcases z_takeKey P.1 (j := 15) (x := 15) (y := 27988542783578996) rfl (by decide) (by decide) with ⟨σ1, q1, q2, q3, P1, E1, hi⟩ | ⟨q1, q2⟩
  · have PE1 := P.es E1 P1 (Nat.le_succ _)
    have hal := eq_al (msI M 405 90 (nI (i + 1))) 15 (fun v M23 => kE15 v M23) ⟨by show mn M + 3 ≤ _; omega, by show ms M + 24 ≤ _; omega⟩ P1.n167
    have h := eqn_15 (fl := fl) (PE1.wk (c' := c) (s' := s) (n' := n) (by omega) (by omega) (by omega)) hc hs hn hfl
    rw [q2, ob_some, ifF (show ¬ (1 : Int32) = 0 from by decide), q3, ob_some]
    unfold KB_X2_equation
    rw [ifT g1, nm_eq, q1, ob_some, ifF (show ¬ (1 : Int32) = 0 from by decide)]
    refine GE.base (E1.ee h167) (Nat.le_succ _) P.1.nf12 ?_
    rw [← hal] at h
    exact h
  rw [q2, ob_some, ifT (rfl : (0 : Int32) = 0)]
  have hk15 : K_X2_isKey 15 M = some (0, M) := by
    rcases y_key P.1.px (j := 15) (x := 15) (c := 27988542783578996) rfl (by decide) (by decide) with ⟨_, q, _⟩ | ⟨q, _⟩
    · rw [q2] at q; injection q with q; injection q with q _; exact absurd q (by decide)
    · exact q
  rcases y_key P.1.px (j := 18) (x := 18) (c := 6713202) rfl (by decide) (by decide) with ⟨p1, p2, p3, p4, p5⟩ | ⟨p1, p2, _⟩
  · rw [p2, ob_some, ifF (show ¬ (1 : Int32) = 0 from by decide)]
    have hk : K_X2_takeKey 18 M = some (1, msI M 405 90 (nI (i + 1))) := by
      unfold K_X2_takeKey
      rw [p1, ob_some, ifF (show ¬ (1 : Int32) = 0 from by decide), nm_eq, P.1.i5, nI_addL]
    unfold KB_X2_equation
    rw [ifT g1, nm_eq, q1, ob_some, ifT (rfl : (0 : Int32) = 0), hk, ob_some, ifF (show ¬ (1 : Int32) = 0 from by decide), g2]
    exact hF _ hk p3 p4 p5
  rw [p2, ob_some, ifT (rfl : (0 : Int32) = 0)]
  rcases y_key P.1.px (j := 21) (x := 21) (c := 26982) rfl (by decide) (by decide) with ⟨r1, r2, r3, r4, r5⟩ | ⟨r1, r2, _⟩
  · rw [r2, ob_some, ifF (show ¬ (1 : Int32) = 0 from by decide)]
    unfold KB_X2_equation
    rw [ifT g1, nm_eq, q1, ob_some, ifT (rfl : (0 : Int32) = 0), k_tk0 p1, ob_some, ifT (rfl : (0 : Int32) = 0), r1, ob_some, ifF (show ¬ (1 : Int32) = 0 from by decide), g2]
    exact hI r3 r4 r5
  rw [r2, ob_some, ifT (rfl : (0 : Int32) = 0)]
  rcases y_key P.1.px (j := 16) (x := 16) (c := 2003330414) rfl (by decide) (by decide) with ⟨s1, s2, s3, s4, s5⟩ | ⟨s1, s2, _⟩
  · rw [s2, ob_some, ifF (show ¬ (1 : Int32) = 0 from by decide)]
    unfold KB_X2_equation
    rw [ifT g1, nm_eq, q1, ob_some, ifT (rfl : (0 : Int32) = 0), k_tk0 p1, ob_some, ifT (rfl : (0 : Int32) = 0), r1, ob_some, ifT (rfl : (0 : Int32) = 0), s1, ob_some, ifF (show ¬ (1 : Int32) = 0 from by decide)]
    rcases hx with rfl | rfl
    · -- it may not stand here
      rw [ifT (rfl : (0 : Int32) = 0), ifT (rfl : (0 : Int32) = 0)]
      obtain ⟨r, p, hr, t1, t2⟩ := y_stop P.1.px (P.1.cap (by omega))
      have hr0 : r ≠ 0 := by rcases hr with rfl | rfl <;> decide
      have hw16 : tL σ 16 = 2003330414 := by
        unfold F_isWord at s2
        rw [ifT s4] at s2
        by_cases z : lg_cmp (tL σ 16) 2003330414 = 0
        · exact lg_eq.mp z
        · rw [ifF z] at s2; injection s2 with s2; injection s2 with s2 _; exact absurd s2 (by decide)
      have hkey : F_isKey σ = some (1, σ) := t_isKey1 P.1.px.2.2.2.1.2.1 (w := 16) (by decide) hw16
      rw [t1, ob_some, ifT (wM_k M r p)]
      unfold J_readEquation_158 F_sumOrIf
      have h39 : tI σ 39 = 0 := by
        rcases P.1.en.2.2.2.2 with q | ⟨q, _⟩
        · exact q.2.2
        · have := P.2.2.2.2.1.2.1; omega
      rw [ob_id, t_expr_stop t2 hr0 P.1.g0 h39 (by rw [s4]; decide) (by rw [s4]; decide) (fun _ => ⟨hkey, hw16⟩), ob_some]
      have fb := (P.1.fb (by omega) (by omega) (r := r) (q := p) hr0).fe P.1 P.2
      exact Or.inr (FBe.ko fb (((by intro σ1 r s hb; repeat' (first | with_reducible (exact BWe.sm hb) | with_reducible (refine BWe.bo (BWe.o hb (bw_next hb.br)) ?_; intro r s hb) | with_reducible (refine BWe.bo (BWe.o hb (bw_ref hb.br)) ?_; intro r s hb) | with_reducible (refine BWe.bo (BWe.o hb (bw_passName hb.br)) ?_; intro r s hb) | with_reducible (refine BWe.bo (BWe.o hb (bw_Fexpression hb.br)) ?_; intro r s hb) | with_reducible (refine BWe.bo (BWe.o hb (bw_Fcondition hb.br)) ?_; intro r s hb) | with_reducible (refine BWe.bo (BWe.o hb (bw_pass hb.br _)) ?_; intro r s hb) | with_reducible (refine BWe.bo (BWe.o hb (bw_isSign hb.br _)) ?_; intro r s hb) | with_reducible (refine BWe.bo (BWe.o hb (bw_passWhole hb.br _)) ?_; intro r s hb) | with_reducible (refine BWe.bo (BWe.o hb (bw_passWord hb.br _)) ?_; intro r s hb) | with_reducible (refine BWe.bo (BWe.o hb (bw_isWord hb.br _)) ?_; intro r s hb) | with_reducible (refine BWe.eq hb _ _ _ _ ?_; intro j s hj1 hj2 hj3 hb) | with_reducible (refine BWe.nmI hb (by decide) ?_; intro s hb) | with_reducible (refine BWe.nmB hb (by assumption) (by assumption) ?_; intro s hb) | with_reducible (refine BWe.isBad hb ?_) | with_reducible (refine BWe.itT (inb_nI' (by assumption) (by decide)) ?_) | with_reducible (refine BWe.ite ?_ ?_) | exact BWe.sm hb | (refine BWe.bo (BWe.o hb (bw_next hb.br)) ?_; intro r s hb) | (refine BWe.bo (BWe.o hb (bw_ref hb.br)) ?_; intro r s hb) | (refine BWe.bo (BWe.o hb (bw_passName hb.br)) ?_; intro r s hb) | (refine BWe.bo (BWe.o hb (bw_Fexpression hb.br)) ?_; intro r s hb) | (refine BWe.bo (BWe.o hb (bw_Fcondition hb.br)) ?_; intro r s hb) | (refine BWe.bo (BWe.o hb (bw_pass hb.br _)) ?_; intro r s hb) | (refine BWe.bo (BWe.o hb (bw_isSign hb.br _)) ?_; intro r s hb) | (refine BWe.bo (BWe.o hb (bw_passWhole hb.br _)) ?_; intro r s hb) | (refine BWe.bo (BWe.o hb (bw_passWord hb.br _)) ?_; intro r s hb) | (refine BWe.bo (BWe.o hb (bw_isWord hb.br _)) ?_; intro r s hb) | (refine BWe.eq hb _ _ _ _ ?_; intro j s hj1 hj2 hj3 hb) | (refine BWe.nmI hb (by decide) ?_; intro s hb) | (refine BWe.nmB hb (by assumption) (by assumption) ?_; intro s hb) | refine BWe.isBad hb ?_ | refine BWe.itT (inb_nI' (by assumption) (by decide)) ?_ | refine BWe.ite ?_ ?_)) : ∀ σ1 (_ : Unit) s, Bre C σ1 s → BWe C σ1 (ob (F_pass 61 s) fun r27 s26 => ob (F_expression s26) fun r31 s30 => ob (F_pass 59 s30) fun r35 s34 => ob (F_eq 1 0 r31 0 s34) fun r39 s38 => some (r39, s38))) _ () _ fb.bd))
    · rw [ifF (show ¬ (1 : Int32) = 0 from by decide), ifF (show ¬ (1 : Int32) = 0 from by decide), nm_eq, P.1.i5, nI_addL]
      exact hW rfl s3 s4 s5
  rw [s2, ob_some, ifT (rfl : (0 : Int32) = 0), eq_none P hc hs hk15 p1 r1 s1]
  exact eqn_61 P hc hs hn hfl f1 f2
end BODY
