/-! Layer B: the flat model: the state once instances, members and variables are made -/
set_option maxRecDepth 100000
section HEAD5
variable {C : PC} {D D' D1 D2 : FQ} {M M' M1 M2 M3 : CM} {σ σ' s σ1 σ2 σ3 σ5 : TS} {mss fss os : List Nat} {B V I Bm k g o w tf R E : Nat} {P : Nat → Prop} {x1 : Int32} {T : Nat → Prop} {S : List Nat} {z7 : Nat → Nat}
/-- the flat model's instances, members, variables, once outer members are found -/
theorem z_flx (W3 : FW C B P mss fss D M3 σ) (F2 : FiS C B P mss fss D M σ V I Bm 0 R E) (N3 : FInZ z7 C P D mss M3 σ V I Bm) (v : Wz C C P M M3 σ σ) (i3 : ∀ f o, mI M3 f o = mI M f o) (r3 : ∀ f o, f ≠ 3007 → mR M3 f o = mR M f o) (hI : 1 ≤ I) (ex : Exs σ I) (vo : VoS σ 0 V 0 Bm) (vn : VnS σ V I) (mb : ∀ b, b < Bm → MbC D mss M σ V I b) (hz : ∀ x, x < Bm → (¬ outT σ x → z7 x = 0) ∧ (outT σ x → InnR D σ Bm z7 x)) : ∃ zx, FlX zx C P D mss M3 σ V I Bm := by
  obtain ⟨⟨l1, l2, l3, -⟩, -⟩ := F2.lens
  obtain ⟨⟨d15, d107, -⟩, ⟨d16, d82, -⟩, d17, d89⟩ := F2.2.2.1
  obtain ⟨zx, hzx⟩ : ∃ q : Nat → Nat, q = fun c => if c = 100000 then 1 else z7 c := ⟨_, rfl⟩
  have zb : ∀ b, b < Bm → zx b = z7 b := fun b hb => by rw [hzx]; exact ifF (by omega)
  have z1 : zx 100000 = 1 := by rw [hzx]; exact ifT rfl
  refine ⟨zx, ⟨N3.1, N3.2.1, fun b hb => ?_, fun u hu => ?_⟩, ⟨l1, l2, l3, hI, by rw [z1]; decide, ex, vo, vn⟩, ⟨d107, d82, d89⟩, ⟨by rw [i3]; exact d15, by rw [i3]; exact d16⟩, fun b hb => ⟨?_, fun h => ?_, fun h => ?_⟩⟩
  · obtain ⟨n, e, eo, w, p1, p2, p3, p4, p5, p6, p7⟩ := N3.2.2.1 b hb
    exact ⟨n, e, eo, w, p1, p2, p3, p4, p5, p6, p7.trans (zb b hb).symm⟩
  · obtain ⟨p1, p2, p3, p4, p5, p6, p7, -⟩ := N3.2.2.2 u hu
    exact ⟨p1, p2, p3, p4, p5, p6, p7, fun z => absurd z (by rw [z1]; decide)⟩
  · obtain ⟨n', e', eo', w', -, -, ⟨p3a, p3b⟩, -⟩ := F2.2.1.2.2.1 b hb
    exact (mb b hb).mw v (fun _ => rfl) (fun _ => rfl) (fun _ => rfl) rfl (fun k hk => F2.1.pc hk) rfl ⟨fun f => i3 f _, r3 3003 _ (by decide)⟩ (by rw [p3a]; exact p3b.1.1) (fun o ho => ho) ⟨rfl, rfl, rfl⟩ rfl (fun _ _ _ _ => rfl) (Nat.le_refl _) (Nat.le_refl _)
  · rw [zb b hb]; exact (hz b hb).1 h
  · obtain ⟨c, e', q1, q2, q3, q4, q5, q6⟩ := (hz b hb).2 h
    exact ⟨c, e', q1, q2, q3, q4, (zb b hb).trans q5, q6⟩
/-- the state while it is built, at its start -/
theorem z_bs0 (W3 : FW C B P mss fss D M3 σ) (FX : FlX z7 C P D mss M3 σ V I Bm) (hv : ∀ v, v < V → VzR D M3 v) (H : HdF k M3 σ) (h0 : tI σ 0 = 0) : ∃ σ5, J_makeFlat_202 σ = ob (L_makeFlat_280 FU 0 σ5) (fun _ s101 => J_makeFlat_344 s101) ∧ Ft [104, 130, 138, 155, 158, 159, 160] σ σ5 ∧ BS 0 z7 C B P mss fss V I Bm 0 1 D M3 σ5 0 1 0 0 0 ∧ Wz C C P M3 M3 σ σ5 := by
  have h400 : 400 < FU := by unfold FU; decide
  have hV : V ≤ 96 := FX.2.1.1
  obtain ⟨s1, a1, a2, -, a4⟩ := t_204 400 0 FU σ (Nat.zero_add _) h400
  obtain ⟨s2, b1, b2, b3⟩ := t_226 hV V 0 FU s1 (Nat.zero_add _) (by rw [(a2 107 rfl).1]; exact FX.2.2.1.1) (by omega)
  obtain ⟨s5, hs5⟩ : ∃ q, q = tsI (tsI s2 130 1) 138 1 := ⟨_, rfl⟩
  have f5 : Ft [130, 138] s2 s5 := by rw [hs5]; exact ((Ft.rf _ s2).p_tsI rfl).p_tsI rfl
  have ff : Ft [104, 130, 138, 155, 158, 159, 160] σ s5 := ((a2.mono (by decide)).tr (b2.mono (by decide))).tr (f5.mono (by decide))
  obtain ⟨W5, w5⟩ := W3.wzT ff (by decide)
  have FX5 : FlX z7 C P D mss M3 s5 V I Bm := FX.kp W3 (Fq.rf (T := fun _ => False)) (fun _ z => z.elim) (fun k _ => ⟨fun _ _ => rfl, fun _ _ => rfl⟩) w5 (Dx.rf D M3) ff (by decide) ⟨rfl, rfl⟩
  obtain ⟨⟨a32, a24, a35, a37, a39, a41⟩, a27, ⟨a604, a605⟩, a115, a109, aT, ⟨t126, t129⟩, a43, -⟩ := H
  have ti : ∀ f, f ∈ [117, 127, 133, 137, 138, 140, 143, 148, 152, 154, 161, 171] → f ≠ 138 → tI s5 f = nI 0 := fun f hf h => by
    have e := aT f hf
    simp only [List.mem_cons, List.not_mem_nil, or_false] at hf
    rcases hf with rfl | rfl | rfl | rfl | rfl | rfl | rfl | rfl | rfl | rfl | rfl | rfl
    all_goals first | exact absurd rfl h | exact (ff _ rfl).1.trans e
  have L9 := W5.2.1.1 109 (by decide)
  have e9 : (pl D 109).length = 0 := by
    have h1 := L9.1.2.1
    rw [a109] at h1
    have h2 := L9.1.2.2.1
    exact ((bI_eq (by decide) (by omega)).mp h1).symm
  have v0 : ∀ f, f ∈ [104, 158, 159, 160] → ∀ v, v < V → tA s5 f v = 0 := fun f hf v hv => by
    have e := (b3 f hf).2 v (Nat.zero_le _) hv
    rw [(f5 f (by
      simp only [List.mem_cons, List.not_mem_nil, or_false] at hf
      rcases hf with rfl | rfl | rfl | rfl <;> rfl)).2.2.1 v]
    exact e
  refine ⟨s5, ?_, ff, ⟨⟨W5, FX5, ⟨⟨a27, Or.inl ⟨rfl, rfl, rfl, rfl⟩⟩, ⟨a604, Nat.zero_le _, Nat.zero_le _, a605⟩, ⟨by rw [(ff 126 rfl).1, t126]; rfl, rfl, by decide, by decide⟩, Or.inl ⟨rfl, by rw [(ff 129 rfl).1, t129], ti 127 (by decide) (by decide)⟩, rfl, by decide, fun _ => rfl, fun n h1 h2 => absurd h1 (by omega)⟩, ⟨⟨a24, ti 117 (by decide) (by decide), by decide⟩, fun j hj => absurd hj (Nat.not_lt_zero _)⟩, fun k hk => absurd hk (Nat.not_lt_zero _), ⟨e9, by decide, ti 137 (by decide) (by decide)⟩, Or.inl ⟨rfl, ?_⟩, by rw [(ff 0 rfl).1]; exact h0⟩, fun v hvv => ⟨Or.inl ⟨(hv v hvv).1, v0 158 (by decide) v hvv⟩, Or.inl ⟨(hv v hvv).2.1, v0 159 (by decide) v hvv⟩, ?_, fun _ => v0 160 (by decide) v hvv, fun z => absurd rfl z⟩, ⟨⟨a35, ti 143 (by decide) (by decide), by decide, Nat.zero_le _⟩, fun k hk => absurd hk (Nat.not_lt_zero _)⟩, ⟨⟨a37, ti 152 (by decide) (by decide), by decide, Nat.zero_le _⟩, fun k hk => absurd hk (Nat.not_lt_zero _)⟩, ⟨⟨a39, ti 148 (by decide) (by decide), by decide, Nat.zero_le _⟩, fun k hk => absurd hk (Nat.not_lt_zero _)⟩, ⟨fun f hf => ⟨f, a115 f hf, ?_, Nat.le_refl _, rfl, rfl⟩, ?_, ⟨0, a32, ti 133 (by decide) (by decide), by decide⟩, by rw [a43, (ff 156 rfl).1], 0, ⟨a41, ti 154 (by decide) (by decide), by decide⟩, fun j hj => absurd hj (Nat.not_lt_zero _)⟩, fun z => absurd rfl z, ti 161 (by decide) (by decide), ti 171 (by decide) (by decide), fun _ => ⟨fun _ => 0, fun _ => 0, fun _ => 0, fun _ => 0, fun k hk => absurd hk (Nat.not_lt_zero k), fun k hk => absurd hk (Nat.not_lt_zero k), fun k hk => absurd hk (Nat.not_lt_zero k), by decide, fun c k s => absurd s (by unfold Slt; omega), fun c k c' k' s => absurd s (by unfold Slt; omega)⟩⟩, w5⟩
  · unfold J_makeFlat_202
    rw [show L_makeFlat_204 FU 0 σ = some ((), s1) from a1, ob_some, show L_makeFlat_226 FU 0 s1 = some ((), s2) from b1, ob_some, nm_eq, nm_eq, ← hs5]
  · rw [hs5, tI_tsI, ifT rfl]; decide
  · rw [(hv v hvv).2.2.2.1, v0 104 (by decide) v hvv]
  · have e := a4 f (Nat.zero_le _) hf
    rw [(f5 155 rfl).2.2.1, (b2 155 rfl).2.2.1]; exact e
  · rw [hs5, tI_tsI, ifF (by decide), tI_tsI, ifT rfl]; decide
end HEAD5
