/-! Layer B: equations: plain ones -/
set_option maxRecDepth 100000
/-- what an equation owes -/
def PX (M0 M' : CM) (o : Nat) : Prop := (mn M0 ≤ o ∧ o < mn M') ∧ o ≠ mR M' 4201 95
def GE (C : PC) (M0 : CM) (σ0 : TS) (i dep c s n fl : Nat) (a : Nat) (M' : CM) (y : Int32) (σ' : TS) : Prop := ∃ e i' d, (y = nI e ∧ d + dep ≤ gb fl) ∧ PE C M' σ' i' dep c s n ∧ i < i' ∧ Ee M0 σ0 M' σ' ∧ (tE σ' = e + 1 ∧ tE σ0 ≤ e) ∧ EqR C (PX M0 M') M' σ' (tE σ0) d fl a e ∧ tA σ' 70 e = 0
section LEAFEQ
variable {C : PC} {M M' M0 M1 M2 Ma Mb : CM} {σ σ' σ0 σ1 σ2 σb s1 : TS} {i dep c s n i' dep' c' s' n' d0 w so v a x o q fl : Nat} {X P : Nat → Prop} {α β γ δ : Type} {G : γ → CM → δ → TS → Prop}
theorem PE.cx (_ : PE C M σ i dep c s n) : cX C ≤ 2400 := cX_le C
theorem PE.e1 (P : PE C M σ i dep c s n) : tI σ 72 = nI (tE σ) ∧ 1 ≤ tE σ ∧ tE σ + (ct C - i) ≤ cX C := by
  obtain ⟨E, e1, e2, e3⟩ := P.2.2.2.1
  have hcx := cX_le C
  have : tE σ = E := by unfold tE; rw [e1, ix_nI (by omega)]
  rw [this]; exact ⟨e1, e2, e3⟩
/-- an equation made now may be written -/
theorem PE.wr (P : PE C M σ i dep c s n) (F : Fz (fun o => o = v) M M') (hn : mn M' = mn M ∧ ms M' = ms M) (hk : mk M v = 13) (hv : v < mn M) (h98 : 98 ≤ v) : PE C M' σ i dep c s n := by
  obtain ⟨P, hM⟩ := P
  have h167 := P.n167
  have nd : ∀ o, o = v → ¬ Dp C M o := fun o z hd => by
    rw [z] at hd
    have := Dp.kd P hd hv h98
    rw [hk] at this
    omega
  have P' := P.mu (c' := c) (s' := s) hM.2.2.2.1.2.1 F (fun o _ z => nd o z) (by omega) (by omega)
  obtain ⟨⟨⟨m1, m2⟩, m3⟩, ⟨k, m4, m5, m6⟩, m7, m8, m13⟩ := hM
  have s90 : So M M' 90 := F.so (by omega) (by omega)
  have smo : So M M' (mR M 411 90) := F.so m3 (fun z => by rw [z, hk] at m1; exact absurd m1 (by decide))
  exact ⟨P', ⟨⟨by rw [s90.r, smo.k]; exact m1, by rw [s90.r]; exact m2⟩, by rw [s90.r]; omega⟩, ⟨k, by rw [s90.r, smo.i]; exact m4, m5, m6⟩, m7, m8, m13.so P.en.2.2.2.1 h167 (F.so (by omega) (by omega)) (fun o ho hf => F.so ho (fun z => nd o z (Or.inr (Or.inr (Or.inr (Or.inr hf))))))⟩
theorem Ee.wr (E : Ee M0 σ0 M σ) (P0 : PE C M0 σ0 i dep c s n) (F : Fz (fun o => o = v) M M') (hv : mn M0 ≤ v) : Ee M0 σ0 M' σ := ⟨E.1.re F (fun o z _ => by rw [z]; exact hv) P0.1.n167 P0.2.1.2, E.2⟩
theorem PE.alq (P : PE C M σ i dep c s n) (F : Fz none_ M M') (h1 : mn M' + c' ≤ mn M + c) (h2 : ms M' + s' ≤ ms M + s) : PE C M' σ i dep c' s' n ∧ Ee M σ M' σ := by
  have E := Es.al (σ := σ) F P.1.n167
  exact ⟨P.es E (P.1.al F h1 h2) (Nat.le_refl _), E.ee P.1.n167⟩
/-- parts of an equation, at its end -/
theorem Rs.eqp (R : Rs C Ma Mb σb so a x) (hx : x < 9000) (hnf : cnf C ≤ 12) (F : Fz X Mb M') (hX : ∀ o, mn Ma ≤ o → o < mn Mb → ¬ X o) (hw : ∀ w, wc M' w = wc Mb w) (hz : Tz σb σ') (h42 : ∀ j, tA σ' 42 j = tA σb 42 j) (hP : ∀ o, mn Ma ≤ o → o < mn Mb → P o) : EqP C P M' σ' so a (nI x) := by
  obtain ⟨d, R⟩ := R
  exact ⟨x, d, rfl, hx, AR.mv ⟨⟨F.1, fun o ho => F.k ho⟩, fun o ho => F.so ho.2 (hX o ho.1 ho.2), fun w _ => hw w, hz.2.1, hz.2.2.1, hz.2.2.2, h42⟩ (fun o ho => hP o ho.1 ho.2) hz.1.1 hz.1.2 ⟨Nat.le_refl _, hnf, fun _ _ => rfl⟩ d d so a x (Nat.le_refl _) R⟩
theorem RfR.eqp (R : RfR (fun z => mn Ma ≤ z ∧ z < mn Mb) (tQ σb) (cm C) Mb σb a q) (hx : q < 7000) (F : Fz X Mb M') (hX : ∀ o, mn Ma ≤ o → o < mn Mb → ¬ X o) (hw : ∀ w, wc M' w = wc Mb w) (hz : Tz σb σ') (h42 : ∀ j, tA σ' 42 j = tA σb 42 j) (hP : ∀ o, mn Ma ≤ o → o < mn Mb → P o) : RfP C P M' σ' a (nI q) :=
  ⟨q, rfl, hx, R.mv (N := tN σb) ⟨⟨F.1, fun o ho => F.k ho⟩, fun o ho => F.so ho.2 (hX o ho.1 ho.2), fun w _ => hw w, hz.2.1, hz.2.2.1, hz.2.2.2, h42⟩ (fun o ho => hP o ho.1 ho.2) hz.1.2⟩
/-- the twin makes an equation -/
theorem z_eqn (P : PE C M σ i dep c s n) (hi : 1 ≤ i) (k1 k2 k3 k4 : Int32) (hb : i' + 1 = i) (hE : tE σ + (ct C - i') ≤ cX C) : F_eq k1 k2 k3 k4 σ = some (nI (tE σ), eqT σ (tE σ) k1 k2 k3 k4) ∧ (i ≤ ct C → PE C M (eqT σ (tE σ) k1 k2 k3 k4) i dep c s n) ∧ Ee M σ M (eqT σ (tE σ) k1 k2 k3 k4) ∧ tE (eqT σ (tE σ) k1 k2 k3 k4) = tE σ + 1 := by
  obtain ⟨e1, e2, e3⟩ := P.e1
  have hcxP := P.cx
  have f := eqT_f σ (tE σ) k1 k2 k3 k4
  obtain ⟨v1, v2, v3, v4, v5, v6, v7⟩ := eqT_v σ (tE σ) k1 k2 k3 k4
  have te : tE (eqT σ (tE σ) k1 k2 k3 k4) = tE σ + 1 := by
    show ix (tI (eqT σ (tE σ) k1 k2 k3 k4) 72) = _
    rw [v6, ix_nI (by omega)]
  refine ⟨t_eq e1 (by omega) k1 k2 k3 k4, fun hict => ⟨P.1.tq (f.mono (by decide)), P.2.1, ?_, ⟨tE σ + 1, v6, by omega, by omega⟩, P.2.2.2.2⟩, ⟨Ek.rf M, ⟨Tz.tq (f.mono (by decide)), ⟨by rw [te]; omega, fun m hm => ⟨fun k _ => v7 k m (by omega), (f 71 rfl).2.2.2 m⟩⟩⟩, f.mono (by decide)⟩, te⟩
  obtain ⟨k, m4, m5, m6⟩ := P.2.2.1
  exact ⟨k, m4, by rw [(f 73 rfl).1]; exact m5, m6⟩
end LEAFEQ
