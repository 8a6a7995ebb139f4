/-! Layer B: a text begins: what was there, and both at the first token -/
set_option maxRecDepth 100000
def bgC (C : PC) (b : Nat → Int32) (len m t : Nat) (pos : Nat → Nat) (cn cs u : Nat) : PC := (b, len, m, t, pos, cn, cs, cnf C, fun k => if k = 1001 then u else cfn C k, 0, clw C, 0)
theorem bgC_fn {C : PC} {b : Nat → Int32} {len m t cn cs u k : Nat} {pos : Nat → Nat} (hk : k ≠ 1001) : cfn (bgC C b len m t pos cn cs u) k = cfn C k := ifF hk
theorem bgC_cX {C : PC} {b : Nat → Int32} {len m t cn cs u : Nat} {pos : Nat → Nat} : cX (bgC C b len m t pos cn cs u) = 2400 - u := by
  unfold cX
  have e : cfn (bgC C b len m t pos cn cs u) 1001 = u := by
    show (if (1001 : Nat) = 1001 then u else cfn C 1001) = u
    exact ifT rfl
  rw [e]
section ZBEGIN
variable {C : PC} {M M' M1 M5 : CM} {σ σ' σ1 σ2 : TS} {mss fss : List Nat} {B o l m L0 L L' t len e kd : Nat} {X P : Nat → Prop} {b : Nat → Int32} {pos : Nat → Nat}
set_option maxHeartbeats 4000000 in
theorem z_begin (I : IT C B P mss fss M σ) (hk : LexI M M1 (cm C) L0 m L' b len (t + 1) t pos) (hK : TokK M1 m b len t (pos t) e kd) (hkd : kd = 0 ∨ kd = 4) (T : TapeT σ1 b len) (f1 : Ft [0, 5, 7, 8, 10, 18, 20, 37, 38, 39] σ σ1) (z : (tI σ1 0 = 0 ∧ tI σ1 10 = 0 ∧ tI σ1 18 = 0) ∧ tI σ1 20 = 0 ∧ tI σ1 37 = 0 ∧ tI σ1 39 = 0) (hB : B + len ≤ 1280) (L5 : Ls M5 95 []) (L6 : Ls M5 96 []) (L7 : Ls M5 97 []) (F15 : Fz (fun o => o = 90 ∨ o = 95 ∨ o = 96 ∨ o = 97 ∨ o = mR M1 4201 95 ∨ o = mR M1 4201 96 ∨ o = mR M1 4201 97) M1 M5) (n5 : mn M5 = mn M1) (r5 : ∀ g o, ¬ (g = 408 ∧ o = 90) → mR M5 g o = mR M1 g o) (v5 : mI M5 405 90 = 0 ∧ mI M5 406 90 = 0 ∧ mR M5 408 90 = 0 ∧ mI M5 404 90 = mI M1 404 90) (S5 : Sx M5) (cap : mn M5 + 16 * t + 120 ≤ 601024 ∧ ms M5 + 2048 * t + 12000 ≤ 7293034) :
    ∃ σ2, F_next σ1 = some ((), σ2) ∧ TI (bgC C b len m t pos (mn M5 + 16 * t + 120) (ms M5 + 2048 * t + 12000) (2399 - (B + t))) P M5 σ2 M5 σ2 0 120 12000 (6999 - 4 * (B + t)) mss [] := by
  obtain ⟨⟨K0, ⟨L, W⟩, h167, k90, k2, k91⟩, ⟨c1, c2, c3, c4⟩, ⟨kt, K9, u1, u2, u3⟩, ⟨l88, l89, -, -, -, -, -, hS⟩, ⟨⟨m24, t49⟩, f12, cf, t48, hfn⟩, hT, ⟨E, e1, e2⟩, ⟨K, y1, y2, y3⟩, ⟨Q, q1, q2, q3⟩, ⟨N, w1, w2, w3⟩, ⟨Q2, x1, x2, x3⟩⟩ := I
  have hk0 := hk
  obtain ⟨i1, i2, i3, i4, i5, i6, ⟨i7a, i7b, i7c⟩, i8, ⟨kT, -, -, -, i9e, i9f⟩, -⟩ := hk
  have ht : t ≤ len := by omega
  have hm : m ≤ 1280 := by omega
  obtain ⟨σ2, nx, P1⟩ := px_start hk0 hK hkd T (kt.kp f1 rfl rfl) z.1.1 z.1.2.1 z.1.2.2 hm (by omega)
  have fr := fS_F_next _ _ _ nx
  have F2 : Ft [0, 5, 7, 8, 10, 11, 12, 13, 14, 15, 16, 17, 18, 20, 21, 37, 38, 39] σ σ2 := (f1.mono (by decide)).tr (fr.mono (by decide))
  have FK := kT.fz
  have kn := kT.1
  have r1 : ∀ l, l ∈ arL → mR M1 4201 l = mR M 4201 l := fun l hl => kT.2.2.2.1 4201 l (by have := arL_lt hl; omega) (by omega)
  have r51 : ∀ l, l ∈ arL → mR M5 4201 l = mR M 4201 l := fun l hl => by rw [r5 _ _ (by omega), r1 l hl]
  have hnm := kT.2.2.2.2.2.2.2
  have hc1 : mn M1 ≤ 601024 := by omega
  have nmlt := W.2.2.2.2.2.2.2.1
  have nm53 := W.2.1
  have k4 : mk M 4 = 2 := K0.1.2.2.2.2.2
  have a55 : ∀ l, l ∈ arL → mR M 4201 l < mn M → mk M (mR M 4201 l) = 55 ∧ 167 ≤ mR M 4201 l := fun l hl h => hS.k (by omega) hl h
  have arx : ∀ l, l ∈ arL → mR M 4201 l = 4398046511104 ∨ (167 ≤ mR M 4201 l ∧ mR M 4201 l < mn M) := fun l hl => by
    rcases (hS l hl).2 with q | q
    · exact Or.inl q
    · exact Or.inr ⟨q.1.1, q.1.2.1⟩
  have A5 := arx 95 (by decide)
  have A6 := arx 96 (by decide)
  have A7 := arx 97 (by decide)
  -- what was there
  have so : ∀ o, o < mn M → (o ≠ 4 ∧ o ≠ 90 ∧ ¬ (91 ≤ o ∧ o ≤ 94) ∧ o ≠ mR M 201 4) → (o ≠ 95 ∧ o ≠ 96 ∧ o ≠ 97 ∧ o ≠ mR M 4201 95 ∧ o ≠ mR M 4201 96 ∧ o ≠ mR M 4201 97) → So M M5 o := fun o ho h1 h2 => (kT.so ho h1).tr (F15.so (by omega) (fun q => by
    rw [r1 95 (by decide), r1 96 (by decide), r1 97 (by decide)] at q
    omega))
  have soP : ∀ o, P o → So M M5 o := fun o hp => by
    obtain ⟨p1, p2⟩ := hT.nx hp
    exact so o p1.2 ⟨by omega, by omega, by omega, (hT.1 o hp).2.2.2⟩ ⟨by omega, by omega, by omega, p2 95 (by decide), p2 96 (by decide), p2 97 (by decide)⟩
  have kk : ∀ o, o < mn M → mk M5 o = mk M o := fun o ho => by rw [F15.k (by omega), (kT.2.1 o ho).1]
  have so23 : ∀ o, o < mn M → mk M o = 23 → So M M5 o := fun o ho h => by
    have ne : ∀ x, mk M x ≠ 23 → o ≠ x := fun x hx q => hx (by rw [← q]; exact h)
    have na : ∀ l, l ∈ arL → o ≠ mR M 4201 l := fun l hl q => by
      have := (a55 l hl (by rw [← q]; exact ho)).1
      rw [← q, h] at this; exact absurd this (by decide)
    exact so o ho ⟨ne 4 (by rw [k4]; decide), ne 90 (by rw [k90]; decide), fun q => by have := k91 o q.1 q.2; rw [h] at this; exact absurd this (by decide), ne _ (by rw [nm53]; decide)⟩ ⟨ne 95 (by rw [(hS 95 (by decide)).1]; decide), ne 96 (by rw [(hS 96 (by decide)).1]; decide), ne 97 (by rw [(hS 97 (by decide)).1]; decide), na 95 (by decide), na 96 (by decide), na 97 (by decide)⟩
  obtain ⟨Lw, W1⟩ : ∃ L, WN M1 m L := ⟨L', i2⟩
  have nmx : ¬ (mR M1 201 4 = 90 ∨ mR M1 201 4 = 95 ∨ mR M1 201 4 = 96 ∨ mR M1 201 4 = 97 ∨ mR M1 201 4 = mR M1 4201 95 ∨ mR M1 201 4 = mR M1 4201 96 ∨ mR M1 201 4 = mR M1 4201 97) := fun q => by
    have h53 := W1.2.1
    have h6 := W1.2.2.2.2.2.2.1
    have na : ∀ l, l ∈ arL → mR M1 201 4 ≠ mR M1 4201 l := fun l hl q => by
      have hlt := W1.2.2.2.2.2.2.2.1
      rw [q, r1 l hl] at h53 hlt
      rcases arx l hl with g | g
      · omega
      · rw [(kT.2.1 _ g.2).1, (a55 l hl g.2).1] at h53
        exact absurd h53 (by decide)
    rcases q with q | q | q | q | q | q | q
    · omega
    · omega
    · omega
    · omega
    · exact na 95 (by decide) q
    · exact na 96 (by decide) q
    · exact na 97 (by decide) q
  have w51 : ∀ w, wc M5 w = wc M1 w := fun w => wc_so (F15.so (by omega) (by rw [r1 95 (by decide), r1 96 (by decide), r1 97 (by decide)]; omega)) (F15.so W1.2.2.2.2.2.2.2.1 nmx) w
  have hw : ∀ w, w < 38 + cm C → wc M5 w = wc M w := fun w h => by rw [w51, i9f w h]
  have v : Wz C (bgC C b len m t pos (mn M5 + 16 * t + 120) (ms M5 + 2048 * t + 12000) (2399 - (B + t))) P M M5 σ σ2 := ⟨⟨by omega, kk⟩, ⟨soP, so23⟩, ⟨i9e, hw⟩, ⟨Tz.ft F2 (by decide), Qz.ft F2 (by decide), Mz.ft F2 (by decide), Ez.ft F2 (by decide)⟩, ⟨⟨Nat.le_refl _, by show cnf C ≤ 12; omega⟩, fun k hk => bgC_fn (by omega), Nat.le_of_eq (bgC_fn (by decide))⟩, fun k _ => (F2 42 rfl).2.2.1 k, c2.symm⟩
  have TP5 : TP (bgC C b len m t pos (mn M5 + 16 * t + 120) (ms M5 + 2048 * t + 12000) (2399 - (B + t))) P M5 M5 σ2 (mss ++ []) P := by
    rw [List.append_nil]
    refine ⟨fun o ho => ⟨Or.inl ho, ⟨(hT.nx ho).1.1, by have := (hT.nx ho).1.2; omega⟩, fun ⟨l, hl, q⟩ => ?_, fun q => ?_⟩, fun k hk => (hT.2.1 k hk).wz v (fun _ q => q) (fun f hf => by rcases hf with rfl | rfl | rfl | rfl <;> exact (F2 _ rfl).2.2.1 k) ((F2 41 rfl).2.2.2 k), fun k hk => (hT.2.2.1 k hk).wz v (fun _ q => q) hk ((F2 43 rfl).2.2.1 k), hT.2.2.2⟩
    · rw [r51 l hl] at q
      exact (hT.nx ho).2 l hl q
    · rw [r5 _ _ (by omega)] at q
      rcases hnm with g | g
      · rw [g] at q; exact (hT.1 o ho).2.2.2 q
      · have := (hT.nx ho).1.2; omega
  have lrow : ∀ l xs, Ls M l xs → l = 88 ∨ l = 89 → Ls M5 l xs := fun l xs h hl => by
    have hl2 : l ∈ arL := by rcases hl with rfl | rfl <;> decide
    have nl : mR M 201 4 ≠ l := fun q => by
      have := (hS l hl2).1
      rw [← q, nm53] at this; exact absurd this (by decide)
    refine h.kp (by omega) kk (so l (by omega) ⟨by omega, by omega, by omega, fun q => nl q.symm⟩ ⟨by omega, by omega, by omega, by omega, by omega, by omega⟩) (fun q => ?_)
    rcases (hS l hl2).2 with g | ⟨⟨g1, g2, g3⟩, g4⟩
    · exact absurd g q
    · exact so _ g2 ⟨by omega, by omega, by omega, fun q => by rw [q, nm53] at g3; exact absurd g3 (by decide)⟩ ⟨by omega, by omega, by omega, fun q => g4 95 (by decide) (by omega) q.symm, fun q => g4 96 (by decide) (by omega) q.symm, fun q => g4 97 (by decide) (by omega) q.symm⟩
  have PX : Px M5 σ2 b len m t pos 0 := by
    refine P1.go ((fz_bk M1 405 (nI 0)).mono (fun o _ q => Or.inl q) |>.tr F15) (fun o q => ?_) (by rw [v5.2.2.2, mI_msI, ifF (by omega)]) v5.1 (Nat.zero_le _) P1.2.2.2.1.1 P1.2.2.2.1.2.1 P1.2.2.2.1.2.2.1 P1.2.2.2.1.2.2.2 P1.2.2.2.2.1 P1.2.2.2.2.2
    have e : mR (msI M1 405 90 (nI 0)) 201 4 = mR M1 201 4 := rfl
    rw [e]
    by_cases h9 : o = 90
    · exact Or.inl h9
    · refine Or.inr ⟨?_, fun g => nmx (by rw [← g]; exact q)⟩
      rw [r1 95 (by decide), r1 96 (by decide), r1 97 (by decide)] at q
      omega
  have CN := TP5.cn (by rw [List.append_nil, (F2 49 rfl).1]; exact t49) (by rw [List.append_nil]; exact m24)
  have h39 : tI σ2 39 = 0 := by rw [(fr 39 rfl).1]; exact z.2.2.2
  have FU5 : FuR (bgC C b len m t pos (mn M5 + 16 * t + 120) (ms M5 + 2048 * t + 12000) (2399 - (B + t))) M5 σ2 := by
    refine ⟨fss, [], lrow 89 fss l89 (Or.inr rfl), L6, cf, by show cnf C ≤ 12; omega, by rw [(F2 48 rfl).1]; exact t48, fun k hk => ?_⟩
    obtain ⟨b1, b2⟩ := hfn k hk
    exact ⟨by rw [List.append_nil, ← b1]; exact bgC_fn (by have : k < cnf C := hk; omega), b2.wz (hT.2.2.1 k hk) v hk ((F2 40 rfl).2.2.2 k)⟩
  have PP : Pe (bgC C b len m t pos (mn M5 + 16 * t + 120) (ms M5 + 2048 * t + 12000) (2399 - (B + t))) M5 σ2 0 0 120 12000 (6999 - 4 * (B + t)) := by
    refine ⟨PX, ⟨by rw [kk 90 (by omega)]; exact k90, by omega, ⟨[], L5, rfl, Nat.zero_le _, by rw [(fr 37 rfl).1]; exact z.2.2.1, fun k hk => absurd hk (Nat.not_lt_zero _)⟩, FU5, Or.inl ⟨rfl, v5.2.2.1, h39⟩⟩, ⟨v5.2.1, by rw [(fr 20 rfl).1]; exact z.2.1, Nat.zero_le _⟩, ⟨?_, ?_, cap.1, cap.2, by show t ≤ 1280; omega⟩, N, Q2, ⟨by rw [(F2 28 rfl).1]; exact w1, ⟨w2, by rw [bgC_fn (by decide)]; omega⟩, ?_⟩, by rw [(F2 34 rfl).1]; exact x1, x2, ?_⟩
    · show mn M5 + 16 * (t - 0) + 120 ≤ mn M5 + 16 * t + 120; omega
    · show ms M5 + 2048 * (t - 0) + 12000 ≤ ms M5 + 2048 * t + 12000; omega
    · show N + 4 * (t - 0) + (6999 - 4 * (B + t)) ≤ 7000; omega
    · show Q2 + 4 * (t - 0) + (6999 - 4 * (B + t)) ≤ 7000; omega
  have hcX : cX (bgC C b len m t pos (mn M5 + 16 * t + 120) (ms M5 + 2048 * t + 12000) (2399 - (B + t))) = 1 + (B + t) := by
    rw [bgC_cX]
    omega
  refine ⟨σ2, nx, ⟨PP, rfl, rfl, by show len ≤ 1280; omega, by rw [bgC_fn (by decide)]; exact c3⟩, ⟨⟨lrow 88 mss l88 (Or.inl rfl), L7⟩, CN⟩, S5, ⟨P, TP5⟩, ⟨⟨E, by rw [(F2 58 rfl).1]; exact e1, by rw [List.append_nil]; exact e2⟩, ⟨K, by rw [(F2 65 rfl).1]; exact y1, y2, ?_⟩, Q, by rw [(F2 72 rfl).1]; exact q1, q2, ?_⟩, ⟨Fz.rf, fun _ _ => Or.inl rfl, by omega⟩, Tw.rf _, Qz.rf _, Nat.le_refl _, Nat.le_refl _⟩
  · rw [hcX]; show K + (t - 0) ≤ _; omega
  · rw [hcX]; show Q + (t - 0) ≤ _; omega
end ZBEGIN
