/-! Layer B: the flat model: value and start of a variable (the component's rows) -/
set_option maxRecDepth 100000
/-- it can't be meant for a variable -/
def vbad (σ : TS) (a : Nat × Nat × Nat) : Prop := tA σ 62 a.1 ≠ 0 ∨ (0 < pth σ a.1 a.2.1 ∧ tB σ 29 (ix (pth σ a.1 a.2.1)) ≠ kco 37)
/-- the first value, the first start -/
def vE (σ : TS) : List (Nat × Nat × Nat) → Int32 × Int32
  | [] => (0, 0)
  | a :: W => if pth σ a.1 a.2.1 = 0 then (tA σ 60 a.1, nI a.2.2) else vE σ W
def sE (σ : TS) : List (Nat × Nat × Nat) → Int32 × Int32
  | [] => (0, 0)
  | a :: W => if pth σ a.1 a.2.1 = 0 then sE σ W else (tA σ 60 a.1, nI a.2.2)
def pick (p q : Int32 × Int32) : Int32 × Int32 := if p.1 = 0 then q else p
section SCAN
variable {C C' : PC} {D D' D2 : FQ} {M M' M2 : CM} {σ σ' σ2 : TS} {mss fss xs bs qs os : List Nat} {B l k n o m u w Q I I' L V V' Bm Bm' b v r R E E' cr i k0 fr : Nat} {P P' X T : Nat → Prop} {S S' : List Nat} {a : Nat × Nat × Nat} {W W1 W2 : List (Nat × Nat × Nat)} {x : Int64}
theorem AR.pos {N Q m ar nf : Nat} {fn : Nat → Nat} : ∀ {d s o n : Nat}, AR P N Q m ar nf fn M σ d s o n → P o ∧ 1 ≤ n
  | 0, _, _, _, h => absurd h (fun z => z)
  | d + 1, _, _, _, h => ⟨h.1.1, h.1.2.2.1.1⟩
theorem FW.p167 (W : FW C B P mss fss D M σ) (h : P o) : 167 ≤ o := (W.1.2.2.2.2.2.1.nx h).1.1
/-- what a row is, for a variable -/
theorem row_val (F : FiS C B P mss fss D M σ V I Bm cr R E) (hB : B ≤ 1280) (Rr : RoR C P D M σ I r a) (hr : r < R) : ∃ m, (mR M 2800 ((pl D 101).getD r 0) = m ∧ mk M m = 12 ∧ mR M 2802 ((pl D 101).getD r 0) = (pl D 99).getD a.2.2 0) ∧ ((vbad σ a ∧ ∃ d, K_X15_left ((pl D 101).getD r 0) M = some (nI d, M) ∧ d < 1000000 ∧ (0 < d ∨ (d = 0 ∧ ¬ mI M 2203 m < 0))) ∨ (¬ vbad σ a ∧ K_X15_left ((pl D 101).getD r 0) M = some (0, M) ∧ mI M 2203 m < 0 ∧ (mI M 2201 m = 0 ↔ pth σ a.1 a.2.1 = 0) ∧ mR M 2202 m ≠ 0 ∧ tA σ 60 a.1 ≠ 0 ∧ AxR C P D M σ I (mR M 2202 m) ((pl D 99).getD a.2.2 0) (tA σ 60 a.1) (nI a.2.2))) := by
  obtain ⟨⟨L, WN⟩, h1280, hQ⟩ := F.wn hB
  have kr := F.kr hr
  obtain ⟨m, ⟨e1, e2, e3⟩, ⟨⟨p1, km⟩, hm⟩, hk, hi, hu0, xs, L1, hu⟩ := Rr
  have hlen := L1.2.2.1
  refine ⟨m, ⟨e1, km, e3⟩, ?_⟩
  have left : K_X15_left ((pl D 101).getD r 0) M = some (nI (xs.length - a.2.1), M) := by
    unfold K_X15_left
    rw [ifT kr, e1, ifT km, ifT L1.1, ls_size L1, ob_some, ifT kr, e2, nI_sub hu]
  rcases hm with ⟨b1, b2, b, w1, w', b3, b4, b5, b6, b7, b8⟩ | ⟨b1, b2, bs, qs, e, d, b3, b4, b5, b6, b7, b8, b9⟩
  · have n62 : tA σ 62 a.1 ≠ 0 := by rw [b1]; decide
    have hx : xs = [b] := L1.uq b3.1
    exact Or.inl ⟨Or.inl n62, 1, by rw [left, hu0 n62, hx]; rfl, by decide, Or.inl (by decide)⟩
  · have hx : xs = bs := L1.uq b3.1
    subst hx
    have hqb : xs.length ≤ qs.length := by rcases b4.1 with ⟨_, q⟩ | ⟨_, q, _⟩ <;> omega
    have hp := pth_qs b4 hQ b6 a.2.1 (by omega)
    by_cases hlt : a.2.1 < xs.length
    · left
      obtain ⟨w1, c1, c2⟩ := b4.2.1 _ hlt
      obtain ⟨⟨d1, d2⟩, _⟩ := b4.2.2 a.2.1 (by omega)
      refine ⟨Or.inr ⟨by rw [hp, show (0 : Int32) = nI 0 from rfl, bI_lt (by decide) (by omega)]; omega, ?_⟩, xs.length - a.2.1, left, by omega, Or.inl (by omega)⟩
      rw [hp, ix_nI (by omega), c2]
      intro z
      have := (wc_key WN (by have := c1.2; omega) (j := 37) (by decide)).mp z
      have := c1.2
      omega
    · right
      have he : a.2.1 = xs.length := by omega
      obtain ⟨po, pn⟩ := b9.pos
      have n0 := F.1.p167 po
      have e60 : tA σ 60 a.1 ≠ 0 := by rw [b7, show (0 : Int32) = nI 0 from rfl]; exact fun z => by have := (bI_eq (by omega) (by decide)).mp z; omega
      refine ⟨fun z => ?_, by rw [left, he, Nat.sub_self]; rfl, by rw [b2]; decide, ?_, by omega, e60, Or.inr ⟨by omega, e, d, b7, pn, b8, b9, a.2.2, hi, rfl, rfl⟩⟩
      · rcases z with z | ⟨z1, z⟩
        · exact z b1
        · rw [hp, he] at z1 z
          rcases b4.1 with ⟨_, q⟩ | ⟨_, q, q2⟩
          · rw [getD_len0 (by omega)] at z1
            exact absurd z1 (by decide)
          · obtain ⟨⟨d1, d2⟩, _⟩ := b4.2.2 xs.length (by omega)
            rw [ix_nI (by omega), q2] at z
            exact z rfl
      · rw [hp, he]
        rcases b4.1 with ⟨q0, q⟩ | ⟨q0, q, q2⟩
        · rw [q0, getD_len0 (by omega)]
          exact ⟨fun _ => rfl, fun _ => rfl⟩
        · obtain ⟨⟨d1, d2⟩, _⟩ := b4.2.2 xs.length (by omega)
          rw [q0]
          refine ⟨fun z => absurd z (by decide), fun z => ?_⟩
          have := (bI_eq (a := qs.getD xs.length 0) (b := 0) (by omega) (by decide)).mp z
          omega
theorem k_scan {x1 x2 x4 : Nat} (hB : B ≤ 1280) (F : FiS C B P mss fss D M σ V I Bm cr R E) (hR : R < 33300) : ∀ (W : List (Nat × Nat × Nat)) (j f : Nat) (x5 x6 x7 x8 : Nat) (p q : Int32 × Int32), j + W.length = R → W.length < f → RsR C P D M σ I j W → AxR C P D M σ I x5 x6 p.1 p.2 → AxR C P D M σ I x7 x8 q.1 q.2 →
    (∃ a, a ∈ W ∧ vbad σ a) ∧ KL_X0_variables_21 f x1 x2 x4 x5 x6 x7 x8 (nI j) M = some (.inr (.inr (mn M)), wM M 21 0) ∨ (∀ a, a ∈ W → ¬ vbad σ a) ∧ ∃ y5 y6 y7 y8, KL_X0_variables_21 f x1 x2 x4 x5 x6 x7 x8 (nI j) M = some (.inl (y5, y6, y7, y8), M) ∧ AxR C P D M σ I y5 y6 (pick p (vE σ W)).1 (pick p (vE σ W)).2 ∧ AxR C P D M σ I y7 y8 (pick q (sE σ W)).1 (pick q (sE σ W)).2 := by
  have hW := F.1
  have hm := hW.rm
  have h167 := hW.n167
  obtain ⟨r1, r2⟩ := F.r18
  have ax0 : ∀ {a b : Nat} {p : Int32 × Int32}, AxR C P D M σ I a b p.1 p.2 → (a = 0 ↔ p.1 = 0) := fun h => by
    rcases h with ⟨h1, h2⟩ | ⟨h1, n, d, h2, h3, h4, _⟩
    · exact ⟨fun _ => h2, fun _ => h1⟩
    · refine ⟨fun z => absurd z h1, fun z => ?_⟩
      rw [h2] at z
      have := (bI_eq (b := 0) (by omega) (by decide)).mp z
      omega
  intro W
  induction W with
  | nil =>
    intro j f x5 x6 x7 x8 p q hj hf hr hp hq
    obtain ⟨f, rfl⟩ : ∃ g, f = g + 1 := ⟨f - 1, by omega⟩
    have hj : j = R := hj
    refine Or.inr ⟨fun a ha => absurd ha List.not_mem_nil, x5, x6, x7, x8, ?_, ?_, ?_⟩
    · rw [KL_X0_variables_21, r1, ifT ((bI_le (by omega) (by omega)).mpr (by omega))]
    · unfold pick
      by_cases z : p.1 = 0
      · rw [ifT z]; exact Or.inl ⟨(ax0 hp).mpr z, rfl⟩
      · rw [ifF z]; exact hp
    · unfold pick
      by_cases z : q.1 = 0
      · rw [ifT z]; exact Or.inl ⟨(ax0 hq).mpr z, rfl⟩
      · rw [ifF z]; exact hq
  | cons a W ih =>
    intro j f x5 x6 x7 x8 p q hj hf hr hp hq
    obtain ⟨f, rfl⟩ : ∃ g, f = g + 1 := ⟨f - 1, by omega⟩
    have hlen : (a :: W).length = W.length + 1 := rfl
    rw [hlen] at hj hf
    have r0 : RoR C P D M σ I j a := by have := hr 0 (by rw [hlen]; omega); exact this
    have hr' : RsR C P D M σ I (j + 1) W := fun c hc => by
      have := hr (c + 1) (by rw [hlen]; omega)
      rw [show j + (c + 1) = j + 1 + c by omega] at this
      exact this
    have kr := F.kr (r := j) (by omega)
    have get := ls_get (hW.2.1.1 101 (by decide)).1 (show j < (pl D 101).length by omega)
    have wr := k_wrong (M := M) (by omega) (by omega) 21 0
    obtain ⟨m, ⟨e1, km, e3⟩, hv⟩ := row_val F hB r0 (by omega)
    rw [KL_X0_variables_21, r1, ifF (fun z => by have := (bI_le (by omega) (by omega)).mp z; omega), get, ob_some, ifT (Or.inr kr), ifT kr]
    rcases hv with ⟨v1, d, v2, v3, v4⟩ | ⟨v1, v2, v3, v4, v5, v6, v7⟩
    · left
      refine ⟨⟨a, List.mem_cons_self, v1⟩, ?_⟩
      rw [v2, ob_some]
      rcases v4 with v4 | ⟨v4, v5⟩
      · rw [ifT (show (0 : Int32) < nI d from by rw [show (0 : Int32) = nI 0 from rfl, bI_lt (by decide) (by omega)]; exact v4), wr, ob_some, ifT (wM_k M 21 0)]
      · rw [v4, ifF (by decide), ifT kr, e1, ifT km, ifF v5, wr, ob_some, ifT (wM_k M 21 0)]
    · rw [v2, ob_some, ifF (by decide), ifT kr, e1, ifT km, ifT v3, ifT kr, ifT km]
      have nb : (∀ b, b ∈ W → ¬ vbad σ b) → ∀ b, b ∈ a :: W → ¬ vbad σ b := fun h b hb => by
        rcases List.mem_cons.mp hb with g | g
        · rw [g]; exact v1
        · exact h b g
      have fin : ∀ (x5 x6 x7 x8 : Nat) (p' q' : Int32 × Int32), AxR C P D M σ I x5 x6 p'.1 p'.2 → AxR C P D M σ I x7 x8 q'.1 q'.2 → pick p' (vE σ W) = pick p (vE σ (a :: W)) → pick q' (sE σ W) = pick q (sE σ (a :: W)) → (∃ b, b ∈ a :: W ∧ vbad σ b) ∧ KL_X0_variables_21 f x1 x2 x4 x5 x6 x7 x8 (nI (j + 1)) M = some (.inr (.inr (mn M)), wM M 21 0) ∨ (∀ b, b ∈ a :: W → ¬ vbad σ b) ∧ ∃ y5 y6 y7 y8, KL_X0_variables_21 f x1 x2 x4 x5 x6 x7 x8 (nI (j + 1)) M = some (.inl (y5, y6, y7, y8), M) ∧ AxR C P D M σ I y5 y6 (pick p (vE σ (a :: W))).1 (pick p (vE σ (a :: W))).2 ∧ AxR C P D M σ I y7 y8 (pick q (sE σ (a :: W))).1 (pick q (sE σ (a :: W))).2 := fun x5 x6 x7 x8 p' q' h1 h2 h3 h4 => by
        rcases ih (j + 1) f x5 x6 x7 x8 p' q' (by omega) (by omega) hr' h1 h2 with ⟨⟨b, b1, b2⟩, g⟩ | ⟨g1, y5, y6, y7, y8, g2, g3, g4⟩
        · exact Or.inl ⟨⟨b, List.mem_cons_of_mem _ b1, b2⟩, g⟩
        · rw [h3] at g3
          rw [h4] at g4
          exact Or.inr ⟨nb g1, y5, y6, y7, y8, g2, g3, g4⟩
      have hJ : KJ_X0_variables_106_21 (KL_X0_variables_21 f) x1 x2 x4 x5 x6 x7 x8 (nI j) ((pl D 101).getD j 0) M = if mI M 2201 m = 0 then if x5 = 0 then KL_X0_variables_21 f x1 x2 x4 (mR M 2202 m) ((pl D 99).getD a.2.2 0) x7 x8 (nI (j + 1)) M else KL_X0_variables_21 f x1 x2 x4 x5 x6 x7 x8 (nI (j + 1)) M else KL_X0_variables_21 f x1 x2 x4 x5 x6 x7 x8 (nI (j + 1)) M := by
        unfold KJ_X0_variables_106_21
        rw [ifT kr, e1, ifT km, e3, nI_addL]
        simp only [nm_eq, kr, km, if_true]
      have pv0 : pth σ a.1 a.2.1 = 0 → vE σ (a :: W) = (tA σ 60 a.1, nI a.2.2) ∧ sE σ (a :: W) = sE σ W := fun z => ⟨ifT z, ifT z⟩
      have pv1 : ¬ pth σ a.1 a.2.1 = 0 → vE σ (a :: W) = vE σ W ∧ sE σ (a :: W) = (tA σ 60 a.1, nI a.2.2) := fun z => ⟨ifF z, ifF z⟩
      have pkk : ∀ (p y : Int32 × Int32), p.1 ≠ 0 → pick p y = p := fun p y h => ifF h
      have pk0 : ∀ (p y : Int32 × Int32), p.1 = 0 → pick p y = y := fun p y h => ifT h
      by_cases z : mI M 2201 m = 0
      · have zp := v4.mp z
        obtain ⟨z1, z2⟩ := pv0 zp
        rw [ifT z, hJ, ifT z]
        by_cases y : x5 = 0
        · have p0 := (ax0 hp).mp y
          rw [ifT y]
          exact fin _ _ _ _ (tA σ 60 a.1, nI a.2.2) q v7 hq (by rw [z1, pk0 p _ p0, pkk _ _ v6]) (by rw [z2])
        · have p0 : p.1 ≠ 0 := fun g => y ((ax0 hp).mpr g)
          rw [ifF y]
          exact fin _ _ _ _ p q hp hq (by rw [pkk p _ p0, pkk p _ p0]) (by rw [z2])
      · have zp : ¬ pth σ a.1 a.2.1 = 0 := fun g => z (v4.mpr g)
        obtain ⟨z1, z2⟩ := pv1 zp
        rw [ifF z]
        by_cases y : x7 = 0
        · have q0 := (ax0 hq).mp y
          rw [ifT y, ifT kr, ifT km, nm_eq, ifT kr, e3, nI_addL, nm_eq, nm_eq]
          exact fin _ _ _ _ p (tA σ 60 a.1, nI a.2.2) hp v7 (by rw [z1]) (by rw [z2, pk0 q _ q0, pkk _ _ v6])
        · have q0 : q.1 ≠ 0 := fun g => y ((ax0 hq).mpr g)
          rw [ifF y, hJ, ifF z]
          exact fin _ _ _ _ p q hp hq (by rw [z1]) (by rw [pkk q _ q0, pkk q _ q0])
end SCAN
