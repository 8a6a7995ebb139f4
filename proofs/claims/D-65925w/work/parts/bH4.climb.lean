/-! Layer B: the flat model: the inner member of an outer one -/
set_option maxRecDepth 100000
/-- what the twin says of a member that was found -/
def chk (σ : TS) (e e' c : Nat) : Option ((Unit ⊕ Int32) × TS) := if tB σ 51 e' = tB σ 51 e ∧ (tB σ 51 e = 0 → tA σ 54 e' = tA σ 54 e) then some (.inr (nI c), σ) else some (.inr (-1), badT σ 22)
section CLIMB
variable {C C' : PC} {D D' D1 D2 : FQ} {M M' M1 M2 : CM} {σ σ' σ0 σ1 σ2 σ4 s : TS} {mss fss xs bs qs os es : List Nat} {B l k n o m u w Q I I' L V V' Bm Bm' b c v r R R' E E' E0 cr i e eo ec fl z mo mc : Nat} {P P' X T : Nat → Prop} {S S' O : List Nat} {x : Int64} {x1 : Int32} {z7 z7' : Nat → Nat}
theorem FW.wn (W : FW C B P mss fss D M σ) (hB : B ≤ 1280) : (∃ L, WN M (cm C) L) ∧ cm C ≤ 1280 ∧ tQ σ ≤ 7000 := by
  obtain ⟨⟨K0, hW, -⟩, ⟨-, -, -, c4⟩, -, -, -, -, -, -, -, -, Q, q1, q2, q3⟩ := W.1
  exact ⟨hW, by omega, by unfold tQ; rw [q1, ix_nI (by omega)]; omega⟩
theorem FW.e480 (W : FW C B P mss fss D M σ) {x : Nat} (hx : x < ix (tI σ 58)) : x < 480 := by
  obtain ⟨E0, e1, e2⟩ := W.1.2.2.2.2.2.2.1
  have h24 := W.1.2.2.2.2.1.1.1
  rw [e1, ix_nI (by omega)] at hx
  omega
/-- a member by its name, both sides -/
theorem z_mem (hB1 : B ≤ 1280) (W : FW C B P mss fss D M σ) (N : FInZ z7 C P D mss M σ V I Bm) (hI : I ≤ 200) (hBm : Bm ≤ 20000) (hn : n < I) (hw : w < 38 + cm C) : (∃ b, b < Bm ∧ tA σ 83 b = nI n ∧ K_X14_member ((pl D 99).getD n 0) (nI w) M = some ((pl D 100).getD b 0, M) ∧ F_memberOf (nI n) (wc M w) σ = some (nI b, σ)) ∨ (K_X14_member ((pl D 99).getD n 0) (nI w) M = some (0, M) ∧ F_memberOf (nI n) (wc M w) σ = some (-1, σ)) := by
  obtain ⟨⟨L, WN0⟩, h1280, hQ⟩ := W.wn hB1
  obtain ⟨N1, N2, N3, N4⟩ := N
  obtain ⟨a1, a2, a3, bs, b1, b2, b3, b4, b5, b6⟩ := N2 n hn
  have kio : mk M ((pl D 99).getD n 0) = 14 := (W.2.1.2.1 99 (by decide) n (by omega)).1
  have hbe : ∀ b, b ∈ bs → mk M ((pl D 100).getD b 0) = 16 ∧ b < 96001 ∧ ∃ e wb, tA σ 84 b = nI e ∧ e < 481 ∧ mI M 3000 ((pl D 100).getD b 0) = nI wb ∧ wb < 38 + cm C ∧ tB σ 50 e = wc M wb := fun b hb => by
    obtain ⟨n, e, eo, w, -, ⟨q1, q2, -⟩, -, ⟨q3, q4, q5, q6⟩, -⟩ := N3 b (b2 b hb).1
    exact ⟨(W.2.1.2.1 100 (by decide) b (by have := (b2 b hb).1; omega)).1, by have := (b2 b hb).1; omega, e, w, q1, by have := W.e480 q2; omega, q3, q5, q6⟩
  rcases z_member (σ := σ) (C := C) (w := w) (n := n) (mo := fun b => (pl D 100).getD b 0) kio rfl b1 (by omega) b3 hbe b4 WN0 h1280 hw with ⟨b, q1, q2, q3, q4⟩ | ⟨q1, q3, q4⟩
  · exact Or.inl ⟨b, (b2 b q1).1, (b2 b q1).2, q3, q4⟩
  · exact Or.inr ⟨q3, q4⟩
theorem z_climb (hB1 : B ≤ 1280) (W : FW C B P mss fss D M σ) (N : FInZ z7 C P D mss M σ V I Bm) (hI : I ≤ 200) (hBm : Bm ≤ 20000) (hmo : mk M mo = 16 ∧ mI M 3000 mo = nI w ∧ w < 38 + cm C) (he : tB σ 50 e = wc M w ∧ e < 480) (h0 : tI σ 0 = 0) : ∀ (q f g : Nat), q < I → q + 1 < f → q + 1 < g → (∃ c e', c < Bm ∧ tA σ 84 c = nI e' ∧ e' < ix (tI σ 58) ∧ ¬ tA σ 52 e' &&& 8 = 0 ∧ KL_X0_findOuters_36 f x1 mo ((pl D 99).getD q 0) 0 M = some ((pl D 100).getD c 0, M) ∧ L_innerOf_19 g (nI e) (nI q) σ = chk σ e e' c) ∨ (KL_X0_findOuters_36 f x1 mo ((pl D 99).getD q 0) 0 M = some (0, M) ∧ L_innerOf_19 g (nI e) (nI q) σ = some (.inl (), σ)) := by
  intro q
  induction q using Nat.strongRecOn with
  | ind q ih =>
    intro f g hq hf hg
    obtain ⟨f, rfl⟩ : ∃ n, f = n + 1 := ⟨f - 1, by omega⟩
    obtain ⟨g, rfl⟩ : ∃ n, g = n + 1 := ⟨g - 1, by omega⟩
    obtain ⟨i1, i2, i3⟩ := W.2.1.2.1 99 (by decide) q (by have := N.1.2.1; omega)
    have i1 : mk M ((pl D 99).getD q 0) = 14 := i1
    have n0 : ¬ (pl D 99).getD q 0 = 0 := by have := i2.1; omega
    have ie : inb (nI e) 481 := inb_nI' (by omega) (by decide)
    have xe : ix (nI e) = e := ix_nI (by omega)
    have iq : inb (nI q) 200 := inb_nI' (by omega) (by decide)
    have xq : ix (nI q) = q := ix_nI (by omega)
    have nq : ¬ nI q < 0 := by rw [nI_ltL (by omega) (by decide)]; exact Nat.not_lt_zero _
    -- the parent
    have up : (∃ c e', c < Bm ∧ tA σ 84 c = nI e' ∧ e' < ix (tI σ 58) ∧ ¬ tA σ 52 e' &&& 8 = 0 ∧ KL_X0_findOuters_36 f x1 mo (mR M 2601 ((pl D 99).getD q 0)) 0 M = some ((pl D 100).getD c 0, M) ∧ L_innerOf_19 g (nI e) (tA σ 75 q) σ = chk σ e e' c) ∨ (KL_X0_findOuters_36 f x1 mo (mR M 2601 ((pl D 99).getD q 0)) 0 M = some (0, M) ∧ L_innerOf_19 g (nI e) (tA σ 75 q) σ = some (.inl (), σ)) := by
      obtain ⟨-, g2, -⟩ := N.2.1 q hq
      rcases g2 with ⟨g3, g4, g5⟩ | ⟨g3, p, b', e', ⟨g4, g5, g6⟩, -⟩
      · right
        obtain ⟨f, rfl⟩ : ∃ n, f = n + 1 := ⟨f - 1, by omega⟩
        obtain ⟨g, rfl⟩ : ∃ n, g = n + 1 := ⟨g - 1, by omega⟩
        rw [g4, g5]
        exact ⟨by rw [KL_X0_findOuters_36, ifT (rfl : (0 : Nat) = 0)], by rw [L_innerOf_19, ifT (by decide)]⟩
      · rw [g5, g6]
        exact ih p g4 f g (by omega) (by omega) (by omega)
    have kh : ∀ r, K_X14_member ((pl D 99).getD q 0) (nI w) M = some (r, M) → KL_X0_findOuters_36 (f + 1) x1 mo ((pl D 99).getD q 0) 0 M = if r = 0 then KL_X0_findOuters_36 f x1 mo (mR M 2601 ((pl D 99).getD q 0)) 0 M else if mk M r = 16 then if mk M (mR M 3003 r) = 11 then ob (K_X11_is (mR M 3003 r) 8 M) fun r24 M23 => if r24 = 0 then if mk M23 ((pl D 99).getD q 0) = 14 then nm (mR M23 2601 ((pl D 99).getD q 0)) fun v28 => KL_X0_findOuters_36 f x1 mo v28 0 M23 else none else if mk M23 ((pl D 99).getD q 0) = 14 then nm (mR M23 2601 ((pl D 99).getD q 0)) fun v30 => KL_X0_findOuters_36 f x1 mo v30 r M23 else none else none else none := fun r hr => by
      rw [KL_X0_findOuters_36, ifF n0, ifT (rfl : (0 : Nat) = 0), ifT hmo.1, ifT i1, hmo.2.1, hr, ob_some]
      by_cases y : r = 0
      · rw [ifT y, ifT y, ifT i1, nm_eq]
      · rw [ifF y, ifF y]
    rcases z_mem hB1 W N hI hBm hq hmo.2.2 with ⟨b, b1, b2, b3, b4⟩ | ⟨b3, b4⟩
    · obtain ⟨m1, m2, m3⟩ := W.2.1.2.1 100 (by decide) b (by have := N.1.2.2; omega)
      have m1 : mk M ((pl D 100).getD b 0) = 16 := m1
      have mn0 : ¬ (pl D 100).getD b 0 = 0 := by have := m2.1; omega
      obtain ⟨nb, e', eo', w', -, ⟨d1, d2, d3⟩, ⟨d4, d5⟩, -⟩ := N.2.2.1 b b1
      obtain ⟨w2, z2, fl, hv, -⟩ := d5.own d3
      have e480 := W.e480 d2
      have ie' : inb (nI e') 481 := inb_nI' (by omega) (by decide)
      have xe' : ix (nI e') = e' := ix_nI (by omega)
      have ib : inb (nI b) 96001 := inb_nI' (by omega) (by decide)
      have xb : ix (nI b) = b := ix_nI (by omega)
      have nb0 : ¬ nI b < 0 := by rw [nI_ltL (by omega) (by decide)]; exact Nat.not_lt_zero _
      have f52 := hv.2.2.2.2.1
      have is8 : K_X11_is eo' 8 M = some (if ¬ nI fl &&& 8 = 0 then 1 else 0, M) := is_bit (c := ¬ nI fl &&& 8 = 0) hv.2.1 (by rw [f52.2.1]; exact (bit_par fl f52.1).2.2.2.1)
      rw [kh _ b3, ifF mn0, ifT m1, d4, ifT hv.2.1, is8, ob_some]
      rw [L_innerOf_19, ifF nq, ifT ie, xe, he.1, b4, ob_some, ifF nb0, ifT ib, xb, d1, ifT ie', xe', f52.2.2]
      by_cases y : nI fl &&& 8 = 0
      · rw [ifF (show ¬ ¬ nI fl &&& 8 = 0 from fun z => z y), ifT (rfl : (0 : Int32) = 0), ifT i1, nm_eq, ifT y, ifT iq, xq, nm_eq]
        exact up
      · left
        rw [ifT y, ifF (show ¬ (1 : Int32) = 0 by decide), ifT i1, nm_eq, ifF y, ifT ib, nm_eq, ifT ie', ifT ie, xe']
        refine ⟨b, e', b1, d1, d2, by rw [f52.2.2]; exact y, ?_, ?_⟩
        · obtain ⟨f, rfl⟩ : ∃ n, f = n + 1 := ⟨f - 1, by omega⟩
          rw [KL_X0_findOuters_36]
          by_cases y2 : mR M 2601 ((pl D 99).getD q 0) = 0
          · rw [ifT y2]
          · rw [ifF y2, ifF mn0]
        · unfold chk
          have one : ¬ (1 : Int32) = 0 := by decide
          by_cases t1 : tB σ 51 e' = tB σ 51 e
          · rw [ifT (lg_eq.mpr t1), ifT ie]
            by_cases t2 : tB σ 51 e = 0
            · rw [ifT (lg_eq.mpr t2), ifT ie', ifT ie]
              by_cases t3 : tA σ 54 e' = tA σ 54 e
              · rw [ifT t3, ifF one, ifT ⟨t1, fun _ => t3⟩]
              · rw [ifF t3, ifT (rfl : (0 : Int32) = 0), t_badT h0, ob_some, ifF (fun z => t3 (z.2 t2))]
            · rw [ifF (fun z => t2 (lg_eq.mp z)), ifF one, ifT ⟨t1, fun z => absurd z t2⟩]
          · rw [ifF (fun z => t1 (lg_eq.mp z)), ifT (rfl : (0 : Int32) = 0), t_badT h0, ob_some, ifF (fun z => t1 z.1)]
    · rw [kh _ b3, ifT rfl]
      have tn : L_innerOf_19 (g + 1) (nI e) (nI q) σ = L_innerOf_19 g (nI e) (tA σ 75 q) σ := by
        rw [L_innerOf_19, ifF nq, ifT ie, xe, he.1, b4, ob_some, ifT (by decide), ifT iq, xq, nm_eq]
      rw [tn]
      exact up
/-- exponents are compared -/
theorem k_units {y0 : Int32} (hm : mk M mo = 16 ∧ mR M 3003 mo = eo ∧ mk M eo = 11 ∧ mk M (mR M 2005 eo) = 50 ∧ ml M (mR M 2005 eo) = 3) (hc : mk M mc = 16 ∧ mR M 3003 mc = ec ∧ mk M ec = 11 ∧ mk M (mR M 2005 ec) = 50 ∧ ml M (mR M 2005 ec) = 3) : ∀ (d j f : Nat) (y : Int32), j + d = 3 → d < f → (y = 0 ∨ y = 1) → ∃ r, KL_X0_findOuters_129 f x1 mo mc y (nI j) M = some (r, M) ∧ (r = 0 ∨ r = 1) ∧ (r = 1 ↔ y = 1 ∧ ∀ k, j ≤ k → k < 3 → mA M (mR M 2005 ec) k = mA M (mR M 2005 eo) k) := by
  intro d
  induction d with
  | zero =>
    intro j f y hj hf hy
    obtain ⟨f, rfl⟩ : ∃ n, f = n + 1 := ⟨f - 1, by omega⟩
    refine ⟨y, ?_, hy, ⟨fun z => ⟨z, fun k h1 h2 => by omega⟩, fun z => z.1⟩⟩
    rw [KL_X0_findOuters_129, ifT (show (3 : Int32) ≤ nI j from by rw [show j = 3 by omega]; decide)]
  | succ d ih =>
    intro j f y hj hf hy
    obtain ⟨f, rfl⟩ : ∃ n, f = n + 1 := ⟨f - 1, by omega⟩
    have i3 : inb (nI j) 3 := inb_nI' (by omega) (by decide)
    have xj : ix (nI j) = j := ix_nI (by omega)
    have c3 : ¬ (3 : Int32) ≤ nI j := by rw [show (3 : Int32) = nI 3 from rfl, bI_le (by decide) (by omega)]; omega
    have and1 : ∀ y : Int32, (y = 0 ∨ y = 1) → y &&& 1 = y ∧ y &&& 0 = 0 := fun y h => by rcases h with rfl | rfl <;> decide
    rw [KL_X0_findOuters_129, ifF c3, ifT hc.1, hc.2.1, ifT hc.2.2.1, ifT ⟨hc.2.2.2.1, by rw [hc.2.2.2.2]; exact i3⟩, ifT hm.1, hm.2.1, ifT hm.2.2.1, ifT ⟨hm.2.2.2.1, by rw [hm.2.2.2.2]; exact i3⟩, xj, (and1 y hy).1, (and1 y hy).2]
    by_cases q : mA M (mR M 2005 ec) j = mA M (mR M 2005 eo) j
    · obtain ⟨r, r1, r2, r3⟩ := ih (j + 1) f y (by omega) (by omega) hy
      refine ⟨r, by rw [ifT q, nm_eq, nI_addL, nm_eq]; exact r1, r2, r3.trans ⟨fun z => ⟨z.1, fun k h1 h2 => ?_⟩, fun z => ⟨z.1, fun k h1 h2 => z.2 k (by omega) h2⟩⟩⟩
      by_cases h : k = j
      · rw [h]; exact q
      · exact z.2 k (by omega) h2
    · obtain ⟨r, r1, r2, r3⟩ := ih (j + 1) f 0 (by omega) (by omega) (Or.inl rfl)
      refine ⟨r, by rw [ifF q, nm_eq, nI_addL, nm_eq]; exact r1, r2, r3.trans ⟨fun z => absurd z.1 (by decide), fun z => absurd (z.2 j (Nat.le_refl _) (by omega)) q⟩⟩
theorem un_eq {a a' : Nat} (h : UnR M σ a e) (h' : UnR M σ a' ec) : tA σ 54 ec = tA σ 54 e ↔ ∀ k, 0 ≤ k → k < 3 → mA M a' k = mA M a k := by
  obtain ⟨-, -, v, v1, v2⟩ := h
  obtain ⟨-, -, v', v1', v2'⟩ := h'
  have b0 := v1 0 (by decide)
  have b1 := v1 1 (by decide)
  have b2 := v1 2 (by decide)
  have c0 := v1' 0 (by decide)
  have c1 := v1' 1 (by decide)
  have c2 := v1' 2 (by decide)
  have num : ∀ p, p < 16 → ∀ q, q < 16 → (nI p - 8 = nI q - 8 ↔ p = q) := by decide +kernel
  have all : (∀ k, 0 ≤ k → k < 3 → mA M a' k = mA M a k) ↔ v' 0 = v 0 ∧ v' 1 = v 1 ∧ v' 2 = v 2 := by
    constructor
    · intro z
      have z0 := z 0 (Nat.zero_le _) (by decide)
      have z1 := z 1 (Nat.zero_le _) (by decide)
      have z2 := z 2 (Nat.zero_le _) (by decide)
      rw [b0.1, c0.1] at z0
      rw [b1.1, c1.1] at z1
      rw [b2.1, c2.1] at z2
      exact ⟨(num _ (by omega) _ (by omega)).mp z0, (num _ (by omega) _ (by omega)).mp z1, (num _ (by omega) _ (by omega)).mp z2⟩
    · rintro ⟨z0, z1, z2⟩ k _ hk
      have : k = 0 ∨ k = 1 ∨ k = 2 := by omega
      rcases this with rfl | rfl | rfl
      · rw [b0.1, c0.1, z0]
      · rw [b1.1, c1.1, z1]
      · rw [b2.1, c2.1, z2]
  rw [all, v2, v2']
  by_cases y : v 0 = 8 ∧ v 1 = 8 ∧ v 2 = 8
  · rw [ifT y]
    by_cases y' : v' 0 = 8 ∧ v' 1 = 8 ∧ v' 2 = 8
    · rw [ifT y']; exact ⟨fun _ => by omega, fun _ => rfl⟩
    · rw [ifF y']
      refine ⟨fun z => ?_, fun z => absurd (by omega) y'⟩
      rw [show (0 : Int32) = nI 0 from rfl, bI_eq (by omega) (by decide)] at z
      omega
  · rw [ifF y]
    by_cases y' : v' 0 = 8 ∧ v' 1 = 8 ∧ v' 2 = 8
    · rw [ifT y']
      refine ⟨fun z => ?_, fun z => absurd (by omega) y⟩
      rw [show (0 : Int32) = nI 0 from rfl, bI_eq (by decide) (by omega)] at z
      omega
    · rw [ifF y', bI_eq (by omega) (by omega)]
      omega
end CLIMB
