/-! Layer B: running: elimination, both sides: the pivot, the change of rows -/
set_option maxRecDepth 100000
def ksz (x : Int32) : Int32 := if 0 ≤ x then x else -x
/-- the matrix of n rows and n + 1 columns -/
def MxR (n : Nat) (M : CM) (σ : TS) : Prop := n ≤ 24 ∧ ∀ i j, i < n → j ≤ n → mA M 149 (25 * i + j) = tA σ 225 (181 * i + j) ∧ (j < n → -2147483647 ≤ (mA M 149 (25 * i + j)).toInt)
/-- what elimination needs -/
def ElB (V : Nat) (D : FQ) (M : CM) (σ : TS) : Prop := (tI σ 0 = 0 ∧ tI σ 171 = nI 0 ∧ mI M 90 1 = tI σ 222) ∧ ((mn M ≤ 601024 ∧ ms M + 8 ≤ 7293034) ∧ mn M ≠ 0) ∧ 167 ≤ mn M ∧ ∀ v, v < V → (pl D 98).getD v 0 < mn M
abbrev elT : List Nat := [0, 1, 170, 171, 225, 226]
section ELIM
variable {α β : Type} {V n c b r k m i j kf tf : Nat} {D : FQ} {M M' M1 : CM} {σ σ' s : TS} {I A T : List Nat} {x y : Int32}
theorem in25 (hi : i < 24) (hj : j ≤ 24) : inb (nI (25 * i + j)) 625 := inb_nI' (by omega) (by decide)
theorem in181 (hi : i < 24) (hj : j ≤ 24) : inb (nI (181 * i + j)) 32580 := inb_nI' (by omega) (by decide)
theorem m25 (i j : Nat) : (25 : Int32) * nI i + nI j = nI (25 * i + j) := by rw [show (25 : Int32) = nI 25 from rfl, nI_mul, bI_add]
theorem m181 (i j : Nat) : nI i * (181 : Int32) + nI j = nI (181 * i + j) := by rw [show (181 : Int32) = nI 181 from rfl, nI_mul, bI_add, Nat.mul_comm]
theorem x25 (hi : i < 24) (hj : j ≤ 24) : ix (nI (25 * i + j)) = 25 * i + j := ix_nI (by omega)
theorem x181 (hi : i < 24) (hj : j ≤ 24) : ix (nI (181 * i + j)) = 181 * i + j := ix_nI (by omega)
theorem ElB.mv (h : ElB V D M σ) (k : KF D [] [] [149, 150] [] M M') (f : Ft [170, 171, 225, 226] σ σ') (h1 : tI σ' 171 = nI 0) : ElB V D M' σ' := by
  obtain ⟨⟨a1, a2, a3⟩, ⟨⟨b1, b2⟩, b3⟩, c1, c2⟩ := h
  exact ⟨⟨(f 0 rfl).1.trans a1, h1, by rw [k.i rfl, (f 222 rfl).1]; exact a3⟩, ⟨⟨by rw [k.n]; exact b1, by rw [k.2.2.2.2.2.2.2.2]; exact b2⟩, by rw [k.n]; exact b3⟩, by rw [k.n]; exact c1, fun v hv => by rw [k.n]; exact c2 v hv⟩
theorem NvO.eb {R : α → β → Prop} {pq : Bool} {k2 : Option ((α ⊕ Nat) × CM)} {t2 : Option (β × TS)} (h : NvO M σ R k2 t2) (e : ElB V D M σ) (hT : [0, 1, 170, 171].all T.contains = true) : RsO pq (fun w => (.inr w : α ⊕ Nat)) I A T 1 V D M σ (fun a b M' σ' => M' = M ∧ Ft [170, 171] σ σ' ∧ tI σ' 171 = nI 0 ∧ ∃ v, a = .inl v ∧ R v b) k2 t2 := h.fo hT e.1.2.2 e.2.2.1 e.2.2.2
theorem FoR.eb {pq : Bool} (e : ElB V D M σ) (r : Int32) (hr : r ≠ 0) (hT : T.contains 0 = true ∧ T.contains 1 = true) : FoR pq I A T 1 V D M σ (wM M r 0) (badT σ r) (mn M) := by
  obtain ⟨⟨-, e2, e3⟩, -, e4, e5⟩ := e
  refine ⟨1, r, ⟨Nat.le_refl _, M, r, 0, KF.rf, KF.rf⟩, ⟨Nat.lt_succ_self _, wM_k M r 0, (wM_v M r 0).1⟩, hr, ⟨rfl, fun _ => (wM_v M r 0).2⟩, badT_f.mono (by simp only [List.all_cons, List.all_nil, hT.1, hT.2]; rfl), ⟨e2, ?_⟩, fun v hv z => ?_⟩
  · exact (((wM_f M r 0).so (show 1 < mn M by omega) (fun q => q)).i 90).trans e3
  · exact ((wM_f M r 0).so (e5 v hv) (fun q => q)).i 3213
theorem n_inr {x : Int64} (hc : mn M ≤ 601024 ∧ ms M + 8 ≤ 7293034) (hn : mn M ≠ 0) (h0 : tI σ 0 = 0) (h171 : tI σ 171 = nI 0) : NvO M σ (fun v w => v = w ∧ -2147483647 ≤ v.toInt) (K_X19_in x M) (F_fit x σ) := by
  unfold K_X19_in F_fit
  by_cases q : 0 < lg_cmp x 2147483647
  · rw [ifT q, ifT q, k_wrong hc hn, ob_some, ifT (wM_k M 41 0), t_badT h0, ob_some]
    exact Or.inl ⟨41, 0, _, by decide, rfl, rfl, ⟨rfl, rfl, h171⟩, badT_f.mono (by decide)⟩
  · rw [ifF q, ifF q]
    by_cases q2 : 0 ≤ lg_cmp x (-2147483647)
    · rw [ifT q2, ifT q2]
      refine Or.inr ⟨_, _, σ, ⟨rfl, ?_⟩, rfl, rfl, h171, Ft.rf _ σ⟩
      rw [lg_gt] at q
      rw [lg_ge] at q2
      have q : ¬ (2147483647 : Int) < x.toInt := fun z => q (Int64.lt_iff_toInt_lt.mpr z)
      have q2 : ¬ x.toInt < (-2147483647 : Int) := fun z => q2 (Int64.lt_iff_toInt_lt.mpr z)
      rw [Int64.toInt_toInt32, Int.bmod_eq_of_le] <;> omega
    · rw [ifF q2, ifF q2, k_wrong hc hn, ob_some, ifT (wM_k M 41 0), t_badT h0, ob_some]
      exact Or.inl ⟨41, 0, _, by decide, rfl, rfl, ⟨rfl, rfl, h171⟩, badT_f.mono (by decide)⟩
theorem k_size (x : Int32) (M : CM) : K_X0_size x M = some (ksz x, M) := by
  unfold K_X0_size ksz
  by_cases q : 0 ≤ x
  · rw [ifT q, ifT q]
  · rw [ifF q, ifF q]
theorem ksz_i (h : -2147483647 ≤ x.toInt) : (ksz x).toInt = if 0 ≤ x.toInt then x.toInt else -x.toInt := by
  have h2 := Int32.toInt_lt x
  unfold ksz
  by_cases q : 0 ≤ x
  · have := Int32.le_iff_toInt_le.mp q
    have z : (0 : Int32).toInt = 0 := rfl
    rw [ifT q, if_pos (by omega)]
  · have q' : ¬ 0 ≤ x.toInt := fun z => q (Int32.le_iff_toInt_le.mpr z)
    rw [ifF q, if_neg q', Int32.toInt_neg, Int.bmod_eq_of_le] <;> omega
theorem mabs_i (x : Int32) : (mabsL x.toInt64).toInt = if 0 ≤ x.toInt then x.toInt else -x.toInt := by
  have h1 := Int32.toInt_lt x
  have h2 := Int32.le_toInt x
  unfold mabsL
  have e : x.toInt64.toInt = x.toInt := Int32.toInt_toInt64 x
  by_cases q : 0 < x.toInt64
  · have := Int64.lt_iff_toInt_lt.mp q
    have z : (0 : Int64).toInt = 0 := rfl
    rw [ifT q, e, if_pos (by omega)]
  · have q' : ¬ 0 < x.toInt := fun z => q (Int64.lt_iff_toInt_lt.mpr (by rw [e]; exact z))
    rw [ifF q, Int64.toInt_neg, e, Int.bmod_eq_of_le (by omega) (by omega)]
    by_cases z : x.toInt = 0
    · rw [if_pos (by omega)]; omega
    · rw [if_neg (by omega)]
theorem abs_eq (hx : -2147483647 ≤ x.toInt) (hy : -2147483647 ≤ y.toInt) : ksz x ≤ ksz y ↔ lg_cmp (mabsL x.toInt64) (mabsL y.toInt64) ≤ 0 := by
  rw [lg_le, Int32.le_iff_toInt_le, Int64.lt_iff_toInt_lt, ksz_i hx, ksz_i hy, mabs_i, mabs_i]
  omega
/-- the pivot -/
theorem el_best (h : MxR n M σ) (hc : c < n) : ∀ (m r b kf tf : Nat), r + m = n → b < n → m < kf → m < tf → ∃ b', b' < n ∧ KL_X0_eliminate_14 kf (nI n) (nI c) (nI b) (nI r) M = some (nI b', M) ∧ L_eliminate_21 tf (nI n) (nI c) (nI b) (nI r) σ = some (nI b', σ) := by
  have n24 := h.1
  intro m
  induction m with
  | zero =>
    intro r b kf tf e hb hk ht
    obtain ⟨kf, rfl⟩ : ∃ g, kf = g + 1 := ⟨kf - 1, by omega⟩
    obtain ⟨tf, rfl⟩ : ∃ g, tf = g + 1 := ⟨tf - 1, by omega⟩
    have t : nI n ≤ nI r := (bI_le (by omega) (by omega)).mpr (by omega)
    exact ⟨b, hb, by rw [KL_X0_eliminate_14, ifT t], by rw [L_eliminate_21, ifT t]⟩
  | succ m ih =>
    intro r b kf tf e hb hk ht
    obtain ⟨kf, rfl⟩ : ∃ g, kf = g + 1 := ⟨kf - 1, by omega⟩
    obtain ⟨tf, rfl⟩ : ∃ g, tf = g + 1 := ⟨tf - 1, by omega⟩
    have t : ¬ nI n ≤ nI r := fun z => by have := (bI_le (by omega) (by omega)).mp z; omega
    obtain ⟨a1, a2⟩ := h.2 r c (by omega) (by omega)
    obtain ⟨b1, b2⟩ := h.2 b c hb (by omega)
    have r24 : r < 24 := by omega
    have b24 : b < 24 := by omega
    have c24 : c ≤ 24 := by omega
    have q := abs_eq (a2 hc) (b2 hc)
    have e1 : nI r + 1 = nI (r + 1) := by rw [show (1 : Int32) = nI 1 from rfl, bI_add]
    rw [KL_X0_eliminate_14, ifF t, L_eliminate_21, ifF t, m25, m25, m181, m181, ifT (in25 r24 c24), ifT (in181 r24 c24), ifT (in181 b24 c24), x25 r24 c24, x181 r24 c24, x181 b24 c24, k_size, ob_some, ifT (in25 b24 c24), x25 b24 c24, k_size, ob_some, ← a1, ← b1, nm_eq, nm_eq, nm_eq, nm_eq, e1]
    by_cases z : ksz (mA M 149 (25 * r + c)) ≤ ksz (mA M 149 (25 * b + c))
    · rw [ifT z, ifT (q.mp z)]
      exact ih (r + 1) b kf tf (by omega) hb (by omega) (by omega)
    · rw [ifF z, ifF (fun y => z (q.mpr y))]
      exact ih (r + 1) r kf tf (by omega) (by omega) (by omega) (by omega)
/-- an entry is written, both sides -/
theorem MxR.w (h : MxR n M σ) (hi : i < n) (hj : j ≤ n) (hx : j < n → -2147483647 ≤ x.toInt) : MxR n (mwA M 149 (25 * i + j) x) (tsA σ 225 (181 * i + j) x) := by
  have n24 := h.1
  refine ⟨n24, fun i' j' h1 h2 => ?_⟩
  rw [mA_mwA, tA_tsA]
  by_cases z : i' = i ∧ j' = j
  · obtain ⟨rfl, rfl⟩ := z
    rw [ifT ⟨rfl, rfl⟩, ifT ⟨rfl, rfl⟩]
    exact ⟨rfl, hx⟩
  · rw [ifF (fun y => z (by omega)), ifF (fun y => z (by omega))]
    exact h.2 i' j' h1 h2
theorem RsK.w149 {V : Nat} {T : List Nat} (hT : T.contains 225 = true) (g h : Nat) (x y : Int32) : RsK [] [149, 150] T V D M σ (mwA M 149 g x) (tsA σ 225 h y) := ⟨KF.rf.wA rfl ⟨by decide, by decide⟩, (Ft.rf _ σ).p_tsA hT, fun _ _ _ => rfl⟩
/-- two rows change places -/
theorem el_swap (hc : c < n) (hb : b < n) (hne : b ≠ c) : ∀ (m k kf tf : Nat) (M : CM) (σ : TS), k + m = n + 1 → m < kf → m < tf → MxR n M σ → ∃ M' σ', KL_X0_eliminate_89 kf (nI n) (nI c) (nI b) (nI k) M = some ((), M') ∧ L_eliminate_99 tf (nI n) (nI c) (nI b) (nI k) σ = some ((), σ') ∧ RsK [] [149, 150] [225] V D M σ M' σ' ∧ MxR n M' σ' := by
  intro m
  induction m with
  | zero =>
    intro k kf tf M σ e hk ht h
    have n24 := h.1
    obtain ⟨kf, rfl⟩ : ∃ g, kf = g + 1 := ⟨kf - 1, by omega⟩
    obtain ⟨tf, rfl⟩ : ∃ g, tf = g + 1 := ⟨tf - 1, by omega⟩
    have t : nI n < nI k := (bI_lt (by omega) (by omega)).mpr (by omega)
    have nq : ¬ nI b = nI c := fun z => hne (nIq z (by omega) (by omega))
    exact ⟨M, σ, by rw [KL_X0_eliminate_89, ifF nq, ifT t], by rw [L_eliminate_99, ifT t], RsK.rf, h⟩
  | succ m ih =>
    intro k kf tf M σ e hk ht h
    have n24 := h.1
    obtain ⟨kf, rfl⟩ : ∃ g, kf = g + 1 := ⟨kf - 1, by omega⟩
    obtain ⟨tf, rfl⟩ : ∃ g, tf = g + 1 := ⟨tf - 1, by omega⟩
    have t : ¬ nI n < nI k := fun z => by have := (bI_lt (by omega) (by omega)).mp z; omega
    have nq : ¬ nI b = nI c := fun z => hne (nIq z (by omega) (by omega))
    obtain ⟨a1, a2⟩ := h.2 c k hc (by omega)
    obtain ⟨b1, b2⟩ := h.2 b k hb (by omega)
    have c24 : c < 24 := by omega
    have b24 : b < 24 := by omega
    have k24 : k ≤ 24 := by omega
    have e1 : nI k + 1 = nI (k + 1) := by rw [show (1 : Int32) = nI 1 from rfl, bI_add]
    -- both orders of writing give the same
    have g1 : MxR n (mwA M 149 (25 * b + k) (mA M 149 (25 * c + k))) (tsA σ 225 (181 * b + k) (tA σ 225 (181 * c + k))) := by
      rw [← a1]; exact h.w hb (by omega) a2
    have g2 : MxR n (mwA (mwA M 149 (25 * b + k) (mA M 149 (25 * c + k))) 149 (25 * c + k) (mA M 149 (25 * b + k))) (tsA (tsA σ 225 (181 * b + k) (tA σ 225 (181 * c + k))) 225 (181 * c + k) (mA M 149 (25 * b + k))) := g1.w hc (by omega) b2
    have g3 : MxR n (mwA (mwA M 149 (25 * b + k) (mA M 149 (25 * c + k))) 149 (25 * c + k) (mA M 149 (25 * b + k))) (tsA (tsA σ 225 (181 * c + k) (tA σ 225 (181 * b + k))) 225 (181 * b + k) (tA σ 225 (181 * c + k))) := by
      refine ⟨n24, fun i' j' h1 h2 => ?_⟩
      obtain ⟨y1, y2⟩ := g2.2 i' j' h1 h2
      refine ⟨y1.trans ?_, y2⟩
      rw [tA_tsA, tA_tsA, tA_tsA, tA_tsA, b1]
      by_cases z1 : i' = c ∧ j' = k
      · obtain ⟨rfl, rfl⟩ := z1
        rw [ifT ⟨rfl, rfl⟩, ifF (fun y => by omega), ifT ⟨rfl, rfl⟩]
      · by_cases z2 : i' = b ∧ j' = k
        · obtain ⟨rfl, rfl⟩ := z2
          rw [ifF (fun y => by omega), ifT ⟨rfl, rfl⟩, ifT ⟨rfl, rfl⟩]
        · rw [ifF (fun y => by omega), ifF (fun y => by omega), ifF (fun y => by omega), ifF (fun y => by omega)]
    have r1 : RsK [] [149, 150] [225] V D M σ (mwA (mwA M 149 (25 * b + k) (mA M 149 (25 * c + k))) 149 (25 * c + k) (mA M 149 (25 * b + k))) (tsA (tsA σ 225 (181 * c + k) (tA σ 225 (181 * b + k))) 225 (181 * b + k) (tA σ 225 (181 * c + k))) := ⟨(KF.rf.wA rfl ⟨by decide, by decide⟩).wA rfl ⟨by decide, by decide⟩, ((Ft.rf _ σ).p_tsA rfl).p_tsA rfl, fun _ _ _ => rfl⟩
    obtain ⟨M', σ', q1, q2, q3, q4⟩ := ih (k + 1) kf tf _ _ (by omega) (by omega) (by omega) g3
    refine ⟨M', σ', ?_, ?_, r1.tr q3 rfl, q4⟩
    · rw [KL_X0_eliminate_89, ifF nq, ifF t, m25, m25, ifT (in25 b24 k24), nm_eq, ifT (in25 c24 k24), ifT (in25 b24 k24), nm_eq, ifT (in25 c24 k24), nm_eq, nm_eq, e1, x25 b24 k24, x25 c24 k24]
      exact q1
    · rw [L_eliminate_99, ifF t, ifF nq, m181, m181, ifT (in181 c24 k24), nm_eq, ifT (in181 b24 k24), ifT (in181 c24 k24), nm_eq, ifT (in181 b24 k24), nm_eq, nm_eq, e1, x181 b24 k24, x181 c24 k24]
      exact q2
end ELIM
