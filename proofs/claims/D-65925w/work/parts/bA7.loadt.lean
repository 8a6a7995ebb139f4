/-! Layer B: load: the twin's tape, its end, what a fault leaves -/
set_option maxRecDepth 100000
/-- a load that had a fault: counters back, the fault noted -/
def rsT (x1 x2 x3 x4 x5 x6 x7 : Int32) (σ : TS) : TS := tsI (tsI (tsI (tsI (tsI (tsI (tsI (tsI (tsI (tsI σ 28 x1) 34 x2) 48 x3) 49 x4) 58 x5) 65 x6) 72 x7) 2 (tI σ 0)) 3 (tI σ 1)) 0 0
section LOADT
variable {σ σ' σt : TS} {x1 x2 x3 x4 x5 x6 x7 : Int32} {len : Nat} {b : Nat → Int32}
theorem tape_loop (h20 : len ≤ 2000) : ∀ (d k f : Nat) (σ : TS), k + d = len → d < f → tI σ 8 = nI len → (∀ i, i < k → tA σ 5 i = b i) → (∀ i, i < len → nB (tA σ 4 i) = b i) → ∃ σ', L_takeTape_10 f (nI k) σ = some ((), σ') ∧ Ft [5] σ σ' ∧ ∀ i, i < len → tA σ' 5 i = b i := by
  intro d
  induction d with
  | zero =>
    intro k f σ hk hf h8 h5 h4
    obtain ⟨f, rfl⟩ : ∃ g, f = g + 1 := ⟨f - 1, by omega⟩
    rw [L_takeTape_10, h8, ifT ((bI_le (by omega) (by omega)).mpr (by omega))]
    exact ⟨σ, rfl, Ft.rf _ _, fun i hi => h5 i (by omega)⟩
  | succ d ih =>
    intro k f σ hk hf h8 h5 h4
    obtain ⟨f, rfl⟩ : ∃ g, f = g + 1 := ⟨f - 1, by omega⟩
    have hin : inb (nI k) 2000 := inb_nI' (by omega) (by decide)
    have f5 : Ft [5] σ (tsA σ 5 k (nB (tA σ 4 k))) := (Ft.rf _ σ).p_tsA rfl
    rw [L_takeTape_10, h8, ifF (show ¬ nI len ≤ nI k from by rw [bI_le (by omega) (by omega)]; omega), ifT hin, ifT hin, nm_eq, nI_addL, nm_eq, ix_nI (by omega)]
    obtain ⟨σ', a1, a2, a3⟩ := ih (k + 1) f (tsA σ 5 k (nB (tA σ 4 k))) (by omega) (by omega) (by rw [(f5 8 rfl).1]; exact h8) (fun i hi => by
      rw [tA_tsA]
      by_cases q : i = k
      · rw [ifT ⟨rfl, q⟩]; rw [q]; exact h4 k (by omega)
      · rw [ifF (fun z => q z.2)]; exact h5 i (by omega)) (fun i hi => by rw [(f5 4 rfl).2.2.1]; exact h4 i hi)
    exact ⟨σ', a1, f5.tr a2, a3⟩
theorem t_tape (h7 : tI σ 7 = nI len) (h20 : len ≤ 2000) (h4 : ∀ i, i < len → nB (tA σ 4 i) = b i ∧ nB (b i) = b i) : ∃ σ', F_takeTape σ = some ((), σ') ∧ Ft [5, 7, 8] σ σ' ∧ TapeT σ' b len ∧ tI σ' 7 = 0 := by
  unfold F_takeTape
  have f8 : Ft [8] σ (tsI σ 8 (tI σ 7)) := (Ft.rf _ σ).p_tsI rfl
  have fu : len < FU := by have := FUb; omega
  obtain ⟨σ', a1, a2, a3⟩ := tape_loop h20 len 0 FU (tsI σ 8 (tI σ 7)) (by omega) fu h7 (fun i hi => absurd hi (Nat.not_lt_zero _)) (fun i hi => by rw [(f8 4 rfl).2.2.1]; exact (h4 i hi).1) (b := b)
  have f7 : Ft [7] σ' (tsI σ' 7 0) := (Ft.rf _ σ').p_tsI rfl
  rw [nm_eq, show (0 : Int32) = nI 0 from rfl, a1, ob_some, nm_eq]
  refine ⟨_, rfl, ((f8.mono (by decide)).tr (a2.mono (by decide))).tr (f7.mono (by decide)), ⟨?_, h20, fun i hi => ⟨?_, (h4 i hi).2⟩⟩, rfl⟩
  · have e : tI σ' 8 = nI len := by rw [(a2 8 rfl).1]; exact h7
    exact e
  · exact a3 i hi
theorem t_load_bad (h : tI σ 0 ≠ 0) : J_load_147 x1 x2 x3 x4 x5 x6 x7 σ = some (-5, rsT x1 x2 x3 x4 x5 x6 x7 σ) := by
  unfold J_load_147 J_load_181
  rw [t_isBad1 h, ob_some, ifF (show ¬ (1 : Int32) = 0 from by decide), t_isBad1 h, ob_some, ifF (show ¬ (1 : Int32) = 0 from by decide)]
  rfl
theorem t_load_good (h : tI σ 0 = 0) (hle : (tI σ 19 + tI σ 18) - 1 ≤ 6000) : J_load_147 x1 x2 x3 x4 x5 x6 x7 σ = some (tI σ 49 + tI σ 48, tsI σ 19 (tI σ 19 + (tI σ 18 - 1))) := by
  unfold J_load_147 J_load_181
  rw [t_isBad0 h, ob_some, ifT (rfl : (0 : Int32) = 0), ifT hle, t_isBad0 h, ob_some, ifT (rfl : (0 : Int32) = 0)]
  rfl
theorem rs_ft : Ft [0, 2, 3, 28, 34, 48, 49, 58, 65, 72] σ (rsT x1 x2 x3 x4 x5 x6 x7 σ) := ((((((((((Ft.rf _ σ).p_tsI rfl).p_tsI rfl).p_tsI rfl).p_tsI rfl).p_tsI rfl).p_tsI rfl).p_tsI rfl).p_tsI rfl).p_tsI rfl).p_tsI rfl
/-- what was there before a load with a fault is there again -/
theorem rs_keep (tw : Tw σt σ) (hE : tE σt ≤ 2400) {r : TS} (hr : r = rsT (tI σt 28) (tI σt 34) (tI σt 48) (tI σt 49) (tI σt 58) (tI σt 65) (tI σt 72) σ) : (Tz σt r ∧ Qz σt r ∧ Mz σt r ∧ Ez σt r) ∧ (∀ k, k < ix (tI σt 49) → (∀ f, f = 44 ∨ f = 45 ∨ f = 46 ∨ f = 47 → tA r f k = tA σt f k) ∧ tB r 41 k = tB σt 41 k) ∧ ∀ k, k < ix (tI σt 48) → (∀ f, f = 42 ∨ f = 43 → tA r f k = tA σt f k) ∧ tB r 40 k = tB σt 40 k := by
  have F : Ft [0, 2, 3, 28, 34, 48, 49, 58, 65, 72] σ r := by rw [hr]; exact rs_ft
  have c28 : tI r 28 = tI σt 28 := by rw [hr]; rfl
  have c34 : tI r 34 = tI σt 34 := by rw [hr]; rfl
  have c58 : tI r 58 = tI σt 58 := by rw [hr]; rfl
  have c65 : tI r 65 = tI σt 65 := by rw [hr]; rfl
  have c72 : tI r 72 = tI σt 72 := by rw [hr]; rfl
  obtain ⟨⟨⟨_, z2, z3, z4⟩, q, m, e⟩, t5, t6⟩ := tw
  refine ⟨⟨⟨⟨by unfold tN; rw [c28]; exact Nat.le_refl _, by unfold tQ; rw [c34]; exact Nat.le_refl _⟩, fun k hk n hn => ?_, fun k hk n hn => ?_, fun k hk n hn => ?_⟩, ⟨by unfold tE; rw [c72]; exact Nat.le_refl _, fun n hn => ⟨fun k hk => ?_, ?_⟩⟩, ⟨by unfold tM; rw [c65]; exact Nat.le_refl _, fun j hj => ⟨fun f hf => ?_, fun f hf => ?_⟩⟩, ⟨by rw [c58]; exact Nat.le_refl _, fun j hj => ⟨fun f hf => ?_, fun f hf => ?_⟩⟩⟩, fun k hk => ⟨fun f hf => ?_, ?_⟩, fun k hk => ⟨fun f hf => ?_, ?_⟩⟩
  · rw [(F k (by rcases hk with rfl | rfl | rfl | rfl <;> decide)).2.2.1]; exact z2 k hk n hn
  · rw [(F k (by rcases hk with rfl | rfl | rfl <;> decide)).2.2.1]; exact z3 k hk n hn
  · rw [(F k (by rcases hk with rfl | rfl <;> decide)).2.2.2]; exact z4 k hk n hn
  · rw [(F k (by rcases hk with rfl | rfl | rfl | rfl | rfl <;> decide)).2.2.1]; exact ((q (tE σt) hE (Nat.le_refl _)).2 n hn).1 k hk
  · rw [(F 71 rfl).2.2.2]; exact ((q (tE σt) hE (Nat.le_refl _)).2 n hn).2
  · rw [(F f (by rcases hf with rfl | rfl | rfl | rfl <;> decide)).2.2.1]; exact (m.2 j hj).1 f hf
  · rw [(F f (by rcases hf with rfl | rfl <;> decide)).2.2.2]; exact (m.2 j hj).2 f hf
  · rw [(F f (by rcases hf with rfl | rfl | rfl | rfl | rfl | rfl <;> decide)).2.2.1]; exact (e.2 j hj).1 f hf
  · rw [(F f (by rcases hf with rfl | rfl <;> decide)).2.2.2]; exact (e.2 j hj).2 f hf
  · rw [(F f (by rcases hf with rfl | rfl | rfl | rfl <;> decide)).2.2.1]; exact (t5 k hk).1 f hf
  · rw [(F 41 rfl).2.2.2]; exact (t5 k hk).2
  · rw [(F f (by rcases hf with rfl | rfl <;> decide)).2.2.1]; exact (t6 k hk).1 f hf
  · rw [(F 40 rfl).2.2.2]; exact (t6 k hk).2
end LOADT
