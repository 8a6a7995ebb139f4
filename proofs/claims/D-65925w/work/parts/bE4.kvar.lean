/-! Layer B: the flat model: a variable is made, both sides -/
set_option maxRecDepth 100000
theorem bit_par : ∀ fl, fl < 64 → ((nI (32 * fl) >>> ((5 : Int32) &&& 31)) &&& 1 = 1 ↔ ¬ (nI fl &&& 1 = 0)) ∧ ((nI (32 * fl) >>> ((6 : Int32) &&& 31)) &&& 1 = 1 ↔ ¬ (nI fl &&& 2 = 0)) ∧ ((nI (32 * fl) >>> ((7 : Int32) &&& 31)) &&& 1 = 1 ↔ ¬ (nI fl &&& 4 = 0)) ∧ ((nI (32 * fl) >>> ((8 : Int32) &&& 31)) &&& 1 = 1 ↔ ¬ (nI fl &&& 8 = 0)) ∧ ((nI (32 * fl) >>> ((9 : Int32) &&& 31)) &&& 1 = 1 ↔ ¬ (nI fl &&& 16 = 0)) ∧ ((nI (32 * fl) >>> ((10 : Int32) &&& 31)) &&& 1 = 1 ↔ ¬ (nI fl &&& 32 = 0)) := by decide +kernel
section KVAR
variable {C C' : PC} {D D' D2 : FQ} {M M' M1 M2 : CM} {σ σ' σ2 : TS} {mss fss xs bs qs os : List Nat} {B l k n o m u w Q I I' L V V' Bm Bm' b v r R E E' cr i k0 fr e eo fl z : Nat} {P P' X T : Nat → Prop} {S S' : List Nat} {a : Nat × Nat × Nat} {W W1 W2 : List (Nat × Nat × Nat)} {x : Int64} {α : Type}
/-- rows stay whole when nothing but contents of objects is written -/
theorem PoW.gen (h : PoW D M) (hn : 167 ≤ mn M) (F : Fz X M M') (hX : ∀ o, o < mn M → X o → o < 98 ∨ (167 ≤ o ∧ 1000 ≤ ow D o ∧ ∀ k, ow D o ≠ tg 201 k ∧ ow D o ≠ tg 202 k)) (h98 : ∀ k, k < (pl D 98).length → mR M' 3204 ((pl D 98).getD k 0) = mR M 3204 ((pl D 98).getD k 0)) (h99 : ∀ k, k < (pl D 99).length → mR M' 2605 ((pl D 99).getD k 0) = mR M 2605 ((pl D 99).getD k 0)) (h23 : ∀ o, mn M ≤ o → o < mn M' → mk M' o ≠ 23) : PoW D M' := by
  have so : ∀ o, o < mn M → 167 ≤ o → (ow D o < 1000 ∨ ∃ k, ow D o = tg 201 k ∨ ow D o = tg 202 k) → So M M' o := fun o ho h1 h2 => F.so ho (fun z => by
    rcases hX o ho z with q | ⟨_, q1, q2⟩
    · omega
    · rcases h2 with h2 | ⟨k, h2⟩
      · omega
      · rcases h2 with h2 | h2
        · exact (q2 k).1 h2
        · exact (q2 k).2 h2)
  have sI : ∀ o, 98 ≤ o → o < 167 → So M M' o := fun o h1 h2 => F.so (by omega) (fun z => by
    rcases hX o (by omega) z with q | q <;> omega)
  have n := F.1
  have arr : ∀ l' a xs, Ls M l' xs → AQ D M l' a → (a < 1000 ∨ ∃ k, a = tg 201 k ∨ a = tg 202 k) → So M M' l' → Ls M' l' xs ∧ AQ D M' l' a := fun l' a xs hL hq hm s => by
    have sa : mR M 4201 l' ≠ 4398046511104 → So M M' (mR M 4201 l') := fun z => by
      rcases hL.lt with q | q
      · exact absurd q z
      · exact so _ q (hq z).1.2 (by rw [(hq z).1.1]; exact hm)
    refine ⟨hL.kp n (fun o ho => F.k ho) s sa, fun z => ?_⟩
    rw [s.r] at z ⊢
    exact ⟨(hq z).1, by rw [(sa z).l]; exact (hq z).2⟩
  refine ⟨fun l' hl' => ?_, fun l' hl' k' hk' => ?_, fun k' hk' => ?_, fun k' hk' => ?_, fun o ho1 ho2 ho3 => ?_⟩
  · obtain ⟨a1, a2, a3⟩ := h.1 l' hl'
    have r' := flA_rng l' hl'
    obtain ⟨b1, b2⟩ := arr l' l' _ a1 a2 (Or.inl (by omega)) (sI l' (by omega) (by omega))
    exact ⟨b1, b2, a3⟩
  · obtain ⟨a1, a2, a3⟩ := h.2.1 l' hl' k' hk'
    exact ⟨by rw [F.k a2.2]; exact a1, ⟨a2.1, by omega⟩, a3⟩
  · obtain ⟨a1, a2, a3⟩ := h.2.2.1 k' hk'
    rw [h98 k' hk']
    exact ⟨⟨by rw [F.k a2.2]; exact a1.1, by rw [(F.2.1 _ a2.2).2]; exact a1.2⟩, ⟨a2.1, by omega⟩, a3⟩
  · obtain ⟨⟨xs, a0, a1⟩, a2, a3, a4⟩ := h.2.2.2.1 k' hk'
    have s2 := so _ a2.2 a2.1 (Or.inr ⟨k', Or.inl a3⟩)
    rw [h99 k' hk']
    obtain ⟨c1, c2⟩ := arr _ _ xs a0 a4 (Or.inr ⟨k', Or.inr rfl⟩) s2
    exact ⟨⟨xs, c1, a1⟩, ⟨a2.1, by omega⟩, a3, c2⟩
  · by_cases q : o < mn M
    · rw [F.k q]; exact h.2.2.2.2 o ho1 q ho3
    · exact h23 o (by omega) ho2
theorem is_bit {p : Int32} {c : Prop} [Decidable c] (hk : mk M eo = 11) (hb : (mI M 2001 eo >>> (p &&& 31)) &&& 1 = 1 ↔ c) : K_X11_is eo p M = some (if c then 1 else 0, M) := by
  unfold K_X11_is
  rw [ifT hk]
  by_cases q : c
  · rw [ifT (hb.mpr q), ifT q]
  · rw [ifF (fun z => q (hb.mp z)), ifF q]
/-- a variable as the component makes it: object vo with units uo, for an element eo -/
def mkV (M : CM) (vo uo io eo : Nat) (w idx kd fw : Int32) (y5 y6 y7 y8 : Nat) : CM := msI (msI (msI (msR (msR (msR (msR (msR (msR (msI (mcA (msI (msI (msI (msR M 3200 vo io) 3201 vo w) 3202 vo idx) 3203 vo kd) (mR M 2005 eo) 0 uo 0 3) 3205 vo fw) 3206 vo y5) 3207 vo y6) 3208 vo y7) 3209 vo y8) 3210 vo 0) 3211 vo 0) 3212 vo 0) 3213 vo 0) 3214 vo 0
theorem mkV_f {vo uo io : Nat} {w idx kd fw : Int32} {y5 y6 y7 y8 : Nat} : Fz (fun o => o = vo ∨ o = uo) M (mkV M vo uo io eo w idx kd fw y5 y6 y7 y8) := by
  unfold mkV
  exact ((((((((((((((Fz.rf (X := fun o => o = vo ∨ o = uo)).msR (fun _ => Or.inl rfl)).msI (fun _ => Or.inl rfl)).msI (fun _ => Or.inl rfl)).msI (fun _ => Or.inl rfl)).mcA (fun _ => Or.inr rfl)).msI (fun _ => Or.inl rfl)).msR (fun _ => Or.inl rfl)).msR (fun _ => Or.inl rfl)).msR (fun _ => Or.inl rfl)).msR (fun _ => Or.inl rfl)).msR (fun _ => Or.inl rfl)).msR (fun _ => Or.inl rfl)).msI (fun _ => Or.inl rfl)).msI (fun _ => Or.inl rfl) |>.msI (fun _ => Or.inl rfl)
theorem mkV_v {vo uo io : Nat} {w idx kd fw : Int32} {y5 y6 y7 y8 : Nat} : (mR (mkV M vo uo io eo w idx kd fw y5 y6 y7 y8) 3200 vo = io ∧ mI (mkV M vo uo io eo w idx kd fw y5 y6 y7 y8) 3201 vo = w ∧ mI (mkV M vo uo io eo w idx kd fw y5 y6 y7 y8) 3202 vo = idx ∧ mI (mkV M vo uo io eo w idx kd fw y5 y6 y7 y8) 3203 vo = kd ∧ mI (mkV M vo uo io eo w idx kd fw y5 y6 y7 y8) 3205 vo = fw) ∧ (mR (mkV M vo uo io eo w idx kd fw y5 y6 y7 y8) 3206 vo = y5 ∧ mR (mkV M vo uo io eo w idx kd fw y5 y6 y7 y8) 3207 vo = y6 ∧ mR (mkV M vo uo io eo w idx kd fw y5 y6 y7 y8) 3208 vo = y7 ∧ mR (mkV M vo uo io eo w idx kd fw y5 y6 y7 y8) 3209 vo = y8) ∧ (∀ k, k < 3 → mA (mkV M vo uo io eo w idx kd fw y5 y6 y7 y8) uo k = mA M (mR M 2005 eo) k) ∧ (∀ o, mR (mkV M vo uo io eo w idx kd fw y5 y6 y7 y8) 3204 o = mR M 3204 o ∧ mR (mkV M vo uo io eo w idx kd fw y5 y6 y7 y8) 2605 o = mR M 2605 o ∧ mR (mkV M vo uo io eo w idx kd fw y5 y6 y7 y8) 4201 o = mR M 4201 o ∧ ml (mkV M vo uo io eo w idx kd fw y5 y6 y7 y8) o = ml M o ∧ mk (mkV M vo uo io eo w idx kd fw y5 y6 y7 y8) o = mk M o) ∧ mn (mkV M vo uo io eo w idx kd fw y5 y6 y7 y8) = mn M ∧ ms (mkV M vo uo io eo w idx kd fw y5 y6 y7 y8) = ms M := by
  unfold mkV
  refine ⟨⟨?_, ?_, ?_, ?_, ?_⟩, ⟨?_, ?_, ?_, ?_⟩, fun k hk => ?_, fun o => ⟨?_, ?_, ?_, rfl, rfl⟩, rfl, rfl⟩
  all_goals simp [mR_msR, mR_msI, mI_msI, mI_msR, mR_mcA, mI_mcA, mA_msI, mA_msR, mA_mcA]
  all_goals omega
theorem mkV_z {vo uo io : Nat} {w idx kd fw : Int32} {y5 y6 y7 y8 : Nat} : mR (mkV M vo uo io eo w idx kd fw y5 y6 y7 y8) 3210 vo = 0 ∧ mR (mkV M vo uo io eo w idx kd fw y5 y6 y7 y8) 3211 vo = 0 ∧ mI (mkV M vo uo io eo w idx kd fw y5 y6 y7 y8) 3212 vo = 0 ∧ mI (mkV M vo uo io eo w idx kd fw y5 y6 y7 y8) 3213 vo = 0 ∧ mI (mkV M vo uo io eo w idx kd fw y5 y6 y7 y8) 3214 vo = 0 := by
  unfold mkV
  refine ⟨?_, ?_, ?_, ?_, ?_⟩
  all_goals simp [mR_msR, mR_msI, mI_msI, mI_msR, mR_mcA, mI_mcA]
end KVAR
