/-! Layer B: bytes come in, both sides alike -/
set_option maxRecDepth 100000
/-- the bytes that wait -/
def BtR (M : CM) (σ : TS) (len : Nat) : Prop := mI M 1 1 = nI len ∧ tI σ 7 = nI len ∧ len ≤ 2000 ∧ ∀ i, i < len → tA σ 4 i = mA M 2 i ∧ nB (mA M 2 i) = mA M 2 i
def kPut (M : CM) (len : Nat) (v : Int32) : CM := msI (mwA M 2 len v) 1 1 (nI (len + 1))
def tPut (σ : TS) (len : Nat) (v : Int32) : TS := tsI (tsA σ 4 len v) 7 (nI (len + 1))
section FEED
variable {M : CM} {σ : TS} {len : Nat}
theorem nB_idem (x : Int32) : nB (nB x) = nB x := by
  unfold nB
  rw [Int8.toInt8_toInt32]
theorem BtR.put {v : Int32} (h : BtR M σ len) (hl : len < 2000) (hv : nB v = v) : BtR (kPut M len v) (tPut σ len v) (len + 1) := by
  obtain ⟨h1, h2, h3, h4⟩ := h
  refine ⟨?_, rfl, by omega, fun i hi => ?_⟩
  · unfold kPut; rw [mI_msI, ifT ⟨rfl, rfl⟩]
  · have e1 : tA (tPut σ len v) 4 i = if i = len then v else tA σ 4 i := by
      show tA (tsA σ 4 len v) 4 i = _
      rw [tA_tsA]
      by_cases q : i = len
      · rw [ifT ⟨rfl, q⟩, ifT q]
      · rw [ifF (fun z => q z.2), ifF q]
    have e2 : mA (kPut M len v) 2 i = if i = len then v else mA M 2 i := by
      show mA (mwA M 2 len v) 2 i = _
      rw [mA_mwA]
      by_cases q : i = len
      · rw [ifT ⟨rfl, q⟩, ifT q]
      · rw [ifF (fun z => q z.2), ifF q]
    rw [e1, e2]
    by_cases q : i = len
    · rw [ifT q, ifT q]; exact ⟨rfl, hv⟩
    · rw [ifF q, ifF q]; exact h4 i (by omega)
theorem k_put (h : mI M 1 1 = nI len) (hl : len < 2000) (n : Nat) (x s : Int32) (hs : ¬ s < 0) : KL_X0_feedFour_3 (n + 1) x s M = KL_X0_feedFour_3 n x (s + (-8)) (kPut M len (nB (nB (x >>> (s &&& 31))))) := by
  rw [KL_X0_feedFour_3, ifF hs, h, ifT (inb_nI' hl (by decide)), nm_eq, ix_nI (by omega), nm_eq, nm_eq]
  have e : mI (mwA M 2 len (nB (nB (x >>> (s &&& 31))))) 1 1 = nI len := h
  rw [e, nI_addL]
  rfl
end FEED
