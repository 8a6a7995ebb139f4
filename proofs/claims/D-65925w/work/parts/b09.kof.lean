/-! Layer B: the number of a word that is read -/
set_option maxRecDepth 100000
theorem ch_nI {c : Int32} (h : chOK c) : ∃ k, c = nI k ∧ 48 ≤ k ∧ k ≤ 122 := by
  have aux : ∀ lo hi : Nat, lo < 2147483648 → hi < 2147483648 → nI lo ≤ c → c ≤ nI hi → ∃ k, c = nI k ∧ lo ≤ k ∧ k ≤ hi := by
    intro lo hi hlo hhi h1 h2
    obtain ⟨n, rfl, hn⟩ := bI_of (Int32.le_trans (show (0 : Int32) ≤ nI lo from (bI_le (by decide) hlo).mpr (Nat.zero_le _)) h1)
    exact ⟨n, rfl, (bI_le hlo hn).mp h1, (bI_le hn hhi).mp h2⟩
  rcases h with h | h | h
  · obtain ⟨k, e, h1, h2⟩ := aux 97 122 (by decide) (by decide) h.1 h.2
    exact ⟨k, e, by omega, h2⟩
  · obtain ⟨k, e, h1, h2⟩ := aux 48 57 (by decide) (by decide) h.1 h.2
    exact ⟨k, e, h1, by omega⟩
  · exact ⟨95, h, by decide, by decide⟩
theorem nI_and : ∀ k, k < 128 → nI k &&& 255 = nI k := by decide
theorem ch_by8 {c : Int32} (h : chOK c) : c &&& 255 = c ∧ by8 c ≠ 0 ∧ by8 c ≤ 122 ∧ nI (by8 c) = c := by
  obtain ⟨k, rfl, h1, h2⟩ := ch_nI h
  have e := nI_and k (by omega)
  have e2 : by8 (nI k) = k := by unfold by8; rw [e, ix_nI (by omega)]
  exact ⟨e, by omega, by omega, by rw [e2]⟩
theorem kb_ch {j i : Nat} (hj : j < 38) (hi : i < klen j) : chOK (kb j i) := Or.inl (kb_ok j hj i hi).2
theorem pk_congr {b b' : Nat → Int32} {p p' : Nat} : ∀ n, (∀ i, i < n → b (p + i) = b' (p' + i)) → pk b p n = pk b' p' n
  | 0, _ => rfl
  | n + 1, h => by
    show (pk b p n <<< _) ||| _ = (pk b' p' n <<< _) ||| _
    rw [pk_congr n (fun i hi => h i (by omega)), h n (Nat.lt_succ_self _)]
theorem kco_short : ∀ j, j < 38 → (klen j ≤ 8 ∧ kco j = pk (kb j) 0 (klen j)) ∨ (8 < klen j ∧ 243 ≤ u64 (kco j) % 256) := by decide +kernel
/-- a word that is packed to the code of one of the language is that one -/
theorem kco_kw {b : Nat → Int32} {p n j : Nat} (hj : j < 38) (hn : n ≤ 8) (h1 : 1 ≤ n) (hc : ∀ i, i < n → chOK (b (p + i))) (e : pk b p n = kco j) : isKwB b j p n := by
  have hu := u64_pk b p n hn
  rcases kco_short j hj with ⟨k1, k2⟩ | ⟨k1, k2⟩
  · have hu2 := u64_pk (kb j) 0 (klen j) k1
    rw [← k2, ← e, hu] at hu2
    obtain ⟨g1, g2⟩ := px_inj n (klen j) (fun i hi => (ch_by8 (hc i hi)).2.1) (fun i hi => by rw [Nat.zero_add]; exact (ch_by8 (kb_ch hj hi)).2.1) hu2
    refine ⟨g1, fun r hr => ?_⟩
    have g3 := g2 r hr
    rw [Nat.zero_add] at g3
    rw [← (ch_by8 (kb_ch hj (by omega))).2.2.2, ← g3, (ch_by8 (hc r hr)).2.2.2]
  · rw [← e, hu] at k2
    obtain ⟨n', rfl⟩ : ∃ n', n = n' + 1 := ⟨n - 1, by omega⟩
    have h4 : px b p (n' + 1) = px b p n' * 256 + by8 (b (p + n')) := rfl
    have h5 := (ch_by8 (hc n' (by omega))).2.2.1
    omega
theorem kw_kco {b : Nat → Int32} {p n j : Nat} (hj : j < 38) (hn : n ≤ 8) (h : isKwB b j p n) : pk b p n = kco j := by
  obtain ⟨h1, h2⟩ := h
  rcases kco_short j hj with ⟨k1, k2⟩ | ⟨k1, k2⟩
  · rw [k2, h1]
    exact pk_congr _ (fun i hi => by rw [Nat.zero_add]; exact (h2 i (by omega)).symm)
  · omega
theorem nm_of {b : Nat → Int32} {p n : Nat} (hn : n ≤ 8) (h1 : 1 ≤ n) (hc : ∀ i, i < n → chOK (b (p + i))) (hl : isLt (b p)) (hk : ∀ j, j < 38 → ¬ isKwB b j p n) : nmOK (pk b p n) := by
  refine ⟨⟨n, fun i => b (p + i), h1, hn, hc, hl, (pk_congr n (fun i _ => by rw [Nat.zero_add])).symm⟩, fun j hj e => hk j hj (kco_kw hj hn h1 hc e)⟩
section KOF
variable {M : CM} {m L len : Nat} {b : Nat → Int32}
theorem kw_iff (T : TapeK M b len) {j s n : Nat} (h : s + n ≤ len) : isKw M j s n ↔ isKwB b j s n := by
  constructor
  · rintro ⟨h1, h2⟩; exact ⟨h1, fun r hr => by rw [h2 r hr, T.2.2 _ (by omega)]⟩
  · rintro ⟨h1, h2⟩; exact ⟨h1, fun r hr => by rw [h2 r hr, T.2.2 _ (by omega)]⟩
/-- any bytes of the tape -/
theorem k_of (T : TapeK M b len) (H : KeysOK M) (W : WN M m L) (h2 : mk M 2 = 51 ∧ ml M 2 = 2000) {s n : Nat} (hs : s + n ≤ len) (x4 : Int32) : (∃ j, j < 38 ∧ isKwB b j s n ∧ K_X1_of 2 (nI s) (nI n) x4 M = some (nI j, M)) ∨ ((∀ j, j < 38 → ¬ isKwB b j s n) ∧ ((8 < n ∧ K_X1_of 2 (nI s) (nI n) x4 M = some (-1, M)) ∨ (n ≤ 8 ∧ ((∃ k, k < m ∧ mL M (mR M 201 4) k = pk b s n ∧ dg 8 (u64 (pk b s n)) = n ∧ K_X1_of 2 (nI s) (nI n) x4 M = some (nI (38 + k), M)) ∨ ((∀ k, k < m → ¬ (mL M (mR M 201 4) k = pk b s n ∧ dg 8 (u64 (pk b s n)) = n)) ∧ K_X1_of 2 (nI s) (nI n) x4 M = if x4 = 0 then some (-1, M) else K_X1_added (pk b s n) M))))) := by
  have hlen := T.2.1
  have W' := W
  obtain ⟨w1, w2, w3, w4, w5, w6, -⟩ := W'
  unfold K_X1_of
  rw [show (0 : Int32) = nI 0 from rfl]
  rcases of_keys H (p := s) (n := n) (x4 := x4) (by omega) h2 38 0 FU rfl (by decide) with ⟨h, g⟩ | ⟨j, g1, g2, g3, g4⟩
  · right
    refine ⟨fun j hj q => g j (Nat.zero_le _) hj ((kw_iff T hs).mpr q), ?_⟩
    rw [h, obS_inl]
    by_cases c : n ≤ 8
    · right
      refine ⟨c, ?_⟩
      have hpk : pk (mA M 2) s n = pk b s n := pk_congr n (fun i hi => T.2.2 _ (by omega))
      rw [ifT ((nI_leL (by omega) (by decide)).mpr c), show (0 : Int64) = pk (mA M 2) s 0 from rfl, of_pack h2 (by omega) n 0 FU (by omega) (by show n < 4611686018427387904; omega), ob_some, hpk]
      rcases of_names H W (n := n) (v := pk b s n) (x4 := x4) c m 0 FU (by omega) (by show m < 4611686018427387904; omega) with ⟨h, g2⟩ | ⟨k, g1, g2, g3, g4, g5⟩
      · right
        rw [h, obS_inl]
        refine ⟨fun k hk => g2 k (Nat.zero_le _) hk, ?_⟩
        rw [show nI 0 = (0 : Int32) from rfl]
        by_cases e : x4 = 0
        · rw [ifT e, ifT e]
        · rw [ifF e, ifF e]
          cases K_X1_added (pk b s n) M with
          | none => rfl
          | some q => rfl
      · left
        rw [g3, obS_inr]
        exact ⟨k, g2, g4, g5, rfl⟩
    · left
      rw [ifF (by rw [nI_leL (by omega) (by decide)]; exact c)]
      exact ⟨by omega, rfl⟩
  · left
    rw [g3, obS_inr]
    exact ⟨j, g2, (kw_iff T hs).mp g4, rfl⟩
/-- a word of a text -/
theorem k_word (T : TapeK M b len) (H : KeysOK M) (W : WN M m L) (h2 : mk M 2 = 51 ∧ ml M 2 = 2000) (hm : m ≤ 1280) (hn : 167 ≤ mn M) (hcap : mn M ≤ 601024 ∧ ms M + 4096 ≤ 7293034) {s q : Nat} (hs : s < len) (hl : isLt (b s)) (hq : FN (fun r => chOK (cB b len r)) s q) : s < q ∧ q ≤ len ∧ ((∃ j, j < 38 ∧ isKwB b j s (q - s) ∧ K_X1_of 2 (nI s) (nI (q - s)) (if 8 < q - s then 0 else 1) M = some (nI j, M)) ∨ ((∀ j, j < 38 → ¬ isKwB b j s (q - s)) ∧ ((8 < q - s ∧ K_X1_of 2 (nI s) (nI (q - s)) (if 8 < q - s then 0 else 1) M = some (-1, M)) ∨ (q - s ≤ 8 ∧ ∃ M' m' L' w, K_X1_of 2 (nI s) (nI (q - s)) (if 8 < q - s then 0 else 1) M = some (nI w, M') ∧ OfI M M' m L m' L' ∧ w < 38 + m' ∧ wc M' w = pk b s (q - s))))) := by
  have hlen := T.2.1
  obtain ⟨q1, q2, q3⟩ := hq
  have hsq : s < q := by
    rcases Nat.lt_or_ge s q with g | g
    · exact g
    · have e : q = s := by omega
      subst e
      exact absurd (show chOK (cB b len q) by rw [cB_lt hs]; exact Or.inl hl) q3
  have hql : q ≤ len := by have := ch_lt (q2 (q - 1) (by omega) (by omega)); omega
  have hch : ∀ i, i < q - s → chOK (b (s + i)) := fun i hi => by
    have this : chOK (cB b len (s + i)) := q2 (s + i) (by omega) (by omega)
    rw [cB_lt (by omega)] at this
    exact this
  refine ⟨hsq, hql, ?_⟩
  rcases k_of T H W h2 (s := s) (n := q - s) (by omega) (if 8 < q - s then 0 else 1) with h | ⟨h, g⟩
  · exact Or.inl h
  · right
    refine ⟨h, ?_⟩
    rcases g with g | ⟨g1, g2⟩
    · exact Or.inl g
    · right
      refine ⟨g1, ?_⟩
      rcases g2 with ⟨k, a1, a2, a3, a4⟩ | ⟨a1, a2⟩
      · exact ⟨M, m, L, 38 + k, a4, OfI.rf H W, by omega, by unfold wc; rw [ifF (by omega), show 38 + k - 38 = k by omega]; exact a2⟩
      · have hnew : ∀ k, k < m → mL M (mR M 201 4) k ≠ pk b s (q - s) := fun k hk e => a1 k hk ⟨e, by rw [u64_pk _ _ _ g1]; exact dg_px _ 8 g1 (fun i hi => (ch_by8 (hch i hi)).2.1)⟩
        obtain ⟨M', L', b1, b2, b3, b4, b5, b6, b7, b8, b9, b10⟩ := added_ok H W hm hn hcap (nm_of g1 (by omega) hch hl h) hnew
        rw [ifF (show ¬ 8 < q - s by omega)] at a2 ⊢
        rw [ifF (by decide), b1] at a2
        refine ⟨M', m + 1, L', 38 + m, a2, ⟨H.kt b3 hn, b2, b3, b4, b5, b6, by omega, by omega, b8, fun a i ha => ?_, b10⟩, by omega, b7⟩
        rw [b9, ifF (by omega)]
end KOF
