/-! Layer B: the words of the language, as the component has them -/
set_option maxRecDepth 100000
def kidL : List Nat := [7, 10, 12, 14, 16, 18, 20, 22, 24, 26, 28, 31, 33, 35, 37, 39, 42, 44, 46, 48, 50, 52, 54, 57, 59, 61, 63, 65, 67, 69, 71, 73, 75, 77, 80, 82, 84, 86]
def karL : List Nat := [8, 11, 13, 15, 17, 19, 21, 23, 25, 27, 29, 32, 34, 36, 38, 40, 43, 45, 47, 49, 51, 53, 55, 58, 60, 62, 64, 66, 68, 70, 72, 74, 76, 78, 81, 83, 85, 87]
def kbyL : List (List Int32) := [[109, 111, 100, 101, 108], [99, 111, 110, 110, 101, 99, 116, 111, 114], [102, 117, 110, 99, 116, 105, 111, 110], [101, 110, 100], [101, 120, 116, 101, 110, 100, 115], [112, 97, 114, 97, 109, 101, 116, 101, 114], [102, 108, 111, 119], [100, 105, 115, 99, 114, 101, 116, 101], [105, 110, 110, 101, 114], [111, 117, 116, 101, 114], [114, 101, 112, 108, 97, 99, 101, 97, 98, 108, 101], [114, 101, 100, 101, 99, 108, 97, 114, 101], [114, 101, 97, 108], [105, 110, 105, 116, 105, 97, 108], [101, 113, 117, 97, 116, 105, 111, 110], [99, 111, 110, 110, 101, 99, 116], [119, 104, 101, 110], [116, 104, 101, 110], [102, 111, 114], [105, 110], [108, 111, 111, 112], [105, 102], [101, 108, 115, 101], [97, 110, 100], [111, 114], [110, 111, 116], [100, 101, 114], [112, 114, 101], [114, 101, 105, 110, 105, 116], [115, 97, 109, 112, 108, 101], [116, 105, 109, 101], [97, 98, 115], [115, 113, 114, 116], [109, 105, 110], [109, 97, 120], [115, 105, 103, 110], [102, 108, 111, 111, 114], [115, 116, 97, 114, 116]]
def kcoL : List Int64 := [(470020285804 : Int64), (-10 : Int64), (7382928537577680750 : Int64), (6647396 : Int64), (28561413961049203 : Int64), (-11 : Int64), (1718382455 : Int64), (7235441147305620581 : Int64), (452824294770 : Int64), (478711932274 : Int64), (-13 : Int64), (-12 : Int64), (1919246700 : Int64), (29676271758303596 : Int64), (7309752731624370030 : Int64), (27988542783578996 : Int64), (2003330414 : Int64), (1952998766 : Int64), (6713202 : Int64), (26990 : Int64), (1819242352 : Int64), (26982 : Int64), (1701606245 : Int64), (6385252 : Int64), (28530 : Int64), (7237492 : Int64), (6579570 : Int64), (7369317 : Int64), (125779886106996 : Int64), (126862285106277 : Int64), (1953066341 : Int64), (6382195 : Int64), (1936814708 : Int64), (7170414 : Int64), (7168376 : Int64), (1936287598 : Int64), (439905906546 : Int64), (495873782388 : Int64)]
def kid (j : Nat) : Nat := kidL.getD j 0
def kar (j : Nat) : Nat := karL.getD j 0
def kby (j : Nat) : List Int32 := kbyL.getD j []
def klen (j : Nat) : Nat := (kby j).length
def kb (j i : Nat) : Int32 := (kby j).getD i 0
def kco (j : Nat) : Int64 := kcoL.getD j 0
/-- the list of the words of the language stands as it was made -/
def KeysOK (M : CM) : Prop := (mk M 5 = 22 ∧ mR M 4201 5 = 79 ∧ mI M 4202 5 = 38 ∧ mk M 79 = 55 ∧ ml M 79 = 49 ∧ mk M 4 = 2) ∧ ∀ j, j < 38 → (mX M 79 j = kid j ∧ mk M (kid j) = 24 ∧ mR M 4600 (kid j) = kar j ∧ mI M 4601 (kid j) = 0 ∧ mk M (kar j) = 51 ∧ ml M (kar j) = klen j) ∧ ∀ i, i < klen j → mA M (kar j) i = kb j i
theorem kid_lt : ∀ j, j < 38 → kid j < 167 ∧ kar j < 167 ∧ kid j ≠ 0 := by decide +kernel
theorem klen_le : ∀ j, j < 38 → klen j ≤ 11 ∧ 2 ≤ klen j := by decide +kernel
theorem kb_ok : ∀ j, j < 38 → ∀ i, i < klen j → kb j i &&& 255 = kb j i ∧ 97 ≤ kb j i ∧ kb j i ≤ 122 := by
  have h : ∀ j, j < 38 → ∀ i, i < 11 → i < klen j → kb j i &&& 255 = kb j i ∧ 97 ≤ kb j i ∧ kb j i ≤ 122 := by decide +kernel
  intro j hj i hi
  exact h j hj i (Nat.lt_of_lt_of_le hi (klen_le j hj).1) hi
section KEYS
variable {M : CM}
theorem k_size5 (H : KeysOK M) : K_J2_size 5 M = some (38, M) := by
  unfold K_J2_size
  rw [ifT H.1.1, H.1.2.2.1]
theorem k_get5 (H : KeysOK M) {j : Nat} (hj : j < 38) : K_J2_get 5 (nI j) M = some (kid j, M) := by
  have h0 : ¬ nI j < 0 := by rw [nI_ltL (by omega) (by decide)]; exact Nat.not_lt_zero _
  have h1 : nI j < 38 := by rw [nI_ltL (by omega) (by decide)]; exact hj
  simp only [K_J2_get, K_J10_checkIndex, K_J5_checkIndex, K_J2_elementData, nm_eq, ob_some, obS_inl, obS_inr, H.1.1, H.1.2.2.1, H.1.2.1, H.1.2.2.2.1, H.1.2.2.2.2.1, ifF h0, ifT h1, if_true, true_and]
  rw [ifT (inb_nI' (by omega) (by decide)), ix_nI (by omega), ((H.2 j hj).1).1]
  rfl
theorem sVal_kid (H : KeysOK M) {j : Nat} (hj : j < 38) : sVal M (kid j) = kar j ∧ isStr M (kid j) ∧ sLen M (kid j) = klen j ∧ ∀ i, i < klen j → sChr M (kid j) i = kb j i := by
  obtain ⟨⟨h1, h2, h3, h4, h5, h6⟩, h7⟩ := H.2 j hj
  obtain ⟨g1, g2, g3⟩ := kid_lt j hj
  have e : sVal M (kid j) = kar j := by
    unfold sVal
    rw [ifF (by omega), h3]
  refine ⟨e, Or.inr ⟨h2, by rw [h3]; exact h5, h4⟩, ?_, fun i hi => ?_⟩
  · unfold sLen bLen
    rw [e, ifF (by omega), h6]
  · unfold sChr bAt
    rw [e, ifF (by omega), h7 i hi]
    exact (kb_ok j hj i hi).1
theorem isText_loop (H : KeysOK M) {j p n : Nat} (hj : j < 38) (hn : n = klen j) (hp : p + n ≤ 2000) (h2 : mk M 2 = 51 ∧ ml M 2 = 2000) : ∀ (d i f : Nat), i + d = n → d < f → (KL_X1_isText_13 f (kid j) 2 (nI p) (nI n) (nI i) M = some (.inl (), M) ∧ ∀ r, i ≤ r → r < n → kb j r = mA M 2 (p + r)) ∨ (KL_X1_isText_13 f (kid j) 2 (nI p) (nI n) (nI i) M = some (.inr 0, M) ∧ ∃ r, i ≤ r ∧ r < n ∧ kb j r ≠ mA M 2 (p + r))
  | 0, i, f + 1, hd, _ => by
    left
    refine ⟨?_, fun r h1 h2 => by omega⟩
    rw [KL_X1_isText_13, ifT ((bI_le (by omega) (by omega)).mpr (by omega))]
  | d + 1, i, f + 1, hd, hf => by
    obtain ⟨-, hs, hl, hc⟩ := sVal_kid H hj
    have hg : isStr M (kid j) ∧ inb (nI i) (sLen M (kid j)) := ⟨hs, by rw [hl]; exact inb_nI' (by omega) (by have := (klen_le j hj).1; omega)⟩
    have hg2 : mk M 2 = 51 ∧ inb (nI p + nI i) (ml M 2) := ⟨h2.1, by rw [h2.2, bI_add]; exact inb_nI' (by omega) (by decide)⟩
    rw [KL_X1_isText_13, ifF (by rw [bI_le (by omega) (by omega)]; omega), ifT hg, ifT hg2, ix_nI (by omega), hc i (by omega), bI_add, ix_nI (by omega)]
    by_cases e : kb j i = mA M 2 (p + i)
    · rw [ifT e, nm_eq, nI_addL]
      rcases isText_loop H hj hn hp h2 d (i + 1) f (by omega) (by omega) with ⟨h, g⟩ | ⟨h, r, g1, g2, g3⟩
      · left
        refine ⟨h, fun r h1 h2 => ?_⟩
        by_cases er : r = i
        · subst er; exact e
        · exact g r (by omega) h2
      · right
        exact ⟨h, r, by omega, g2, g3⟩
    · rw [ifF e]
      right
      exact ⟨rfl, i, Nat.le_refl _, by omega, e⟩
/-- what is on the tape from p on is a word of the language -/
def isKw (M : CM) (j p n : Nat) : Prop := n = klen j ∧ ∀ r, r < n → kb j r = mA M 2 (p + r)
theorem isText_ok (H : KeysOK M) {j p n : Nat} (hj : j < 38) (hp : p + n ≤ 2000) (h2 : mk M 2 = 51 ∧ ml M 2 = 2000) : (K_X1_isText (kid j) 2 (nI p) (nI n) M = some (1, M) ∧ isKw M j p n) ∨ (K_X1_isText (kid j) 2 (nI p) (nI n) M = some (0, M) ∧ ¬ isKw M j p n) := by
  obtain ⟨-, hs, hl, hc⟩ := sVal_kid H hj
  have hk := (klen_le j hj).1
  unfold K_X1_isText
  rw [ifT hs, hl]
  by_cases e : klen j = n
  · rw [ifT ((bI_eq (by omega) (by omega)).mpr e)]
    rcases isText_loop H hj e.symm hp h2 n 0 FU (by omega) (by show n < 4611686018427387904; omega) with ⟨h, g⟩ | ⟨h, r, g1, g2, g3⟩
    · left
      rw [show (0 : Int32) = nI 0 from rfl, h]
      exact ⟨rfl, e.symm, fun r hr => g r (by omega) hr⟩
    · right
      rw [show (0 : Int32) = nI 0 from rfl, h]
      exact ⟨rfl, fun q => g3 (q.2 r g2)⟩
  · right
    rw [ifF (fun q => e ((bI_eq (by omega) (by omega)).mp q))]
    exact ⟨rfl, fun q => e q.1.symm⟩
/-- the search for a word of the language -/
theorem of_keys (H : KeysOK M) {p n : Nat} {x4 : Int32} (hp : p + n ≤ 2000) (h2 : mk M 2 = 51 ∧ ml M 2 = 2000) : ∀ (d k f : Nat), k + d = 38 → d < f → (KL_X1_of_3 f 2 (nI p) (nI n) x4 (nI k) M = some (.inl (), M) ∧ ∀ j, k ≤ j → j < 38 → ¬ isKw M j p n) ∨ ∃ j, k ≤ j ∧ j < 38 ∧ KL_X1_of_3 f 2 (nI p) (nI n) x4 (nI k) M = some (.inr (nI j), M) ∧ isKw M j p n
  | 0, k, f + 1, hd, _ => by
    left
    refine ⟨?_, fun r h1 h2 => by omega⟩
    rw [KL_X1_of_3, k_size5 H, ob_some, ifT]
    rw [nI_Lle (by omega) (by decide)]; omega
  | d + 1, k, f + 1, hd, hf => by
    obtain ⟨⟨h1, hk24, -⟩, -⟩ := H.2 k (by omega)
    rw [KL_X1_of_3, k_size5 H, ob_some, ifF (by rw [nI_Lle (by omega) (by decide)]; omega), k_get5 H (by omega), ob_some, ifT (Or.inr hk24)]
    rcases isText_ok H (j := k) (by omega) hp h2 with ⟨e, g⟩ | ⟨e, g⟩
    · right
      rw [e, ob_some, ifF (by decide)]
      exact ⟨k, Nat.le_refl _, by omega, rfl, g⟩
    · rw [e, ob_some, ifT rfl, nm_eq, nI_addL]
      rcases of_keys H hp h2 d (k + 1) f (by omega) (by omega) with ⟨h, g2⟩ | ⟨j, a1, a2, a3, a4⟩
      · left
        refine ⟨h, fun j h1 h2 => ?_⟩
        by_cases er : j = k
        · subst er; exact g
        · exact g2 j (by omega) h2
      · right
        exact ⟨j, by omega, a2, a3, a4⟩
end KEYS
