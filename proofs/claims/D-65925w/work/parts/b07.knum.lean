/-! Layer B: the component's numerals -/
set_option maxRecDepth 100000
theorem FN_ex {P : Nat → Prop} {len : Nat} (h0 : ∀ k, len ≤ k → ¬ P k) : ∀ (d p : Nat), len - p = d → ∃ q, FN P p q
  | 0, p, hd => ⟨p, Nat.le_refl _, fun r h1 h2 => by omega, h0 p (by omega)⟩
  | d + 1, p, hd => by
    by_cases h : P p
    · obtain ⟨q, g1, g2, g3⟩ := FN_ex h0 d (p + 1) (by omega)
      refine ⟨q, by omega, fun r h1 h2 => ?_, g3⟩
      by_cases e : r = p
      · subst e; exact h
      · exact g2 r (by omega) h2
    · exact ⟨p, Nat.le_refl _, fun r h1 h2 => by omega, h⟩
theorem FN_dt (b : Nat → Int32) (len p : Nat) : ∃ q, FN (fun r => isDt (cB b len r)) p q := FN_ex (len := len) (fun k hk => by show ¬ isDt (cB b len k); rw [cB_0 hk]; exact not_dt0) _ p rfl
theorem FN_ch (b : Nat → Int32) (len p : Nat) : ∃ q, FN (fun r => chOK (cB b len r)) p q := FN_ex (len := len) (fun k hk => by show ¬ chOK (cB b len k); rw [cB_0 hk]; exact not_ch0) _ p rfl
/-- too many digits -/
theorem num_bad1 {b : Nat → Int32} {len s e d1 : Nat} {ok : Prop} {nu wh : Int32} (hd : FN (fun r => isDt (cB b len r)) s d1) (h5 : 5 < d1 - s) (hok : ¬ ok) : NumS b len s e ok nu wh := by
  refine ⟨d1, hd, ?_⟩
  by_cases h : cB b len d1 = 46 ∧ isDt (cB b len (d1 + 1))
  · left
    obtain ⟨d2, hd2⟩ := FN_dt b len (d1 + 1)
    exact ⟨h.1, h.2, d2, hd2, ⟨fun q => absurd q hok, fun q => by omega⟩, fun q => absurd q hok⟩
  · right
    exact ⟨h, ⟨fun q => absurd q hok, fun q => by omega⟩, fun q => absurd q hok⟩
def tkM (M : CM) (t : Nat) (a v p : Int32) : CM := msI (mwA (mwA (mwA (mwA M 91 t a) 92 t v) 93 t 0) 94 t p) 404 90 (nI (t + 1))
section KNUM
variable {M : CM} {len t : Nat} {b : Nat → Int32}
theorem k_token (ht : mI M 404 90 = nI t) (h : t < 2001) (a v p : Int32) : K_X2_token a v p M = some ((), tkM M t a v p) := by
  have hin : inb (nI t) 2001 := inb_nI' h (by decide)
  have e : nZ 0 = 0 := by decide
  simp only [K_X2_token, nm_eq, ob_some, obS_inl, obS_inr, mI_mwA, ht, ifT hin, ix_nI (show t < 2147483648 by omega), nI_addL, e]
  rfl
theorem tkM_n (a v p : Int32) : mI (tkM M t a v p) 404 90 = nI (t + 1) := by
  unfold tkM; simp only [mI_msI, and_self, if_true]
theorem k_num183 (ht : mI M 404 90 = nI t) (h : t < 2001) {s e v f j : Nat} {x6 : Int32} (hv : v < 100000) (hf : f < 10 ^ j) (hj : j ≤ 4) : KJ_X2_numeral_183 (nI s) (nI e) (n64 v) 0 x6 (n64 f) (n64 (10 ^ j)) M = if v < 32767 ∨ v = 32767 ∧ f = 0 then some (nI e, mwA (tkM M t 2 (nI (v * 65536 + f * 65536 / 10 ^ j)) (nI s)) 93 t (nZ x6)) else some ((-1), tkM M t 3 0 (nI s)) := by
  have hp : 10 ^ j ≤ 10000 := by
    have : ∀ j, j ≤ 4 → 10 ^ j ≤ 10000 := by decide
    exact this j hj
  have h220 : KJ_X2_numeral_220 (nI s) (nI e) (n64 v) x6 (n64 f) (n64 (10 ^ j)) M = some (nI e, mwA (tkM M t 2 (nI (v * 65536 + f * 65536 / 10 ^ j)) (nI s)) 93 t (nZ x6)) := by
    unfold KJ_X2_numeral_220
    rw [ifT (show ¬ n64 (10 ^ j) = 0 by rw [show (0 : Int64) = n64 0 from rfl, n64_eq (by omega) (by decide)]; exact Nat.ne_of_gt (Nat.pow_pos (by decide)))]
    rw [show (65536 : Int64) = n64 65536 from rfl, n64_mul, n64_mul, n64_div (by omega) (by omega), n64_add, n64_i32, k_token ht h, ob_some, tkM_n, nI_subL _ _ (by omega), show t + 1 - 1 = t by omega, ifT (inb_nI' h (by decide)), nm_eq, ix_nI (by omega), Nat.mul_comm 65536 v]
  unfold KJ_X2_numeral_183
  rw [ifT rfl]
  have e1 : (0 < lg_cmp (n64 v) 32767) ↔ 32767 < v := by rw [lg_gt, show (32767 : Int64) = n64 32767 from rfl, n64_lt (by decide) (by omega)]
  have e2 : (lg_cmp (n64 v) 32767 = 0) ↔ v = 32767 := by rw [lg_eq, show (32767 : Int64) = n64 32767 from rfl, n64_eq (by omega) (by decide)]
  have e3 : (lg_cmp (n64 f) 0 ≤ 0) ↔ f = 0 := by rw [lg_le, show (0 : Int64) = n64 0 from rfl, n64_lt (by decide) (by omega)]; omega
  by_cases c1 : 32767 < v
  · rw [ifT (e1.mpr c1), k_token ht h, ob_some, ifF (by omega)]
  · rw [ifF (fun q => c1 (e1.mp q))]
    by_cases c2 : v = 32767
    · rw [ifT (e2.mpr c2)]
      by_cases c3 : f = 0
      · rw [ifT (e3.mpr c3), h220, ifT (Or.inr ⟨c2, c3⟩)]
      · rw [ifF (fun q => c3 (e3.mp q)), k_token ht h, ob_some, ifF (by omega)]
    · rw [ifF (fun q => c2 (e2.mp q)), h220, ifT (Or.inl (by omega))]
theorem k_num183b (ht : mI M 404 90 = nI t) (h : t < 2001) {s : Nat} {x2 x6 : Int32} {x3 x7 x9 : Int64} : KJ_X2_numeral_183 (nI s) x2 x3 1 x6 x7 x9 M = some ((-1), tkM M t 3 0 (nI s)) := by
  unfold KJ_X2_numeral_183
  rw [ifF (by decide), k_token ht h, ob_some]
/-- a numeral is read -/
theorem k_numeral (T : TapeK M b len) (ht : mI M 404 90 = nI t) (h : t < 2001) {s : Nat} (hs : s < len) (hd : isDt (b s)) : (∃ e nu wh, NumS b len s e True nu wh ∧ s < e ∧ e ≤ len ∧ K_X2_numeral (nI s) M = some (nI e, mwA (tkM M t 2 nu (nI s)) 93 t wh)) ∨ ((∀ e nu wh, NumS b len s e False nu wh) ∧ K_X2_numeral (nI s) M = some ((-1), tkM M t 3 0 (nI s))) := by
  have hlen := T.2.1
  obtain ⟨q, a1, a2, a3, a4, a5⟩ := ptK_num1 (s := s) T _ s FU rfl (by show len + 1 - s < 4611686018427387904; omega) (Nat.le_refl _) (by omega) (by omega) (fun r h1 h2 => by omega)
  have hsq : s < q := by
    rcases Nat.lt_or_ge s q with g | g
    · exact g
    · have e : q = s := by omega
      rcases a5 with g2 | g2
      · rw [e, cB_lt hs] at g2; exact absurd hd g2
      · omega
  unfold K_X2_numeral
  rw [Nat.sub_self] at a1
  rw [show (0 : Int64) = n64 (dec b s 0) from rfl, a1, ob_some]
  unfold KJ_X2_numeral_51
  show _ ∨ (_ ∧ (if nI q - nI s ≤ 5 then KJ_X2_numeral_63 (nI s) (nI q) (n64 (dec b s (q - s))) 0 M else KJ_X2_numeral_63 (nI s) (nI q) (n64 (dec b s (q - s))) 1 M) = _)
  have hql : q ≤ len := by
    have := dt_lt (a4 (q - 1) (by omega) (by omega))
    omega
  rw [nI_sub (by omega)]
  by_cases c : q - s ≤ 5
  · have hnq : ¬ isDt (cB b len q) := by
      rcases a5 with g | g
      · exact g
      · omega
    have hFN : FN (fun r => isDt (cB b len r)) s q := ⟨by omega, a4, hnq⟩
    have hv : dec b s (q - s) < 100000 := by
      have h1 := dec_lt (b := b) (fun _ _ => trivial) (p := s) (q - s) (fun i hi => by
        have := a4 (s + i) (by omega) (by omega)
        rw [cB_lt (dt_lt this)] at this
        exact this)
      have h2 : ∀ j, j ≤ 5 → 10 ^ j ≤ 100000 := by decide
      have := h2 (q - s) c
      omega
    rw [ifT ((nI_leL (by omega) (by decide)).mpr c)]
    unfold KJ_X2_numeral_63
    rw [ptK_byte T (by omega), ob_some]
    have plain : ¬ (cB b len q = 46 ∧ isDt (cB b len (q + 1))) → (∃ e nu wh, NumS b len s e True nu wh ∧ s < e ∧ e ≤ len ∧ KJ_X2_numeral_183 (nI s) (nI q) (n64 (dec b s (q - s))) 0 1 0 1 M = some (nI e, mwA (tkM M t 2 nu (nI s)) 93 t wh)) ∨ ((∀ e nu wh, NumS b len s e False nu wh) ∧ KJ_X2_numeral_183 (nI s) (nI q) (n64 (dec b s (q - s))) 0 1 0 1 M = some ((-1), tkM M t 3 0 (nI s))) := by
      intro hno
      rw [show (0 : Int64) = n64 0 from rfl, show (1 : Int64) = n64 (10 ^ 0) from rfl, k_num183 ht h hv (by decide) (by decide)]
      by_cases c2 : dec b s (q - s) ≤ 32767
      · left
        rw [ifT (by omega)]
        refine ⟨q, _, 1, ⟨q, hFN, Or.inr ⟨hno, ⟨fun _ => ⟨c, c2⟩, fun _ => trivial⟩, fun _ => ⟨rfl, rfl, rfl⟩⟩⟩, hsq, hql, ?_⟩
        simp
        rfl
      · right
        rw [ifF (by omega)]
        exact ⟨fun e nu wh => ⟨q, hFN, Or.inr ⟨hno, ⟨fun f => f.elim, fun g => c2 g.2⟩, fun f => f.elim⟩⟩, rfl⟩
    by_cases c46 : cB b len q = 46
    · rw [ifT c46, nI_addL, ptK_byte T (by omega), ob_some]
      rcases ptK_digit (cB b len (q + 1)) M with ⟨g, e⟩ | ⟨g, e⟩
      · rw [e, ob_some, ifF (by decide), nm_eq]
        obtain ⟨q2, b1, b2, b3, b4, b5⟩ := ptK_num2 (s := q + 1) (x1 := nI s) (x5 := 0) (x6 := 0) (x3 := n64 (dec b s (q - s))) T _ (q + 1) FU rfl (by show len + 1 - (q + 1) < 4611686018427387904; omega) (Nat.le_refl _) (by omega) (by omega) (fun r h1 h2 => by omega)
        rw [Nat.sub_self] at b1
        rw [show (0 : Int64) = n64 (dec b (q + 1) 0) from rfl, show (1 : Int64) = n64 (10 ^ 0) from rfl, b1, ob_some]
        have hq2 : q + 1 < q2 := by
          rcases Nat.lt_or_ge (q + 1) q2 with g1 | g1
          · exact g1
          · have e : q2 = q + 1 := by omega
            rcases b5 with g2 | g2
            · rw [e] at g2; exact absurd g g2
            · omega
        have hq2l : q2 ≤ len := by
          have := dt_lt (b4 (q2 - 1) (by omega) (by omega))
          omega
        unfold KJ_X2_numeral_162
        rw [ifT rfl]
        show (∃ e nu wh, NumS b len s e True nu wh ∧ s < e ∧ e ≤ len ∧ (if lg_cmp (n64 (10 ^ (q2 - (q + 1)))) 10000 ≤ 0 then _ else _) = _) ∨ _ ∧ (if lg_cmp (n64 (10 ^ (q2 - (q + 1)))) 10000 ≤ 0 then _ else _) = _
        by_cases c4 : q2 - (q + 1) ≤ 4
        · have hnq2 : ¬ isDt (cB b len q2) := by
            rcases b5 with g2 | g2
            · exact g2
            · omega
          have hFN2 : FN (fun r => isDt (cB b len r)) (q + 1) q2 := ⟨by omega, b4, hnq2⟩
          have hp4 : 10 ^ (q2 - (q + 1)) ≤ 10000 := by
            have : ∀ j, j ≤ 4 → 10 ^ j ≤ 10000 := by decide
            exact this _ c4
          rw [ifT (lg_le.mpr (by rw [show (10000 : Int64) = n64 10000 from rfl, n64_lt (by decide) (by omega)]; omega))]
          unfold KJ_X2_numeral_181
          have hf := dec_lt (b := b) (fun _ _ => trivial) (p := q + 1) (q2 - (q + 1)) (fun i hi => by
            have := b4 (q + 1 + i) (by omega) (by omega)
            rw [cB_lt (dt_lt this)] at this
            exact this)
          rw [k_num183 ht h hv hf c4]
          by_cases c5 : dec b s (q - s) < 32767 ∨ dec b s (q - s) = 32767 ∧ dec b (q + 1) (q2 - (q + 1)) = 0
          · left
            rw [ifT c5]
            refine ⟨q2, _, 0, ⟨q, hFN, Or.inl ⟨c46, g, q2, hFN2, ⟨fun _ => ⟨c, c4, c5⟩, fun _ => trivial⟩, fun _ => ⟨rfl, rfl, rfl⟩⟩⟩, by omega, hq2l, rfl⟩
          · right
            rw [ifF c5]
            exact ⟨fun e nu wh => ⟨q, hFN, Or.inl ⟨c46, g, q2, hFN2, ⟨fun f => f.elim, fun g => c5 g.2.2⟩, fun f => f.elim⟩⟩, rfl⟩
        · have e5 : q2 - (q + 1) = 5 := by omega
          rw [ifF (fun q' => lg_le.mp q' (show (10000 : Int64) < _ by rw [e5]; decide))]
          unfold KJ_X2_numeral_176 KJ_X2_numeral_181
          rw [k_num183b ht h]
          right
          obtain ⟨d2, hd2⟩ := FN_dt b len (q + 1)
          have hd2' : q2 ≤ d2 := by
            rcases Nat.lt_or_ge d2 q2 with g1 | g1
            · exact absurd (b4 d2 hd2.1 g1) hd2.2.2
            · exact g1
          exact ⟨fun e nu wh => ⟨q, hFN, Or.inl ⟨c46, g, d2, hd2, ⟨fun f => f.elim, fun g => by omega⟩, fun f => f.elim⟩⟩, rfl⟩
      · rw [e, ob_some, ifT rfl]
        exact plain (fun q' => g q'.2)
    · rw [ifF c46]
      exact plain (fun q' => c46 q'.1)
  · right
    have e6 : q = s + 6 := by omega
    obtain ⟨d1, hd1⟩ := FN_dt b len s
    have hd1' : q ≤ d1 := by
      rcases Nat.lt_or_ge d1 q with g1 | g1
      · exact absurd (a4 d1 hd1.1 g1) hd1.2.2
      · exact g1
    refine ⟨fun e nu wh => num_bad1 hd1 (by omega) (fun f => f), ?_⟩
    rw [ifF (by rw [nI_leL (by omega) (by decide)]; exact c)]
    unfold KJ_X2_numeral_63
    rw [ptK_byte T (by omega), ob_some]
    by_cases c46 : cB b len q = 46
    · rw [ifT c46, nI_addL, ptK_byte T (by omega), ob_some]
      rcases ptK_digit (cB b len (q + 1)) M with ⟨g, e⟩ | ⟨g, e⟩
      · rw [e, ob_some, ifF (by decide), nm_eq]
        obtain ⟨q2, b1, b2, b3, b4, b5⟩ := ptK_num2 (s := q + 1) (x1 := nI s) (x5 := 1) (x6 := 0) (x3 := n64 (dec b s (q - s))) T _ (q + 1) FU rfl (by show len + 1 - (q + 1) < 4611686018427387904; omega) (Nat.le_refl _) (by omega) (by omega) (fun r h1 h2 => by omega)
        rw [Nat.sub_self] at b1
        rw [show (0 : Int64) = n64 (dec b (q + 1) 0) from rfl, show (1 : Int64) = n64 (10 ^ 0) from rfl, b1, ob_some]
        unfold KJ_X2_numeral_162
        rw [ifF (by decide)]
        unfold KJ_X2_numeral_176 KJ_X2_numeral_181
        exact k_num183b ht h
      · rw [e, ob_some, ifT rfl]
        exact k_num183b ht h
    · rw [ifF c46]
      exact k_num183b ht h
end KNUM
