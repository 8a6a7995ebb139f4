/-! Layer B: the twin reads a token: signs, words, all -/
set_option maxRecDepth 100000
theorem two_all {c d : Int32} {α : Type} (A B : α) : ((if c = 60 then (if d = 61 then A else if d = 62 then A else (if c = 62 then (if d = 61 then A else (if c = 61 then (if d = 61 then A else B) else B)) else (if c = 61 then (if d = 61 then A else B) else B))) else (if c = 62 then (if d = 61 then A else (if c = 61 then (if d = 61 then A else B) else B)) else (if c = 61 then (if d = 61 then A else B) else B))) = A ∧ isTwo c d) ∨ ((if c = 60 then (if d = 61 then A else if d = 62 then A else (if c = 62 then (if d = 61 then A else (if c = 61 then (if d = 61 then A else B) else B)) else (if c = 61 then (if d = 61 then A else B) else B))) else (if c = 62 then (if d = 61 then A else (if c = 61 then (if d = 61 then A else B) else B)) else (if c = 61 then (if d = 61 then A else B) else B))) = B ∧ ¬ isTwo c d) := by
  by_cases c60 : c = 60
  · by_cases d61 : d = 61
    · left; exact ⟨by rw [ifT c60, ifT d61], Or.inl ⟨c60, Or.inl d61⟩⟩
    · by_cases d62 : d = 62
      · left; exact ⟨by rw [ifT c60, ifF d61, ifT d62], Or.inl ⟨c60, Or.inr d62⟩⟩
      · rw [ifT c60, ifF d61, ifF d62]
        exact two_225 A B (Or.inr ⟨d61, d62⟩)
  · rw [ifF c60]
    exact two_225 A B (Or.inl c60)
theorem sg_78 (c d : Int32) (σ : TS) : (isSg c ∧ J_readSign_78 c d 0 σ = some ((), σ)) ∨ (¬ isSg c ∧ J_readSign_78 c d 0 σ = some ((), tsI σ 11 4)) := by
  unfold J_readSign_78
  rw [ifT rfl]
  by_cases h : isSg c
  · left
    refine ⟨h, ?_⟩
    rcases h with h | h | h | h | h | h | h | h | h | h | h | h | h | h | h <;> subst h <;> rfl
  · right
    refine ⟨h, ?_⟩
    rw [ifF (fun z => h (by simp [isSg, z])), ifF (fun z => h (by simp [isSg, z])), ifF (fun z => h (by simp [isSg, z])), ifF (fun z => h (by simp [isSg, z])), ifF (fun z => h (by simp [isSg, z])), ifF (fun z => h (by simp [isSg, z])), ifF (fun z => h (by simp [isSg, z])), ifF (fun z => h (by simp [isSg, z])), ifF (fun z => h (by simp [isSg, z])), ifF (fun z => h (by simp [isSg, z])), ifF (fun z => h (by simp [isSg, z])), ifF (fun z => h (by simp [isSg, z])), ifF (fun z => h (by simp [isSg, z])), ifF (fun z => h (by simp [isSg, z])), ifF (fun z => h (by simp [isSg, z])), nm_eq]
section TNEXT
variable {σ : TS} {b : Nat → Int32} {len : Nat}
theorem t_sign (T : TapeT σ b len) {s : Nat} (h10 : tI σ 10 = nI s) (h12 : tI σ 12 = nI s) (hs : s < len) : ∃ σ' e kd sg, F_readSign (b s &&& 255) σ = some ((), σ') ∧ ((isTwo (b s) (cB b len (s + 1)) ∧ kd = 3 ∧ e = s + 2 ∧ sg = 256 * b s + cB b len (s + 1)) ∨ (¬ isTwo (b s) (cB b len (s + 1)) ∧ isSg (b s) ∧ kd = 3 ∧ e = s + 1 ∧ sg = b s) ∨ (¬ isSg (b s) ∧ kd = 4)) ∧ CurT σ' len s e kd 0 sg 0 0 := by
  have hlen := T.2.1
  have hb := (T.2.2 s hs).2
  have hcb := T.cb (s + 1)
  have T1 : TapeT (tsI σ 11 3) b len := ⟨T.1, T.2.1, T.2.2⟩
  unfold F_readSign
  have e10 : tI (tsI σ 11 3) 10 = nI s := h10
  rw [nm_eq, e10, nI_addL, tb_at T1 (by omega), ob_some, nm_eq, nm_eq]
  have e10' : tI (tsI (tsI σ 11 3) 14 (b s &&& 255)) 10 = nI s := h10
  rw [e10', nI_addL]
  unfold J_readSign_49 J_readSign_61
  rcases two_all (c := b s &&& 255) (d := cB b len (s + 1) &&& 255) (J_readSign_73 (b s &&& 255) (cB b len (s + 1) &&& 255) (tsI (tsI (tsI σ 11 3) 14 (b s &&& 255)) 10 (nI (s + 1)))) (J_readSign_77 (b s &&& 255) (cB b len (s + 1) &&& 255) (tsI (tsI (tsI σ 11 3) 14 (b s &&& 255)) 10 (nI (s + 1)))) with ⟨e, h⟩ | ⟨e, h⟩
  · rw [e]
    have h' := (and_two hb hcb).mp h
    unfold J_readSign_73 J_readSign_78
    rw [ifF (by decide), nm_eq, nm_eq]
    have hs2 : s + 2 ≤ len := by
      rcases Nat.lt_or_ge (s + 1) len with g | g
      · omega
      · rw [cB_0 g] at h'
        rcases h' with ⟨_, q | q⟩ | ⟨_, q⟩ | ⟨_, q⟩ <;> exact absurd q (by decide)
    refine ⟨_, s + 2, 3, 256 * b s + cB b len (s + 1), rfl, Or.inl ⟨h', rfl, rfl, rfl⟩, rfl, h12, fun q => absurd q (by decide), fun q => absurd q (by decide), fun _ => ?_, s + 2, hs2, ?_, fun _ => rfl⟩
    · show (b s &&& 255) <<< (8 &&& 31) ||| (cB b len (s + 1) &&& 255) = _
      rcases h' with ⟨q1, q2 | q2⟩ | ⟨q1, q2⟩ | ⟨q1, q2⟩ <;> rw [q1, q2] <;> decide
    · show nI (s + 1) + 1 = nI (s + 2)
      rw [nI_addL]
  · rw [e]
    have h' : ¬ isTwo (b s) (cB b len (s + 1)) := fun q => h ((and_two hb hcb).mpr q)
    unfold J_readSign_77
    rcases sg_78 (b s &&& 255) (cB b len (s + 1) &&& 255) (tsI (tsI (tsI σ 11 3) 14 (b s &&& 255)) 10 (nI (s + 1))) with ⟨g, e2⟩ | ⟨g, e2⟩
    · have g' := (and_sg hb).mp g
      rw [e2]
      refine ⟨_, s + 1, 3, b s, rfl, Or.inr (Or.inl ⟨h', g', rfl, rfl, rfl⟩), rfl, h12, fun q => absurd q (by decide), fun q => absurd q (by decide), fun _ => ?_, s + 1, hs, rfl, fun _ => rfl⟩
      show b s &&& 255 = b s
      rcases byte_cases hb with ⟨_, _, q⟩ | ⟨q, _⟩
      · exact q
      · rcases g' with z | z | z | z | z | z | z | z | z | z | z | z | z | z | z <;> (rw [z] at q; exact absurd q (by decide))
    · rw [e2]
      exact ⟨_, 0, 4, 0, rfl, Or.inr (Or.inr ⟨fun q => g ((and_sg hb).mpr q), rfl⟩), rfl, h12, fun q => absurd q (by decide), fun q => absurd q (by decide), fun q => absurd q (by decide), s + 1, hs, rfl, fun q => absurd rfl q⟩
theorem t_longs (T : TapeT σ b len) {s q : Nat} (h12 : tI σ 12 = nI s) (h11 : tI σ 11 = 1) (h10 : tI σ 10 = nI s) (hs : s ≤ q) (hq : q ≤ len) (h8 : 8 < q - s) : ∃ σ' kd wd, J_next_195 (nI q) σ = some ((), σ') ∧ ((∃ j, j < 38 ∧ isKwB b j s (q - s) ∧ kd = 1 ∧ wd = kco j) ∨ ((∀ j, j < 38 → ¬ isKwB b j s (q - s)) ∧ kd = 4)) ∧ CurT σ' len s q kd wd 0 0 0 := by
  have hlen := T.2.1
  unfold J_next_195
  rw [h10, nI_sub hs, ifF (by rw [nI_leL (by omega) (by decide)]; show ¬ q - s ≤ 8; omega), nm_eq]
  have T1 : TapeT (tsI σ 13 (nI q)) b len := ⟨T.1, T.2.1, T.2.2⟩
  have fin : ∀ (j : Nat) (y : Int64), j < 38 → isKwB b j s (q - s) → y = kco j → y ≠ 0 → ∃ σ' kd wd, J_next_277 (nI q) y (tsI σ 13 (nI q)) = some ((), σ') ∧ ((∃ j, j < 38 ∧ isKwB b j s (q - s) ∧ kd = 1 ∧ wd = kco j) ∨ ((∀ j, j < 38 → ¬ isKwB b j s (q - s)) ∧ kd = 4)) ∧ CurT σ' len s q kd wd 0 0 0 := by
    intro j y hj hk hy hne
    unfold J_next_277 J_next_294
    rw [nm_eq, ifF, nm_eq]
    · obtain ⟨σ', c1, c2⟩ := t_321 (σ := tsI (tsL (tsI σ 13 (nI q)) 16 y) 10 (nI q)) (len := len) (s := s) (e := q) (kd := 1) (wd := y) (sg := 0) (nu := 0) (wh := 0) ⟨h11, h12, fun _ => rfl, fun z => absurd z (by decide), fun z => absurd z (by decide), q, hq, rfl, fun _ => rfl⟩
      exact ⟨σ', 1, y, c1, Or.inl ⟨j, hj, hk, rfl, hy⟩, c2⟩
    · intro z
      have z : lg_cmp y 0 = 0 := z
      unfold lg_cmp at z
      by_cases g : y > 0
      · rw [if_pos g] at z; exact absurd z (by decide)
      · rw [if_neg g, if_neg hne] at z; exact absurd z (by decide)
  rcases t_isLong T1 (j := 0) (J := 1) h12 rfl hs hq (by decide) (by decide) (by decide) (by decide) with ⟨e, g⟩ | ⟨e, g0⟩
  · rw [e, ob_some, ifF (by decide)]; exact fin 1 (-10) (by decide) g (by decide) (by decide)
  rw [e, ob_some, ifT rfl]
  rcases t_isLong T1 (j := 1) (J := 5) h12 rfl hs hq (by decide) (by decide) (by decide) (by decide) with ⟨e, g⟩ | ⟨e, g1⟩
  · rw [e, ob_some, ifF (by decide)]; exact fin 5 (-11) (by decide) g (by decide) (by decide)
  rw [e, ob_some, ifT rfl]
  rcases t_isLong T1 (j := 2) (J := 11) h12 rfl hs hq (by decide) (by decide) (by decide) (by decide) with ⟨e, g⟩ | ⟨e, g2⟩
  · rw [e, ob_some, ifF (by decide)]; exact fin 11 (-12) (by decide) g (by decide) (by decide)
  rw [e, ob_some, ifT rfl]
  rcases t_isLong T1 (j := 3) (J := 10) h12 rfl hs hq (by decide) (by decide) (by decide) (by decide) with ⟨e, g⟩ | ⟨e, g3⟩
  · rw [e, ob_some, ifF (by decide)]; exact fin 10 (-13) (by decide) g (by decide) (by decide)
  rw [e, ob_some, ifT rfl]
  unfold J_next_277 J_next_294
  rw [nm_eq, ifT (by rfl), nm_eq, nm_eq]
  obtain ⟨σ', c1, c2⟩ := t_321 (σ := tsI (tsI (tsL (tsI σ 13 (nI q)) 16 0) 11 4) 10 (nI q)) (len := len) (s := s) (e := q) (kd := 4) (wd := 0) (sg := 0) (nu := 0) (wh := 0) ⟨rfl, h12, fun z => absurd z (by decide), fun z => absurd z (by decide), fun z => absurd z (by decide), q, hq, rfl, fun z => absurd rfl z⟩
  refine ⟨σ', 4, 0, c1, Or.inr ⟨fun j hj hk => ?_, rfl⟩, c2⟩
  rcases long_keys j hj (by rw [← hk.1]; exact h8) with z | z | z | z <;> subst z
  · exact g0 hk
  · exact g1 hk
  · exact g3 hk
  · exact g2 hk
/-- the twin reads the token behind a place -/
theorem t_next (T : TapeT σ b len) {p : Nat} (h10 : tI σ 10 = nI p) (hp : p ≤ len) : ∃ σ' s e kd wd sg nu wh, F_next σ = some ((), σ') ∧ TokS b len p s e kd wd sg nu wh ∧ CurT σ' len s e kd wd sg nu wh := by
  have hlen := T.2.1
  unfold F_next
  obtain ⟨s, σ1, a1, a2, F, hs, T1⟩ := t_skip (len - p) p FU σ rfl (by show len - p < 4611686018427387904; omega) hp T h10
  rw [a1, ob_some]
  unfold J_next_38
  rw [nm_eq, nm_eq]
  have T2 : TapeT (tsI (tsI σ1 12 (tI σ1 10)) 18 (tI (tsI σ1 12 (tI σ1 10)) 18 + 1)) b len := ⟨T1.1, T1.2.1, T1.2.2⟩
  have b10 : tI (tsI (tsI σ1 12 (tI σ1 10)) 18 (tI (tsI σ1 12 (tI σ1 10)) 18 + 1)) 10 = nI s := a2
  have b12 : tI (tsI (tsI σ1 12 (tI σ1 10)) 18 (tI (tsI σ1 12 (tI σ1 10)) 18 + 1)) 12 = nI s := a2
  generalize tsI (tsI σ1 12 (tI σ1 10)) 18 (tI (tsI σ1 12 (tI σ1 10)) 18 + 1) = σ2 at T2 b10 b12 ⊢
  rw [b10, T2.1]
  by_cases c : s = len
  · subst c
    rw [ifT rfl, nm_eq, nm_eq]
    exact ⟨_, s, s, 0, 0, 0, 0, 0, rfl, ⟨F, Nat.le_refl _, Or.inl ⟨rfl, rfl, rfl⟩⟩, rfl, b12, fun z => absurd z (by decide), fun z => absurd z (by decide), fun z => absurd z (by decide), s, Nat.le_refl _, b10, fun _ => rfl⟩
  · have hsl : s < len := by omega
    have hb := (T2.2.2 s hsl).2
    rw [ifF (fun z => c ((bI_eq (by omega) (by omega)).mp z)), tb_at T2 (by omega), ob_some, cB_lt hsl]
    rcases t_letter (b s &&& 255) σ2 with ⟨hl, e⟩ | ⟨hl, e⟩
    · have hl' := (and_lt hb).mp hl
      obtain ⟨q, q1, q2⟩ := t_word T2 (len + 1 - s) s FU rfl (by show len + 1 - s < 4611686018427387904; omega) (by omega)
      have hql : q ≤ len := by
        rcases Nat.lt_or_ge len q with h | h
        · exact absurd (show chOK (cB b len len) from q2.2.1 len (by omega) h) (by rw [cB_0 (Nat.le_refl _)]; exact not_ch0)
        · exact h
      have hsq : s < q := by
        rcases Nat.lt_or_ge s q with h | h
        · exact h
        · have : q = s := by have := q2.1; omega
          subst this
          exact absurd (show chOK (cB b len q) from by rw [cB_lt hsl]; exact Or.inl hl') q2.2.2
      rw [e, ob_some, ifF (by decide), nm_eq, b10, q1, ob_some, nm_eq, nm_eq, nm_eq]
      have d10 : tI (tsL (tsI σ2 11 1) 16 0) 10 = nI s := b10
      rw [d10]
      have T3 : TapeT (tsL (tsI σ2 11 1) 16 0) b len := ⟨T2.1, T2.2.1, T2.2.2⟩
      obtain ⟨σ3, r1, r2⟩ := t_pack (s := s) (q := q) hql (min q (s + 8) - s) s FU (tsL (tsI σ2 11 1) 16 0) rfl (by show min q (s + 8) - s < 4611686018427387904; omega) (Nat.le_refl _) (by omega) T3 d10 (by rw [Nat.sub_self]; rfl)
      have fr := fS_L_next_155 _ _ _ _ _ _ r1
      rw [r1, ob_some]
      have T4 : TapeT σ3 b len := T3.kp fr rfl rfl
      have g10 : tI σ3 10 = nI s := by rw [(fr 10 rfl).1]; exact d10
      have g12 : tI σ3 12 = nI s := by rw [(fr 12 rfl).1]; exact b12
      have g11 : tI σ3 11 = 1 := by rw [(fr 11 rfl).1]; rfl
      by_cases c8 : q - s ≤ 8
      · unfold J_next_195 J_next_294
        rw [g10, nI_sub (by omega), ifT ((nI_leL (by omega) (by decide)).mpr c8), nm_eq]
        rw [show min (q - s) 8 = q - s by omega] at r2
        obtain ⟨σ', c1, c2⟩ := t_321 (σ := tsI σ3 10 (nI q)) (len := len) (s := s) (e := q) (kd := 1) (wd := pk b s (q - s)) (sg := 0) (nu := 0) (wh := 0) ⟨g11, g12, fun _ => r2, fun z => absurd z (by decide), fun z => absurd z (by decide), q, hql, rfl, fun _ => rfl⟩
        refine ⟨σ', s, q, 1, pk b s (q - s), 0, 0, 0, c1, ⟨F, hs, Or.inr (Or.inl ⟨hsl, hl', q, q2, ?_⟩)⟩, c2⟩
        by_cases hk : ∃ j, j < 38 ∧ isKwB b j s (q - s)
        · obtain ⟨j, hj, hk⟩ := hk
          exact Or.inl ⟨j, hj, hk, rfl, rfl, kw_kco hj c8 hk⟩
        · exact Or.inr ⟨fun j hj z => hk ⟨j, hj, z⟩, Or.inl ⟨c8, rfl, rfl, rfl⟩⟩
      · obtain ⟨σ', kd, wd, c1, c2, c3⟩ := t_longs T4 g12 g11 g10 (by omega) hql (by omega)
        rcases c2 with ⟨j, hj, hk, hkd, hwd⟩ | ⟨hk, hkd⟩
        · exact ⟨σ', s, q, kd, wd, 0, 0, 0, c1, ⟨F, hs, Or.inr (Or.inl ⟨hsl, hl', q, q2, Or.inl ⟨j, hj, hk, hkd, rfl, hwd⟩⟩)⟩, c3⟩
        · exact ⟨σ', s, q, kd, wd, 0, 0, 0, c1, ⟨F, hs, Or.inr (Or.inl ⟨hsl, hl', q, q2, Or.inr ⟨hk, Or.inr ⟨by omega, hkd⟩⟩⟩)⟩, c3⟩
    · have hl' : ¬ isLt (b s) := fun z => hl ((and_lt hb).mpr z)
      rw [e, ob_some, ifT rfl]
      rcases t_digit (b s &&& 255) σ2 with ⟨hd, e⟩ | ⟨hd, e⟩
      · have hd' := (and_dt hb).mp hd
        rw [e, ob_some, ifF (by decide)]
        obtain ⟨σ3, q, kd, nu, wh, n1, n2, n3, n4⟩ := t_numeral T2 b10 b12 hsl hd'
        rw [n1, ob_some]
        obtain ⟨σ', c1, c2⟩ := t_321 n4
        exact ⟨σ', s, q, kd, 0, 0, nu, wh, c1, ⟨F, hs, Or.inr (Or.inr (Or.inl ⟨hsl, hd', n2, n3⟩))⟩, c2⟩
      · have hd' : ¬ isDt (b s) := fun z => hd ((and_dt hb).mpr z)
        rw [e, ob_some, ifT rfl]
        obtain ⟨σ3, q, kd, sg, n1, n2, n3⟩ := t_sign T2 b10 b12 hsl
        rw [n1, ob_some]
        obtain ⟨σ', c1, c2⟩ := t_321 n3
        exact ⟨σ', s, q, kd, 0, sg, 0, 0, c1, ⟨F, hs, Or.inr (Or.inr (Or.inr ⟨hsl, hl', hd', n2⟩))⟩, c2⟩
end TNEXT
/-- a token is one alone -/
theorem TokS.uq {b : Nat → Int32} {len p s e kd s' e' kd' : Nat} {wd wd' : Int64} {sg sg' nu nu' wh wh' : Int32} (h : TokS b len p s e kd wd sg nu wh) (h' : TokS b len p s' e' kd' wd' sg' nu' wh') : s' = s ∧ kd' = kd ∧ (kd ≠ 4 → e' = e) ∧ (kd = 1 → wd' = wd) ∧ (kd = 2 → nu' = nu ∧ wh' = wh) ∧ (kd = 3 → sg' = sg) := by
  obtain ⟨F, hs, h⟩ := h
  obtain ⟨F', hs', h'⟩ := h'
  have es := F.uniq F'
  subst es
  refine ⟨rfl, ?_⟩
  rcases h with ⟨a1, a2, a3⟩ | ⟨a1, a2, q, Q, h⟩ | ⟨a1, a2, a3, d1, D1, h⟩ | ⟨a1, a2, a3, h⟩
  · rcases h' with ⟨b1, b2, b3⟩ | ⟨b1, _⟩ | ⟨b1, _⟩ | ⟨b1, _⟩
    · subst a2; subst b2; subst a3; subst b3
      exact ⟨rfl, fun _ => rfl, fun z => absurd z (by decide), fun z => absurd z (by decide), fun z => absurd z (by decide)⟩
    all_goals omega
  · rcases h' with ⟨b1, b2, b3⟩ | ⟨b1, b2, q', Q', h'⟩ | ⟨b1, b2, _⟩ | ⟨b1, b2, _⟩
    · omega
    · have eq := Q.uniq Q'
      subst eq
      have kwu : ∀ j j', j < 38 → j' < 38 → isKwB b j s (q - s) → isKwB b j' s (q - s) → kco j = kco j' := by
        intro j j' hj hj' k1 k2
        have aux : ∀ j, j < 38 → ∀ j', j' < 38 → klen j = klen j' → (∀ r, r < 11 → r < klen j → kb j r = kb j' r) → kco j = kco j' := by decide +kernel
        exact aux j hj j' hj' (by rw [← k1.1, ← k2.1]) (fun r _ hr => by rw [k1.2 r (by rw [k1.1]; exact hr), k2.2 r (by rw [k1.1]; exact hr)])
      rcases h with ⟨j, hj, k1, rfl, rfl, rfl⟩ | ⟨k1, ⟨h8, rfl, rfl, rfl⟩ | ⟨h8, rfl⟩⟩
      · rcases h' with ⟨j', hj', k1', rfl, rfl, rfl⟩ | ⟨k1', _⟩
        · exact ⟨rfl, fun _ => rfl, fun _ => kwu j' j hj' hj k1' k1, fun z => absurd z (by decide), fun z => absurd z (by decide)⟩
        · exact absurd k1 (k1' j hj)
      · rcases h' with ⟨j', hj', k1', _⟩ | ⟨k1', ⟨h8', rfl, rfl, rfl⟩ | ⟨h8', rfl⟩⟩
        · exact absurd k1' (k1 j' hj')
        · exact ⟨rfl, fun _ => rfl, fun _ => rfl, fun z => absurd z (by decide), fun z => absurd z (by decide)⟩
        · omega
      · rcases h' with ⟨j', hj', k1', _⟩ | ⟨k1', ⟨h8', rfl, rfl, rfl⟩ | ⟨h8', rfl⟩⟩
        · exact absurd k1' (k1 j' hj')
        · omega
        · exact ⟨rfl, fun z => absurd rfl z, fun z => absurd z (by decide), fun z => absurd z (by decide), fun z => absurd z (by decide)⟩
    · exact absurd b2 (fun z => absurd (Int32.le_trans a2.1 z.2) (by decide))
    · exact absurd a2 b2
  · rcases h' with ⟨b1, b2, b3⟩ | ⟨b1, b2, _⟩ | ⟨b1, b2, b3, d1', D1', h'⟩ | ⟨b1, b2, b3', _⟩
    · omega
    · exact absurd a2 (fun z => absurd (Int32.le_trans b2.1 z.2) (by decide))
    · have ed := D1.uniq D1'
      subst ed
      have key : (kd = 2 ↔ kd' = 2) ∧ (kd = 2 → kd' = 2 → e' = e ∧ nu' = nu ∧ wh' = wh) := by
        rcases h with ⟨c1, c2, d2, D2, k1, k2⟩ | ⟨c1, k1, k2⟩
        · rcases h' with ⟨c1', c2', d2', D2', k1', k2'⟩ | ⟨c1', _⟩
          · have ed := D2.uniq D2'
            subst ed
            refine ⟨by rw [k1, k1'], fun z z' => ?_⟩
            obtain ⟨x1, x2, x3⟩ := k2 z
            obtain ⟨y1, y2, y3⟩ := k2' z'
            exact ⟨by rw [x1, y1], by rw [x3, y3], by rw [x2, y2]⟩
          · exact absurd ⟨c1, c2⟩ c1'
        · rcases h' with ⟨c1', c2', _⟩ | ⟨c1', k1', k2'⟩
          · exact absurd ⟨c1', c2'⟩ c1
          · refine ⟨by rw [k1, k1'], fun z z' => ?_⟩
            obtain ⟨x1, x2, x3⟩ := k2 z
            obtain ⟨y1, y2, y3⟩ := k2' z'
            exact ⟨by rw [x1, y1], by rw [x3, y3], by rw [x2, y2]⟩
      rcases a3 with rfl | rfl
      · have e2 := key.1.mp rfl
        subst e2
        obtain ⟨x1, x2, x3⟩ := key.2 rfl rfl
        exact ⟨rfl, fun _ => x1, fun z => absurd z (by decide), fun _ => ⟨x2, x3⟩, fun z => absurd z (by decide)⟩
      · rcases b3 with rfl | rfl
        · exact absurd (key.1.mpr rfl) (by decide)
        · exact ⟨rfl, fun z => absurd rfl z, fun z => absurd z (by decide), fun z => absurd z (by decide), fun z => absurd z (by decide)⟩
    · exact absurd a2 b3'
  · rcases h' with ⟨b1, b2, b3⟩ | ⟨b1, b2, _⟩ | ⟨b1, b2, b3, _⟩ | ⟨b1, b2, b3, h'⟩
    · omega
    · exact absurd b2 a2
    · exact absurd b2 a3
    · have tsg : isTwo (b s) (cB b len (s + 1)) → isSg (b s) := by
        rintro (⟨z, _⟩ | ⟨z, _⟩ | ⟨z, _⟩) <;> simp [isSg, z]
      rcases h with ⟨c1, rfl, rfl, rfl⟩ | ⟨c1, c2, rfl, rfl, rfl⟩ | ⟨c2, rfl⟩
      · rcases h' with ⟨d1, rfl, rfl, rfl⟩ | ⟨d1, d2, rfl, rfl, rfl⟩ | ⟨d2, rfl⟩
        · exact ⟨rfl, fun _ => rfl, fun z => absurd z (by decide), fun z => absurd z (by decide), fun _ => rfl⟩
        · exact absurd c1 d1
        · exact absurd (tsg c1) d2
      · rcases h' with ⟨d1, rfl, rfl, rfl⟩ | ⟨d1, d2, rfl, rfl, rfl⟩ | ⟨d2, rfl⟩
        · exact absurd d1 c1
        · exact ⟨rfl, fun _ => rfl, fun z => absurd z (by decide), fun z => absurd z (by decide), fun _ => rfl⟩
        · exact absurd c2 d2
      · rcases h' with ⟨d1, rfl, rfl, rfl⟩ | ⟨d1, d2, rfl, rfl, rfl⟩ | ⟨d2, rfl⟩
        · exact absurd (tsg d1) c2
        · exact absurd d2 c2
        · exact ⟨rfl, fun z => absurd rfl z, fun z => absurd z (by decide), fun z => absurd z (by decide), fun z => absurd z (by decide)⟩
