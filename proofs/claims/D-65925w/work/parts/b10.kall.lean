/-! Layer B: the loop over the text -/
set_option maxRecDepth 100000
section KALL
variable {M0 : CM} {m0 L0 len : Nat} {b : Nat → Int32}
/-- what the loop comes to: all is read, or a token that is none -/
def LexO (M0 : CM) (m0 L0 len : Nat) (b : Nat → Int32) (o : Option ((Unit ⊕ Unit) × CM)) : Prop := (∃ M m L t pos, o = some (.inl (), M) ∧ LexI M0 M m0 L0 m L b len t t pos ∧ FN (fun r => r < len ∧ isWt (b r)) (pos t) len) ∨ ∃ M m L t pos e, o = some (.inr (), M) ∧ LexI M0 M m0 L0 m L b len (t + 1) t pos ∧ TokK M m b len t (pos t) e 4
theorem k_sign242 {M : CM} {m L t k : Nat} {pos : Nat → Nat} (I : LexI M0 M m0 L0 m L b len t t pos) (hk : k < len) (hW : FN (fun r => r < len ∧ isWt (b r)) (pos t) k) (hl : ¬ isLt (b k)) (hd : ¬ isDt (b k)) {y : Int32} (hy : (y = 1 ∧ isTwo (b k) (cB b len (k + 1))) ∨ (y = 0 ∧ ¬ isTwo (b k) (cB b len (k + 1)))) {f : Nat} (IH : ∀ k' M m L t pos, k < k' → k' ≤ len → LexI M0 M m0 L0 m L b len t t pos → pos t ≤ k' → (∀ r, pos t ≤ r → r < k' → isWt (b r)) → LexO M0 m0 L0 len b (KL_X2_tokens_7 f (nI k') M)) : LexO M0 m0 L0 len b (KJ_X2_tokens_242_7 (KL_X2_tokens_7 f) (nI k) (b k) (cB b len (k + 1)) y M) := by
  have hlen := I.tape.2.1
  have hbk := (I.2.2.2.2.1 k hk).2
  have ht := I.2.2.2.2.2.1
  obtain ⟨hp0, hp1, hp2⟩ := I.2.2.2.2.2.2.1
  have hkp := hW.1
  unfold KJ_X2_tokens_242_7
  rw [ifT (Or.inl (by decide))]
  rcases k_sg M hbk with ⟨hs, r, e, hr⟩ | ⟨hs, e⟩
  · rw [e, ob_some, ifT ((nI_Lle (by omega) (by decide)).mpr (Nat.zero_le _))]
    rcases hy with ⟨rfl, hy⟩ | ⟨rfl, hy⟩
    · rw [ifF (by decide), k_token ht (by omega), ob_some, ifF (by decide), nm_eq, nI_addL]
      have hk2 : k + 2 ≤ len := by
        rcases Nat.lt_or_ge (k + 1) len with g | g
        · omega
        · rw [cB_0 g] at hy
          rcases hy with ⟨_, q | q⟩ | ⟨_, q⟩ | ⟨_, q⟩ <;> exact absurd q (by decide)
      have hT : TokK (tkM M t (256 * b k + cB b len (k + 1)) 0 (nI k)) m b len t (pos t) (k + 2) 3 := by
        obtain ⟨-, -, -, -, -, -, -, -, a1, a2, a3, a4⟩ := tkM_1 M t (256 * b k + cB b len (k + 1)) 0 (nI k)
        exact ⟨k, 0, _, 0, 0, ⟨hW, by omega, Or.inr (Or.inr (Or.inr ⟨hk, hl, hd, Or.inl ⟨hy, rfl, rfl, rfl⟩⟩))⟩, a4, Or.inr (Or.inr (Or.inr (Or.inl ⟨rfl, a1⟩)))⟩
      refine IH (k + 2) _ m L (t + 1) _ (by omega) (by omega) (I.add (OfI.rf I.1 I.2.1) (tkM_1 M t _ _ _) (Or.inr (Or.inr rfl)) hT (by omega) hk2) ?_ ?_
      · rw [ifF (by omega)]; exact Nat.le_refl _
      · intro r h1 h2
        rw [ifF (by omega)] at h1; omega
    · rw [ifT rfl, k_token ht (by omega), ob_some, ifT rfl, nm_eq, nI_addL]
      have hT : TokK (tkM M t (b k) 0 (nI k)) m b len t (pos t) (k + 1) 3 := by
        obtain ⟨-, -, -, -, -, -, -, -, a1, a2, a3, a4⟩ := tkM_1 M t (b k) 0 (nI k)
        exact ⟨k, 0, _, 0, 0, ⟨hW, by omega, Or.inr (Or.inr (Or.inr ⟨hk, hl, hd, Or.inr (Or.inl ⟨hy, hs, rfl, rfl, rfl⟩)⟩))⟩, a4, Or.inr (Or.inr (Or.inr (Or.inl ⟨rfl, a1⟩)))⟩
      refine IH (k + 1) _ m L (t + 1) _ (by omega) (by omega) (I.add (OfI.rf I.1 I.2.1) (tkM_1 M t _ _ _) (Or.inr (Or.inr rfl)) hT (by omega) (by omega)) ?_ ?_
      · rw [ifF (by omega)]; exact Nat.le_refl _
      · intro r h1 h2
        rw [ifF (by omega)] at h1; omega
  · rw [e, ob_some, ifF (by decide), k_token ht (by omega), ob_some]
    right
    have hT : TokK (tkM M t 3 0 (nI k)) m b len t (pos t) 0 4 := by
      obtain ⟨-, -, -, -, -, -, -, -, a1, a2, a3, a4⟩ := tkM_1 M t 3 0 (nI k)
      exact ⟨k, 0, 0, 0, 0, ⟨hW, by omega, Or.inr (Or.inr (Or.inr ⟨hk, hl, hd, Or.inr (Or.inr ⟨hs, rfl⟩)⟩))⟩, a4, Or.inr (Or.inr (Or.inr (Or.inr ⟨rfl, a1⟩)))⟩
    obtain ⟨g1, g2⟩ := I.fin (tkM_1 M t 3 0 (nI k)) hT
    exact ⟨_, m, L, t, pos, 0, rfl, g1, g2⟩
theorem two_225 {c d : Int32} {α : Type} (A B : α) (h60 : c ≠ 60 ∨ (d ≠ 61 ∧ d ≠ 62)) : (if c = 62 then (if d = 61 then A else (if c = 61 then (if d = 61 then A else B) else B)) else (if c = 61 then (if d = 61 then A else B) else B)) = A ∧ isTwo c d ∨ (if c = 62 then (if d = 61 then A else (if c = 61 then (if d = 61 then A else B) else B)) else (if c = 61 then (if d = 61 then A else B) else B)) = B ∧ ¬ isTwo c d := by
  unfold isTwo
  by_cases c62 : c = 62
  · subst c62
    by_cases d61 : d = 61
    · subst d61; left; simp
    · right; simp [d61]
  · by_cases c61 : c = 61
    · subst c61
      by_cases d61 : d = 61
      · subst d61; left; simp
      · right; simp [d61]
    · right
      simp [c62, c61]
      intro h
      rcases h60 with q | q
      · exact absurd h q
      · exact q
theorem k_lex : ∀ (d k f : Nat) (M : CM) (m L t : Nat) (pos : Nat → Nat), len - k = d → d < f → k ≤ len → LexI M0 M m0 L0 m L b len t t pos → pos t ≤ k → (∀ r, pos t ≤ r → r < k → isWt (b r)) → LexO M0 m0 L0 len b (KL_X2_tokens_7 f (nI k) M) := by
  intro d
  induction d using Nat.strongRecOn with
  | ind d ih =>
  intro k f M m L t pos hd hf hk I hpk hw
  obtain ⟨f, rfl⟩ : ∃ f', f = f' + 1 := ⟨f - 1, by omega⟩
  have hlen := I.tape.2.1
  have hI := I
  obtain ⟨i1, i2, ⟨i3a, i3b, i3c, i3d, i3e, i3f, i3g⟩, i4, i5, i6, ⟨i7a, i7b, i7c⟩, i8, ⟨i9a, i9b, i9c, i9d, i9e, i9f⟩, i10⟩ := hI
  have IH : ∀ k' M m L t pos, k < k' → k' ≤ len → LexI M0 M m0 L0 m L b len t t pos → pos t ≤ k' → (∀ r, pos t ≤ r → r < k' → isWt (b r)) → LexO M0 m0 L0 len b (KL_X2_tokens_7 f (nI k') M) := by
    intro k' M m L t pos h1 h2 I' h3 h4
    exact ih (len - k') (by omega) k' f M m L t pos rfl (by omega) h2 I' h3 h4
  rw [KL_X2_tokens_7, i4]
  by_cases hkl : len ≤ k
  · have e : k = len := by omega
    subst e
    rw [ifT ((bI_le (by omega) (by omega)).mpr (Nat.le_refl _))]
    left
    exact ⟨M, m, L, t, pos, rfl, I, hpk, fun r h1 h2 => ⟨h2, hw r h1 h2⟩, fun q => Nat.lt_irrefl _ q.1⟩
  · have hkl : k < len := by omega
    rw [ifF (by rw [bI_le (by omega) (by omega)]; omega), ifT (inb_nI' (by omega) (by decide)), nm_eq, ix_nI (by omega), (i5 k hkl).1]
    have white : isWt (b k) → LexO M0 m0 L0 len b (KL_X2_tokens_7 f (nI (k + 1)) M) := fun h => IH (k + 1) M m L t pos (by omega) (by omega) I (by omega) (fun r h1 h2 => by
      by_cases e : r = k
      · subst e; exact h
      · exact hw r h1 (by omega))
    by_cases w1 : b k = 32
    · rw [ifT w1, nm_eq, nI_addL]; exact white (Or.inl w1)
    rw [ifF w1]
    by_cases w2 : b k = 9
    · rw [ifT w2, nm_eq, nI_addL]; exact white (Or.inr (Or.inl w2))
    rw [ifF w2]
    by_cases w3 : b k = 10
    · rw [ifT w3, nm_eq, nI_addL]; exact white (Or.inr (Or.inr (Or.inl w3)))
    rw [ifF w3]
    by_cases w4 : b k = 13
    · rw [ifT w4, nm_eq, nI_addL]; exact white (Or.inr (Or.inr (Or.inr w4)))
    rw [ifF w4]
    have hW : FN (fun r => r < len ∧ isWt (b r)) (pos t) k := ⟨hpk, fun r h1 h2 => ⟨by omega, hw r h1 h2⟩, fun q => by rcases q.2 with q | q | q | q <;> contradiction⟩
    have ht2001 : t < 2001 := by omega
    rcases ptK_letter (b k) M with ⟨hl, e⟩ | ⟨hl, e⟩
    · rw [e, ob_some, ifF (by decide)]
      obtain ⟨q, g1, g2⟩ := ptK_word I.tape (x3 := nI k) (len + 1 - k) k FU rfl (by show len + 1 - k < 4611686018427387904; omega) (by omega)
      rw [g1, ob_some]
      obtain ⟨a1, a2, a3⟩ := k_word I.tape i1 i2 ⟨i3a, i3b⟩ (by omega) (Nat.le_trans i3e i9a.1) ⟨by have := i2.2.2.2.2.2.1; omega, by have := i2.2.2.2.2.2.1; omega⟩ hkl hl g2
      rw [nI_sub (by omega)]
      have e8 : ∀ A : Int32 → Option ((Unit ⊕ Unit) × CM), (if 8 < nI (q - k) then A 0 else A 1) = A (if 8 < q - k then 0 else 1) := fun A => by
        by_cases c8 : 8 < q - k
        · rw [ifT ((nI_Llt (by omega) (by decide)).mpr c8), ifT c8]
        · rw [ifF (by rw [nI_Llt (by omega) (by decide)]; exact c8), ifF c8]
      rw [e8 (fun x => KJ_X2_tokens_139_7 (KL_X2_tokens_7 f) (nI q) (nI k) 4 2 (nI k) (nI (q - k)) x M)]
      unfold KJ_X2_tokens_139_7
      rw [ifT ⟨rfl, i1.1.2.2.2.2.2⟩]
      rcases a3 with ⟨j, c1, c2, c3⟩ | ⟨c1, c2⟩
      · rw [c3, ob_some, ifT ((nI_Lle (by omega) (by decide)).mpr (Nat.zero_le _)), k_token i6 ht2001, ob_some]
        have hT : TokK (tkM M t 1 (nI j) (nI k)) m b len t (pos t) q 1 := by
          obtain ⟨-, -, -, -, -, -, -, -, b1, b2, b3, b4⟩ := tkM_1 M t 1 (nI j) (nI k)
          exact ⟨k, _, 0, 0, 0, ⟨hW, by omega, Or.inr (Or.inl ⟨hkl, hl, q, g2, Or.inl ⟨j, c1, c2, rfl, rfl, rfl⟩⟩)⟩, b4, Or.inr (Or.inl ⟨rfl, b1, j, b2, by omega, by rw [(tkM_1 M t 1 (nI j) (nI k)).wcq]; unfold wc; rw [ifT c1]⟩)⟩
        refine IH q _ m L (t + 1) _ (by omega) (by omega) (I.add (OfI.rf i1 i2) (tkM_1 M t _ _ _) (Or.inl rfl) hT (by omega) a2) ?_ ?_
        · rw [ifF (by omega)]; exact Nat.le_refl _
        · intro r h1 h2
          rw [ifF (by omega)] at h1; omega
      · rcases c2 with ⟨c2, c3⟩ | ⟨c2, M', m', L', w, c3, c4, c5, c6⟩
        · rw [c3, ob_some, ifF (by decide), k_token i6 ht2001, ob_some]
          right
          have hT : TokK (tkM M t 3 0 (nI k)) m b len t (pos t) 0 4 := by
            obtain ⟨-, -, -, -, -, -, -, -, b1, b2, b3, b4⟩ := tkM_1 M t 3 0 (nI k)
            exact ⟨k, 0, 0, 0, 0, ⟨hW, by omega, Or.inr (Or.inl ⟨hkl, hl, q, g2, Or.inr ⟨c1, Or.inr ⟨c2, rfl⟩⟩⟩)⟩, b4, Or.inr (Or.inr (Or.inr (Or.inr ⟨rfl, b1⟩)))⟩
          obtain ⟨x1, x2⟩ := I.fin (tkM_1 M t 3 0 (nI k)) hT
          exact ⟨_, m, L, t, pos, 0, rfl, x1, x2⟩
        · have hm' : m' ≤ 4096 := by have := c4.2.1; have h1 := this.2.2.2.1; have h2 := this.2.2.2.2.2.1; omega
          have h6' : mI M' 404 90 = nI t := by rw [c4.2.2.2.2.2.2.2.2.2.2]; exact i6
          rw [c3, ob_some, ifT ((nI_Lle (by omega) (by decide)).mpr (Nat.zero_le _)), k_token h6' ht2001, ob_some]
          have hT : TokK (tkM M' t 1 (nI w) (nI k)) m' b len t (pos t) q 1 := by
            obtain ⟨-, -, -, -, -, -, -, -, b1, b2, b3, b4⟩ := tkM_1 M' t 1 (nI w) (nI k)
            exact ⟨k, _, 0, 0, 0, ⟨hW, by omega, Or.inr (Or.inl ⟨hkl, hl, q, g2, Or.inr ⟨c1, Or.inl ⟨c2, rfl, rfl, rfl⟩⟩⟩)⟩, b4, Or.inr (Or.inl ⟨rfl, b1, w, b2, c5, by rw [(tkM_1 M' t 1 (nI w) (nI k)).wcq]; exact c6⟩)⟩
          refine IH q _ m' L' (t + 1) _ (by omega) (by omega) (I.add c4 (tkM_1 M' t _ _ _) (Or.inl rfl) hT (by omega) a2) ?_ ?_
          · rw [ifF (by omega)]; exact Nat.le_refl _
          · intro r h1 h2
            rw [ifF (by omega)] at h1; omega
    · rw [e, ob_some, ifT rfl]
      rcases ptK_digit (b k) M with ⟨hd2, e⟩ | ⟨hd2, e⟩
      · rw [e, ob_some, ifF (by decide)]
        rcases k_numeral I.tape i6 ht2001 hkl hd2 with ⟨q, nu, wh, g1, g2, g3, g4⟩ | ⟨g1, g2⟩
        · rw [g4, ob_some, ifT ((nI_Lle (by omega) (by decide)).mpr (Nat.zero_le _))]
          have hT : TokK (mwA (tkM M t 2 nu (nI k)) 93 t wh) m b len t (pos t) q 2 := by
            obtain ⟨-, -, -, -, -, -, -, -, b1, b2, b3, b4⟩ := tkM_2 M t 2 nu wh (nI k)
            refine ⟨k, 0, 0, nu, wh, ⟨hW, by omega, Or.inr (Or.inr (Or.inl ⟨hkl, hd2, Or.inl rfl, ?_⟩))⟩, b4, Or.inr (Or.inr (Or.inl ⟨rfl, b1, b2, b3⟩))⟩
            rw [show ((2 : Nat) = 2) = True by simp]; exact g1
          refine IH q _ m L (t + 1) _ (by omega) (by omega) (I.add (OfI.rf i1 i2) (tkM_2 M t 2 nu wh (nI k)) (Or.inr (Or.inl rfl)) hT (by omega) g3) ?_ ?_
          · rw [ifF (by omega)]; exact Nat.le_refl _
          · intro r h1 h2
            rw [ifF (by omega)] at h1; omega
        · rw [g2, ob_some, ifF (by decide)]
          right
          have hT : TokK (tkM M t 3 0 (nI k)) m b len t (pos t) 0 4 := by
            obtain ⟨-, -, -, -, -, -, -, -, b1, b2, b3, b4⟩ := tkM_1 M t 3 0 (nI k)
            refine ⟨k, 0, 0, 0, 0, ⟨hW, by omega, Or.inr (Or.inr (Or.inl ⟨hkl, hd2, Or.inr rfl, ?_⟩))⟩, b4, Or.inr (Or.inr (Or.inr (Or.inr ⟨rfl, b1⟩)))⟩
            rw [show ((4 : Nat) = 2) = False by simp]; exact g1 _ _ _
          obtain ⟨x1, x2⟩ := I.fin (tkM_1 M t 3 0 (nI k)) hT
          exact ⟨_, m, L, t, pos, 0, rfl, x1, x2⟩
      · rw [e, ob_some, ifT rfl, nI_addL, ptK_byte I.tape (by omega), ob_some]
        have yes : isTwo (b k) (cB b len (k + 1)) → LexO M0 m0 L0 len b (KJ_X2_tokens_237_7 (KL_X2_tokens_7 f) (nI k) (b k) (cB b len (k + 1)) M) := fun h => k_sign242 I hkl hW hl hd2 (Or.inl ⟨rfl, h⟩) IH
        have no : ¬ isTwo (b k) (cB b len (k + 1)) → LexO M0 m0 L0 len b (KJ_X2_tokens_241_7 (KL_X2_tokens_7 f) (nI k) (b k) (cB b len (k + 1)) M) := fun h => k_sign242 I hkl hW hl hd2 (Or.inr ⟨rfl, h⟩) IH
        have rest : (b k ≠ 60 ∨ (cB b len (k + 1) ≠ 61 ∧ cB b len (k + 1) ≠ 62)) → LexO M0 m0 L0 len b (KJ_X2_tokens_213_7 (KL_X2_tokens_7 f) (nI k) (b k) (cB b len (k + 1)) M) := by
          intro h60
          unfold KJ_X2_tokens_213_7 KJ_X2_tokens_225_7
          rcases two_225 (KJ_X2_tokens_237_7 (KL_X2_tokens_7 f) (nI k) (b k) (cB b len (k + 1)) M) (KJ_X2_tokens_241_7 (KL_X2_tokens_7 f) (nI k) (b k) (cB b len (k + 1)) M) h60 with ⟨q1, q2⟩ | ⟨q1, q2⟩
          · rw [q1]; exact yes q2
          · rw [q1]; exact no q2
        by_cases c60 : b k = 60
        · rw [ifT c60]
          by_cases d61 : cB b len (k + 1) = 61
          · rw [ifT d61]; exact yes (Or.inl ⟨c60, Or.inl d61⟩)
          · rw [ifF d61]
            by_cases d62 : cB b len (k + 1) = 62
            · rw [ifT d62]; exact yes (Or.inl ⟨c60, Or.inr d62⟩)
            · rw [ifF d62]; exact rest (Or.inr ⟨d61, d62⟩)
        · rw [ifF c60]; exact rest (Or.inl c60)
/-- all tokens are read: t of them, and the last -/
theorem k_tokens {M : CM} {m L : Nat} (H : KeysOK M) (W : WN M m L) (h2 : mk M 2 = 51 ∧ ml M 2 = 2000) (hl : mI M 1 1 = nI len) (h20 : len ≤ 2000) (hb : ∀ i, i < len → mA M 2 i = b i ∧ nB (b i) = b i) (hm : m + len ≤ 1280) (hn : 167 ≤ mn M) (hc : mn M + 4096 ≤ 601024 ∧ ms M + 16384 ≤ 7293034) : ∃ M' m' L' t pos e kd, K_X2_tokens M = some ((), M') ∧ LexI M M' m L m' L' b len (t + 1) t pos ∧ TokK M' m' b len t (pos t) e kd ∧ (kd = 0 ∨ kd = 4) := by
  unfold K_X2_tokens
  rw [nm_eq]
  have kt : KT M (msI M 404 90 0) := ⟨Nat.le_refl _, fun _ _ => ⟨rfl, rfl⟩, fun g o _ _ q => by rw [mI_msI, ifF q], fun _ _ _ _ => rfl, fun _ _ _ _ _ _ _ => rfl, fun _ _ _ => rfl, fun _ _ _ _ => rfl, Or.inl rfl⟩
  have I0 : LexI M (msI M 404 90 0) m L m L b len 0 0 (fun _ => 0) := by
    refine ⟨H.kt kt hn, ?_, ⟨h2.1, h2.2, h20, hm, hn, hc.1, hc.2⟩, ?_, hb, ?_, ⟨rfl, Nat.le_refl _, Nat.zero_le _⟩, by omega, ⟨kt, Nat.le_refl _, ?_, ?_, Nat.le_refl _, fun _ _ => rfl⟩, fun j hj => absurd hj (Nat.not_lt_zero _)⟩
    · obtain ⟨w1, w2⟩ := W
      exact ⟨by rw [mI_msI, ifF (by omega)]; exact w1, w2⟩
    · rw [mI_msI, ifF (by omega)]; exact hl
    · rw [mI_msI, ifT ⟨rfl, rfl⟩]; rfl
    · show mn M ≤ _; omega
    · show ms M ≤ _; omega
  rcases k_lex (M0 := M) (m0 := m) (L0 := L) (len := len) (b := b) len 0 FU (msI M 404 90 0) m L 0 (fun _ => 0) (by omega) (by show len < 4611686018427387904; omega) (Nat.zero_le _) I0 (Nat.le_refl _) (fun r h1 h2 => absurd h2 (Nat.not_lt_zero _)) with ⟨M', m', L', t, pos, e, I, hF⟩ | ⟨M', m', L', t, pos, q, e, I, hT⟩
  · have e : KL_X2_tokens_7 FU 0 (msI M 404 90 0) = some (.inl (), M') := e
    rw [e, obS_inl]
    have ht : t < 2001 := by have := I.2.2.2.2.2.2.1; omega
    rw [k_token I.2.2.2.2.2.1 ht, ob_some]
    have hT : TokK (tkM M' t 4 0 (mI M' 1 1)) m' b len t (pos t) len 0 := by
      obtain ⟨-, -, -, -, -, -, -, -, b1, b2, b3, b4⟩ := tkM_1 M' t 4 0 (mI M' 1 1)
      exact ⟨len, 0, 0, 0, 0, ⟨hF, Nat.le_refl _, Or.inl ⟨rfl, rfl, rfl⟩⟩, by rw [b4]; exact I.2.2.2.1, Or.inl ⟨rfl, b1⟩⟩
    obtain ⟨x1, x2⟩ := I.fin (tkM_1 M' t 4 0 (mI M' 1 1)) hT
    exact ⟨_, m', L', t, pos, len, 0, rfl, x1, x2, Or.inl rfl⟩
  · have e : KL_X2_tokens_7 FU 0 (msI M 404 90 0) = some (.inr (), M') := e
    rw [e, obS_inr]
    exact ⟨M', m', L', t, pos, q, 4, rfl, I, hT, Or.inr rfl⟩
end KALL
