/-! Layer B: what was read stays what it is, in any later state (more words, more functions, longer tables) -/
set_option maxRecDepth 100000
/-- the entries of elements that were there stay -/
def Ez (σ σ' : TS) : Prop := ix (tI σ 58) ≤ ix (tI σ' 58) ∧ ∀ e, e < ix (tI σ 58) → (∀ f, f = 52 ∨ f = 53 ∨ f = 54 ∨ f = 55 ∨ f = 56 ∨ f = 57 → tA σ' f e = tA σ f e) ∧ ∀ f, f = 50 ∨ f = 51 → tB σ' f e = tB σ f e
/-- objects of P, boxes, words, functions, tables -/
def Wz (C C' : PC) (P : Nat → Prop) (M M' : CM) (σ σ' : TS) : Prop := (mn M ≤ mn M' ∧ ∀ o, o < mn M → mk M' o = mk M o) ∧ ((∀ o, P o → So M M' o) ∧ ∀ o, o < mn M → mk M o = 23 → So M M' o) ∧ (cm C ≤ cm C' ∧ ∀ w, w < 38 + cm C → wc M' w = wc M w) ∧ (Tz σ σ' ∧ Qz σ σ' ∧ Mz σ σ' ∧ Ez σ σ') ∧ ((cnf C ≤ cnf C' ∧ cnf C' ≤ 12) ∧ (∀ k, k < cnf C → cfn C' k = cfn C k) ∧ cfn C' 1000 ≤ cfn C 1000) ∧ (∀ k, k < cnf C → tA σ' 42 k = tA σ 42 k) ∧ car C' = car C
section WORLD
variable {C C' C2 : PC} {P P' : Nat → Prop} {M M' M2 : CM} {σ σ' σ2 : TS} {l e o p q k L : Nat} {xs : List Nat}
theorem Ez.rf (σ : TS) : Ez σ σ := ⟨Nat.le_refl _, fun _ _ => ⟨fun _ _ => rfl, fun _ _ => rfl⟩⟩
theorem Ez.tr (h : Ez σ σ') (g : Ez σ' σ2) : Ez σ σ2 := ⟨Nat.le_trans h.1 g.1, fun e he => ⟨fun f hf => ((g.2 e (Nat.lt_of_lt_of_le he h.1)).1 f hf).trans ((h.2 e he).1 f hf), fun f hf => ((g.2 e (Nat.lt_of_lt_of_le he h.1)).2 f hf).trans ((h.2 e he).2 f hf)⟩⟩
theorem Ez.ft {S : List Nat} (f : Ft S σ σ') (h : [50, 51, 52, 53, 54, 55, 56, 57, 58].all (fun k => !S.contains k) = true) : Ez σ σ' := by
  have hf : ∀ k, k ∈ [50, 51, 52, 53, 54, 55, 56, 57, 58] → S.contains k = false := fun k hk => by
    have := List.all_eq_true.mp h k hk
    simpa using this
  refine ⟨by rw [(f 58 (hf 58 (by decide))).1]; exact Nat.le_refl _, fun e _ => ⟨fun g hg => ?_, fun g hg => ?_⟩⟩
  · exact (f g (hf g (by rcases hg with rfl | rfl | rfl | rfl | rfl | rfl <;> decide))).2.2.1 e
  · exact (f g (hf g (by rcases hg with rfl | rfl <;> decide))).2.2.2 e
theorem LsP.wz (h : LsP P M l xs) (v : Wz C C' P M M' σ σ') (hP : ∀ o, P o → P' o) : LsP P' M' l xs := h.mv v.1 v.2.1.1 hP
theorem PtR.wz (h : PtR P (cm C) M σ p q) (v : Wz C C' P M M' σ σ') (hP : ∀ o, P o → P' o) (hq : q < tQ σ) : PtR P' (cm C') M' σ' p q := by
  obtain ⟨v1, v2, v3, ⟨v4, _⟩, _⟩ := v
  obtain ⟨⟨a1, a2⟩, ⟨w, b1, b2, b3, b4⟩, c⟩ := h
  have s := v2.1 p a1
  refine ⟨⟨hP p a1, by rw [s.k]; exact a2⟩, ⟨w, by rw [s.i]; exact b1, b2, by omega, by rw [v4.2.2.2 29 (by decide) q hq, v3.2 w b3]; exact b4⟩, ?_⟩
  rw [v4.2.2.1 31 (by decide) q hq, v4.2.2.1 32 (by decide) q hq, v4.2.2.2 30 (by decide) q hq, s.i, s.i, s.i]
  rcases c with c | c | ⟨c1, c2, ⟨w', d1, d2, d3, d4⟩, c3⟩
  · exact Or.inl c
  · exact Or.inr (Or.inl c)
  · exact Or.inr (Or.inr ⟨c1, c2, ⟨w', d1, d2, by omega, by rw [v3.2 w' d3]; exact d4⟩, c3⟩)
theorem PhR.wz (v : Wz C C' P M M' σ σ') (hP : ∀ o, P o → P' o) : ∀ (ps : List Nat) (q : Nat), PhR P (tQ σ) (cm C) M σ ps q → PhR P' (tQ σ') (cm C') M' σ' ps q
  | [], q, h => h
  | p :: ps, q, h => by
    obtain ⟨⟨a1, a2⟩, b, q', c1, c2, c3⟩ := h
    have := v.2.2.2.1.1.1.2
    exact ⟨⟨a1, by omega⟩, b.wz v hP a2, q', by rw [v.2.2.2.1.1.2.2.1 33 (by decide) q a2]; exact c1, c2, PhR.wz v hP ps q' c3⟩
theorem RfR.wz (h : RfR P (tQ σ) (cm C) M σ o q) (v : Wz C C' P M M' σ σ') (hP : ∀ o, P o → P' o) : RfR P' (tQ σ') (cm C') M' σ' o q := by
  obtain ⟨a1, a2, a3, ps, b1, b2, b3⟩ := h
  have s := v.2.1.1 o a1
  exact ⟨hP o a1, by rw [s.k]; exact a2, by rw [s.i]; exact a3, ps, b1, by rw [s.r]; exact b2.wz v hP, PhR.wz v hP ps q b3⟩
/-- an expression or condition, whose functions are the first nf -/
theorem AR.wz {ar nf nf' : Nat} (v : Wz C C' P M M' σ σ') (hP : ∀ o, P o → P' o) (hf : nf ≤ nf' ∧ nf' ≤ 12 ∧ nf ≤ cnf C) : ∀ (d d' s o n : Nat), d ≤ d' → AR P (tN σ) (tQ σ) (cm C) ar nf (cfn C) M σ d s o n → AR P' (tN σ') (tQ σ') (cm C') ar nf' (cfn C') M' σ' d' s o n
  | 0, _, _, _, _, _, h => absurd h (fun z => z)
  | d + 1, 0, _, _, _, hd, _ => absurd hd (Nat.not_succ_le_zero _)
  | d + 1, d' + 1, s, o, n, hd, h => by
    obtain ⟨⟨a1, a2, a3, a4⟩, h⟩ := h
    have vv := v
    obtain ⟨v1, v2, v3, ⟨v4, _⟩, v5, v6, v7⟩ := v
    have S := v2.1 o a1
    have hNN := v4.1.1
    have hQQ := v4.1.2
    have ih := fun s o n => AR.wz (ar := ar) vv hP hf d d' s o n (Nat.le_of_succ_le_succ hd)
    refine ⟨⟨hP o a1, by rw [S.k]; exact a2, ⟨a3.1, by have := v5.2.2; omega⟩, by omega⟩, ?_⟩
    rw [v4.2.1 24 (by decide) n a4, v4.2.1 25 (by decide) n a4, v4.2.1 26 (by decide) n a4, v4.2.1 27 (by decide) n a4, S.i, S.i, S.r, S.r, S.r, S.r, S.r]
    rcases h with h | ⟨h1, h2, h3, h4, w, q, h5, h6, h7, h8, h9, h10, h11, h12⟩ | ⟨h1, h2, h3, q, h4, h5, h6⟩ | ⟨h1, h2, h3, q, h4, h5, h6⟩ | h | h | ⟨h1, h2, h3, k, as, p, h4, h5, h6, h7, h8, h9, h10, h11, h12⟩ | ⟨h1, h2, h3, h4, x, h5, h6, h7⟩ | ⟨h1, h2, h3, ⟨x, h4, h5, h6⟩, y, h7, h8, h9⟩ | ⟨h1, h2, h3, h4, ⟨x, h5, h6, h7⟩, ⟨y, h8, h9, h10⟩, z, h11, h12, h13⟩ | ⟨h1, h2, h3, h4, ⟨x, h5, h6, h7⟩, y, h8, h9, h10⟩ | ⟨h1, h2, h3, h4, h5, x, h6, h7, h8⟩ | ⟨h1, h2, h3, ⟨x, h4, h5, h6⟩, y, h7, h8, h9⟩ | ⟨h1, h2, h3, h4, h5, h6, h7, h8, h9, h10, h11⟩
    · exact Or.inl h
    · exact Or.inr (Or.inl ⟨h1, h2, h3, h4, w, q, h5, h6, by omega, h8, h9, by omega, h11, by rw [v4.2.2.2 29 (by decide) q h10, v3.2 w h7]; exact h12⟩)
    · exact Or.inr (Or.inr (Or.inl ⟨h1, h2, h3, q, h4, h5, h6.wz vv hP⟩))
    · exact Or.inr (Or.inr (Or.inr (Or.inl ⟨h1, h2, h3, q, h4, h5, h6.wz vv hP⟩)))
    · exact Or.inr (Or.inr (Or.inr (Or.inr (Or.inl h))))
    · exact Or.inr (Or.inr (Or.inr (Or.inr (Or.inr (Or.inl h)))))
    · exact Or.inr (Or.inr (Or.inr (Or.inr (Or.inr (Or.inr (Or.inl ⟨h1, h2, h3, k, as, p, by rw [v5.2.1 k (by omega)]; exact h4, by omega, hf.2.1, h7, h8.wz vv hP, by rw [v6 k (by omega)]; exact h9, h10, h11, AgR.mv (fun k hk n _ hn => v4.2.1 k hk n hn) (fun o e => ih 0 o e) hNN (Nat.zero_le _) v5.2.2 as p h12⟩))))))
    · exact Or.inr (Or.inr (Or.inr (Or.inr (Or.inr (Or.inr (Or.inr (Or.inl ⟨h1, h2, h3, h4, x, h5, h6, ih 0 _ x h7⟩)))))))
    · exact Or.inr (Or.inr (Or.inr (Or.inr (Or.inr (Or.inr (Or.inr (Or.inr (Or.inl ⟨h1, h2, h3, ⟨x, h4, h5, ih 0 _ x h6⟩, y, h7, h8, ih 0 _ y h9⟩))))))))
    · exact Or.inr (Or.inr (Or.inr (Or.inr (Or.inr (Or.inr (Or.inr (Or.inr (Or.inr (Or.inl ⟨h1, h2, h3, h4, ⟨x, h5, h6, ih 1 _ x h7⟩, ⟨y, h8, h9, ih 0 _ y h10⟩, z, h11, h12, ih 0 _ z h13⟩)))))))))
    · exact Or.inr (Or.inr (Or.inr (Or.inr (Or.inr (Or.inr (Or.inr (Or.inr (Or.inr (Or.inr (Or.inl ⟨h1, h2, h3, h4, ⟨x, h5, h6, ih 0 _ x h7⟩, y, h8, h9, ih 0 _ y h10⟩))))))))))
    · exact Or.inr (Or.inr (Or.inr (Or.inr (Or.inr (Or.inr (Or.inr (Or.inr (Or.inr (Or.inr (Or.inr (Or.inl ⟨h1, h2, h3, h4, h5, x, h6, h7, ih 1 _ x h8⟩)))))))))))
    · exact Or.inr (Or.inr (Or.inr (Or.inr (Or.inr (Or.inr (Or.inr (Or.inr (Or.inr (Or.inr (Or.inr (Or.inr (Or.inl ⟨h1, h2, h3, ⟨x, h4, h5, ih 1 _ x h6⟩, y, h7, h8, ih 1 _ y h9⟩))))))))))))
    · have s2 := v2.1 _ h5
      have s3 := v2.1 _ h6
      exact Or.inr (Or.inr (Or.inr (Or.inr (Or.inr (Or.inr (Or.inr (Or.inr (Or.inr (Or.inr (Or.inr (Or.inr (Or.inr ⟨h1, h2, h3, h4, hP _ h5, hP _ h6, by rw [s2.k]; exact h7, by rw [s3.k]; exact h8, by rw [s2.i]; exact h9, by rw [s3.i]; exact h10, h11⟩))))))))))))
theorem Wz.nf (v : Wz C C' P M M' σ σ') : cnf C ≤ cnf C' ∧ cnf C' ≤ 12 ∧ cnf C ≤ cnf C := ⟨v.2.2.2.2.1.1.1, v.2.2.2.2.1.1.2, Nat.le_refl _⟩
theorem BxR.wz {w : Nat} (h : BxR M (cm C) o w) (v : Wz C C' P M M' σ σ') : BxR M' (cm C') o w := by
  obtain ⟨h1, h2⟩ := h
  have hm := v.2.2.1.1
  refine ⟨?_, h2.1, by omega⟩
  rcases h1 with ⟨a1, a2, a3, a4⟩ | h1
  · have s := v.2.1.2 o a2 a1
    have hn := v.1.1
    exact Or.inl ⟨by rw [s.k]; exact a1, by omega, a3, by rw [s.i]; exact a4⟩
  · exact Or.inr h1
theorem PaC.wz {st : Int32} {bs qs : List Nat} (h : PaC (tQ σ) (cm C) M σ st bs qs) (v : Wz C C' P M M' σ σ') : PaC (tQ σ') (cm C') M' σ' st bs qs := by
  obtain ⟨h1, h2, h3⟩ := h
  have z := v.2.2.2.1.1
  have hQ := z.1.2
  have t29 : ∀ k, k < qs.length → tB σ' 29 (qs.getD k 0) = tB σ 29 (qs.getD k 0) := fun k hk => z.2.2.2 29 (by decide) _ (h3 k hk).1.2
  have hlen : bs.length ≤ qs.length := by rcases h1 with ⟨_, q⟩ | ⟨_, q, _⟩ <;> omega
  refine ⟨?_, fun k hk => ?_, fun k hk => ?_⟩
  · rcases h1 with q | ⟨q1, q2, q3⟩
    · exact Or.inl q
    · exact Or.inr ⟨q1, q2, by rw [t29 _ (by omega)]; exact q3⟩
  · obtain ⟨w, a1, a2⟩ := h2 k hk
    exact ⟨w, a1.wz v, by rw [t29 _ (by omega), v.2.2.1.2 w a1.2.2]; exact a2⟩
  · obtain ⟨⟨a1, a2⟩, a3, a4⟩ := h3 k hk
    exact ⟨⟨a1, by omega⟩, by rw [z.2.2.1 33 (by decide) _ a2]; exact a3, a4⟩
theorem MdR.wz (h : MdR C P M σ o k) (v : Wz C C' P M M' σ σ') (hP : ∀ o, P o → P' o) (hk : k < tM σ) : MdR C' P' M' σ' o k := by
  obtain ⟨⟨a1, a2⟩, h⟩ := h
  have s := v.2.1.1 o a1
  obtain ⟨ha, hb⟩ := v.2.2.2.1.2.2.1.2 k hk
  have hm := v.2.2.1.1
  refine ⟨⟨hP o a1, by rw [s.k]; exact a2⟩, ?_⟩
  rw [ha 62 (by decide), ha 59 (by decide), ha 60 (by decide), hb 63 (by decide), hb 64 (by decide), s.i, s.i, s.r, s.r]
  rcases h with ⟨b1, b2, b, w, w', b3, b4, b5, b6, b7, b8⟩ | ⟨b1, b2, bs, qs, e, d, b3, b4, b5, b6, b7, b8, b9⟩
  · exact Or.inl ⟨b1, b2, b, w, w', b3.wz v hP, b4.wz v, by rw [v.2.2.1.2 w b4.2.2]; exact b5, b6, ⟨b7.1, by omega⟩, by rw [v.2.2.1.2 w' b7.2]; exact b8⟩
  · refine Or.inr ⟨b1, b2, bs, qs, e, d, b3.wz v hP, b4.wz v, b5, b6, b7, b8, ?_⟩
    rw [v.2.2.2.2.2.2]
    exact AR.wz v hP v.nf d d 0 _ e (Nat.le_refl _) b9
theorem MsR.wz (h : MsR C P M σ l e) (v : Wz C C' P M M' σ σ') (hP : ∀ o, P o → P' o) (h55 : tA σ' 55 e = tA σ 55 e) : MsR C' P' M' σ' l e := by
  obtain ⟨os, k0, a1, a2, a3, a4⟩ := h
  have hm := v.2.2.2.1.2.2.1
  refine ⟨os, k0, a1.wz v hP, ⟨a2.1, Nat.le_trans a2.2.1 hm.1, a2.2.2⟩, by rw [h55]; exact a3, fun j hj => ?_⟩
  obtain ⟨b1, b2⟩ := a4 j hj
  have hlt : k0 + j < tM σ := by unfold tM; omega
  exact ⟨b1.wz v hP hlt, by rw [(hm.2 (k0 + j) hlt).1 61 (by decide)]; exact b2⟩
theorem ElR.wz (h : ElR C P M σ o e) (v : Wz C C' P M M' σ σ') (hP : ∀ o, P o → P' o) (he : e < ix (tI σ 58)) : ElR C' P' M' σ' o e := by
  obtain ⟨⟨a1, a2, a3⟩, a4, a5⟩ := h
  have s := v.2.1.1 o a1
  have su := v.2.1.1 _ a3
  obtain ⟨ha, hb⟩ := v.2.2.2.1.2.2.2.2 e he
  have hm := v.2.2.1.1
  refine ⟨⟨hP o a1, by rw [s.k]; exact a2, by rw [s.r]; exact hP _ a3⟩, by rw [s.r]; exact a4.wz v hP (ha 55 (by decide)), ?_⟩
  rw [s.i, s.i, s.i, s.i, s.i, s.r, s.r, ha 52 (by decide), ha 53 (by decide), ha 56 (by decide), ha 57 (by decide), hb 50 (by decide), hb 51 (by decide)]
  rcases a5 with ⟨b1, b2, ⟨w, b3, b4, b5, b6⟩, b7⟩ | ⟨b1, b2, ⟨w, b3, b4, b5, b6⟩, b7, b8, b9, ⟨b10, b11, vv, b12, b13⟩, b14, b15⟩
  · exact Or.inl ⟨b1, b2, ⟨w, b3, b4, by omega, by rw [v.2.2.1.2 w b5]; exact b6⟩, b7⟩
  · refine Or.inr ⟨b1, b2, ⟨w, b3, b4, by omega, by rw [v.2.2.1.2 w b5]; exact b6⟩, b7, b8, ?_, ⟨by rw [su.k]; exact b10, by rw [su.l]; exact b11, vv, fun k hk => by rw [su.a]; exact b12 k hk, by rw [ha 54 (by decide)]; exact b13⟩, ?_, by unfold ElX; rw [hb 51 (by decide), ha 54 (by decide), ha 52 (by decide)]; exact b15⟩
    · rcases b9 with q | ⟨w, q1, q2, q3, q4⟩
      · exact Or.inl q
      · exact Or.inr ⟨w, q1, q2, by omega, by rw [v.2.2.1.2 w q3]; exact q4⟩
    · rcases b14 with q | ⟨x, d, q1, q2, q3, q4⟩
      · exact Or.inl q
      · refine Or.inr ⟨x, d, q1, q2, q3, ?_⟩
        rw [v.2.2.2.2.2.2]
        exact AR.wz v hP v.nf d d 0 _ x (Nat.le_refl _) q4
theorem EqP.wz {so : Nat} {x : Int32} (h : EqP C P M σ so o x) (v : Wz C C' P M M' σ σ') (hP : ∀ o, P o → P' o) : EqP C' P' M' σ' so o x := by
  obtain ⟨n, d, h1, h2, h3⟩ := h
  refine ⟨n, d, h1, h2, ?_⟩
  rw [v.2.2.2.2.2.2]
  exact AR.wz v hP v.nf d d so o n (Nat.le_refl _) h3
theorem RfP.wz {x : Int32} (h : RfP C P M σ o x) (v : Wz C C' P M M' σ σ') (hP : ∀ o, P o → P' o) : RfP C' P' M' σ' o x := by
  obtain ⟨q, h1, h2, h3⟩ := h
  exact ⟨q, h1, h2, h3.wz v hP⟩
theorem EqR.wz (v : Wz C C' P M M' σ σ') (hP : ∀ o, P o → P' o) : ∀ (d s o e : Nat), e < tE σ → EqR C P M σ L d s o e → EqR C' P' M' σ' L d s o e
  | 0, _, _, _, _, h => absurd h (fun z => z)
  | d + 1, s, o, e, he, h => by
    obtain ⟨⟨a1, a2, a3, a4, a5⟩, h⟩ := h
    have S := v.2.1.1 o a1
    have hq := v.2.2.2.1.2.1
    have hq0 := hq.2 e he
    have hm := v.2.2.1.1
    have il : ∀ s os p, EqL (EqR C P M σ L d s) L e σ os p → EqL (EqR C' P' M' σ' L d s) L e σ' os p := fun s os p => EqL.mv (Nat.le_refl _) (Nat.le_refl _) (fun n _ hn => (hq.2 n (by omega)).1 70 (by decide)) (fun o p _ h2 h => EqR.wz v hP d s o p (by omega) h) os p
    refine ⟨⟨hP o a1, by rw [S.k]; exact a2, a3, a4, a5⟩, ?_⟩
    rw [S.i, S.i, S.i, S.i, S.r, S.r, S.r, S.r, hq0.1 66 (by decide), hq0.1 67 (by decide), hq0.1 68 (by decide), hq0.1 69 (by decide), hq0.2]
    rcases h with ⟨b1, b2, b3, b4, b5⟩ | ⟨b1, b2, b3, b4, b5⟩ | ⟨b1, b2, b3, ⟨w, c1, c2, c3, c4⟩, b5, os, p, d1, d2, d3, d4⟩ | ⟨b1, b2, b3, b4, ⟨os, p, d1, d2, d3, d4⟩, os', p', e1, e2, e3, e4⟩ | ⟨b1, b2, b3, b4, os, p, d1, d2, d3, d4⟩ | ⟨b1, b2, b3, b4⟩
    · exact Or.inl ⟨b1, b2, b3, b4.wz v hP, b5.wz v hP⟩
    · exact Or.inr (Or.inl ⟨b1, b2, b3, b4.wz v hP, b5.wz v hP⟩)
    · exact Or.inr (Or.inr (Or.inl ⟨b1, b2, b3, ⟨w, c1, c2, by omega, by rw [v.2.2.1.2 w c3]; exact c4⟩, b5, os, p, d1.wz v hP, d2, d3, il 0 os p d4⟩))
    · exact Or.inr (Or.inr (Or.inr (Or.inl ⟨b1, b2, b3, b4.wz v hP, ⟨os, p, d1.wz v hP, d2, d3, il 0 os p d4⟩, os', p', e1.wz v hP, e2, e3, il 0 os' p' e4⟩)))
    · exact Or.inr (Or.inr (Or.inr (Or.inr (Or.inl ⟨b1, b2, b3, b4.wz v hP, os, p, d1.wz v hP, d2, d3, il 1 os p d4⟩))))
    · exact Or.inr (Or.inr (Or.inr (Or.inr (Or.inr ⟨b1, b2, b3.wz v hP, b4.wz v hP⟩))))
theorem RwR.wz {E s dm : Nat} {y : Int32} (h : RwR dm C P M σ L E s l y) (v : Wz C C' P M M' σ σ') (hP : ∀ o, P o → P' o) (hE : E ≤ tE σ) : RwR dm C' P' M' σ' L E s l y := by
  obtain ⟨os, p, d, a1, a2, a3, a4⟩ := h
  exact ⟨os, p, d, a1.wz v hP, a2, a3, EqL.mv (Nat.le_refl _) (Nat.le_refl _) (fun n _ hn => (v.2.2.2.1.2.1.2 n (by omega)).1 70 (by decide)) (fun o p _ h2 h => EqR.wz v hP d s o p (by omega) h) os p a4⟩
theorem Wz.tr (h : Wz C C' P M M' σ σ') (g : Wz C' C2 P' M' M2 σ' σ2) (hP : ∀ o, P o → P' o) : Wz C C2 P M M2 σ σ2 := by
  obtain ⟨h1, h2, h3, h4, h5, h6, h7⟩ := h
  obtain ⟨g1, g2, g3, g4, g5, g6, g7⟩ := g
  refine ⟨⟨Nat.le_trans h1.1 g1.1, fun o ho => (g1.2 o (by omega)).trans (h1.2 o ho)⟩, ⟨fun o ho => (h2.1 o ho).tr (g2.1 o (hP o ho)), fun o ho hk => (h2.2 o ho hk).tr (g2.2 o (by omega) (by rw [h1.2 o ho]; exact hk))⟩, ⟨Nat.le_trans h3.1 g3.1, fun w hw => (g3.2 w (by omega)).trans (h3.2 w hw)⟩, ⟨h4.1.tr g4.1, h4.2.1.tr g4.2.1, h4.2.2.1.tr g4.2.2.1, h4.2.2.2.tr g4.2.2.2⟩, ⟨⟨Nat.le_trans h5.1.1 g5.1.1, g5.1.2⟩, fun k hk => (g5.2.1 k (by omega)).trans (h5.2.1 k hk), Nat.le_trans g5.2.2 h5.2.2⟩, fun k hk => (g6 k (by omega)).trans (h6 k hk), g7.trans h7⟩
theorem Wz.rf (h : cnf C ≤ 12) : Wz C C P M M σ σ := ⟨⟨Nat.le_refl _, fun _ _ => rfl⟩, ⟨fun o _ => So.rf M o, fun o _ _ => So.rf M o⟩, ⟨Nat.le_refl _, fun _ _ => rfl⟩, ⟨Tz.rf _, Qz.rf _, Mz.rf _, Ez.rf _⟩, ⟨⟨Nat.le_refl _, h⟩, fun _ _ => rfl, Nat.le_refl _⟩, fun _ _ => rfl, rfl⟩
/-- by a frame of the component -/
theorem Wz.of {X : Nat → Prop} (h : cnf C ≤ 12) (F : Fz X M M') (hX : ∀ o, o < mn M → X o → ¬ P o ∧ mk M o ≠ 23) (hP : ∀ o, P o → o < mn M) (hw : ∀ w, w < 38 + cm C → wc M' w = wc M w) (hz : Tz σ σ' ∧ Qz σ σ' ∧ Mz σ σ' ∧ Ez σ σ') (h42 : ∀ k, k < cnf C → tA σ' 42 k = tA σ 42 k) : Wz C C P M M' σ σ' := ⟨⟨F.1, fun o ho => F.k ho⟩, ⟨fun o ho => F.so (hP o ho) (fun z => (hX o (hP o ho) z).1 ho), fun o ho hk => F.so ho (fun z => (hX o ho z).2 hk)⟩, ⟨Nat.le_refl _, hw⟩, hz, ⟨⟨Nat.le_refl _, h⟩, fun _ _ => rfl, Nat.le_refl _⟩, h42, rfl⟩
/-- a class, on both sides -/
def CcR (C : PC) (P : Nat → Prop) (M : CM) (σ : TS) (k o : Nat) : Prop := ((P o ∧ mk M o = 10) ∧ ∃ w, mI M 1800 o = nI w ∧ 38 ≤ w ∧ w < 38 + cm C ∧ tB σ 41 k = wc M w) ∧ ((mI M 1801 o = 0 ∧ tA σ 44 k = 0) ∨ (mI M 1801 o = 1 ∧ tA σ 44 k = 1)) ∧ (∃ E0 es, LsP P M (mR M 1802 o) es ∧ tA σ 45 k = nI E0 ∧ tA σ 46 k = nI es.length ∧ es.length ≤ 20 ∧ E0 ≤ 20 * k ∧ E0 + es.length ≤ ix (tI σ 58) ∧ ∀ j, j < es.length → ElR C P M σ (es.getD j 0) (E0 + j)) ∧ RwR 18 C P M σ 1 (tE σ) 2 (mR M 1803 o) (tA σ 47 k)
theorem CcR.wz (h : CcR C P M σ k o) (v : Wz C C' P M M' σ σ') (hP : ∀ o, P o → P' o) (ha : ∀ f, f = 44 ∨ f = 45 ∨ f = 46 ∨ f = 47 → tA σ' f k = tA σ f k) (hb : tB σ' 41 k = tB σ 41 k) : CcR C' P' M' σ' k o := by
  obtain ⟨⟨⟨a1, a2⟩, w, a3, a4, a5, a6⟩, b, ⟨E0, es, c1, c2, c3, c4, c5, c6, c7⟩, d⟩ := h
  have s := v.2.1.1 o a1
  have hm := v.2.2.1.1
  have hE := v.2.2.2.1.2.2.2.1
  have hq := v.2.2.2.1.2.1.1
  refine ⟨⟨⟨hP o a1, by rw [s.k]; exact a2⟩, w, by rw [s.i]; exact a3, a4, by omega, by rw [hb, v.2.2.1.2 w a5]; exact a6⟩, by rw [s.i, ha 44 (by decide)]; exact b, ⟨E0, es, by rw [s.r]; exact c1.wz v hP, by rw [ha 45 (by decide)]; exact c2, by rw [ha 46 (by decide)]; exact c3, c4, c5, by omega, fun j hj => (c7 j hj).wz v hP (by omega)⟩, ?_⟩
  rw [s.r, ha 47 (by decide)]
  obtain ⟨os, p, d0, d1, d2, d3, d4⟩ := d.wz v hP (Nat.le_refl _)
  exact ⟨os, p, d0, d1, d2, d3, EqL.mv (Nat.le_refl _) hq (fun _ _ _ => rfl) (fun _ _ _ _ h => h) os p d4⟩
/-- a function's body -/
def FcR (C : PC) (P : Nat → Prop) (M : CM) (σ : TS) (k : Nat) : Prop := P (cfn C k) ∧ mk M (cfn C k) = 6 ∧ ∃ bs n d, LsP P M (mR M 1001 (cfn C k)) bs ∧ (1 ≤ bs.length ∧ bs.length ≤ 4) ∧ tA σ 42 k = nI bs.length ∧ tA σ 43 k = nI n ∧ n < 9000 ∧ AR P (tN σ) (tQ σ) (cm C) bs.length k (cfn C) M σ d 0 (mR M 1002 (cfn C k)) n
theorem FcR.wz (h : FcR C P M σ k) (v : Wz C C' P M M' σ σ') (hP : ∀ o, P o → P' o) (hk : k < cnf C) (h43 : tA σ' 43 k = tA σ 43 k) : FcR C' P' M' σ' k := by
  obtain ⟨a1, a2, bs, n, d, b1, b2, b3, b4, b5, b6⟩ := h
  have s := v.2.1.1 _ a1
  have e := v.2.2.2.2.1.2.1 k hk
  have h12 := v.2.2.2.2.1.1
  unfold FcR
  rw [e, s.k, s.r, s.r, v.2.2.2.2.2.1 k hk, h43]
  exact ⟨hP _ a1, a2, bs, n, d, b1.wz v hP, b2, b3, b4, b5, AR.wz v hP ⟨Nat.le_refl _, by omega, by omega⟩ d d 0 _ n (Nat.le_refl _) b6⟩
end WORLD
