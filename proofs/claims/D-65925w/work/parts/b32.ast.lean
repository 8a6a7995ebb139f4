/-! Layer B: what was read, on both sides -/
set_option maxRecDepth 100000
/-- a row whose own cells P holds -/
def LsP (P : Nat → Prop) (M : CM) (l : Nat) (xs : List Nat) : Prop := Ls M l xs ∧ P l ∧ (mR M 4201 l ≠ 4398046511104 → P (mR M 4201 l))
/-- how a text's two forms move on: what P holds stays, what lies below N (nodes), Q (parts) stays -/
def Mv (P : Nat → Prop) (N Q m : Nat) (M M' : CM) (σ σ' : TS) : Prop := (mn M ≤ mn M' ∧ ∀ o, o < mn M → mk M' o = mk M o) ∧ (∀ o, P o → So M M' o) ∧ (∀ w, w < 38 + m → wc M' w = wc M w) ∧ (∀ k, k = 24 ∨ k = 25 ∨ k = 26 ∨ k = 27 → ∀ n, n < N → tA σ' k n = tA σ k n) ∧ (∀ k, k = 31 ∨ k = 32 ∨ k = 33 → ∀ n, n < Q → tA σ' k n = tA σ k n) ∧ (∀ k, k = 29 ∨ k = 30 → ∀ n, n < Q → tB σ' k n = tB σ k n) ∧ ∀ k, tA σ' 42 k = tA σ 42 k
/-- the same, of nodes from L on -/
def MvL (P : Nat → Prop) (L N Q m : Nat) (M M' : CM) (σ σ' : TS) : Prop := (mn M ≤ mn M' ∧ ∀ o, o < mn M → mk M' o = mk M o) ∧ (∀ o, P o → So M M' o) ∧ (∀ w, w < 38 + m → wc M' w = wc M w) ∧ (∀ k, k = 24 ∨ k = 25 ∨ k = 26 ∨ k = 27 → ∀ n, L ≤ n → n < N → tA σ' k n = tA σ k n) ∧ (∀ k, k = 31 ∨ k = 32 ∨ k = 33 → ∀ n, n < Q → tA σ' k n = tA σ k n) ∧ (∀ k, k = 29 ∨ k = 30 → ∀ n, n < Q → tB σ' k n = tB σ k n) ∧ ∀ k, tA σ' 42 k = tA σ 42 k
theorem MvL.z {P : Nat → Prop} {L N Q m : Nat} {M M' : CM} {σ σ' : TS} (v : MvL P L N Q m M M' σ σ') : Mv P 0 Q m M M' σ σ' := ⟨v.1, v.2.1, v.2.2.1, fun k hk n h => absurd h (Nat.not_lt_zero _), v.2.2.2.2⟩
theorem Mv.l {P : Nat → Prop} {L N Q m : Nat} {M M' : CM} {σ σ' : TS} (v : Mv P N Q m M M' σ σ') : MvL P L N Q m M M' σ σ' := ⟨v.1, v.2.1, v.2.2.1, fun k hk n _ h => v.2.2.2.1 k hk n h, v.2.2.2.2⟩
theorem LsP.mv {P P' : Nat → Prop} {M M' : CM} {l : Nat} {xs : List Nat} (h : LsP P M l xs) (hn : mn M ≤ mn M' ∧ ∀ o, o < mn M → mk M' o = mk M o) (hs : ∀ o, P o → So M M' o) (hP : ∀ o, P o → P' o) : LsP P' M' l xs := by
  obtain ⟨h1, h2, h3⟩ := h
  refine ⟨h1.kp hn.1 hn.2 (hs l h2) (fun z => hs _ (h3 z)), hP l h2, fun z => ?_⟩
  rw [(hs l h2).r] at z ⊢
  exact hP _ (h3 z)
/-- steps of a path -/
def PtR (P : Nat → Prop) (m : Nat) (M : CM) (σ : TS) (p q : Nat) : Prop := (P p ∧ mk M p = 9) ∧ (∃ w, mI M 1600 p = nI w ∧ 38 ≤ w ∧ w < 38 + m ∧ tB σ 29 q = wc M w) ∧ ((tA σ 31 q = 0 ∧ mI M 1601 p = 0 ∧ mI M 1602 p = -1) ∨ (tA σ 31 q = 1 ∧ mI M 1601 p = 1 ∧ mI M 1602 p = -1 ∧ mI M 1603 p = tA σ 32 q ∧ -32767 ≤ tA σ 32 q ∧ tA σ 32 q ≤ 32767) ∨ (tA σ 31 q = 2 ∧ mI M 1601 p = 1 ∧ (∃ w, mI M 1602 p = nI w ∧ 38 ≤ w ∧ w < 38 + m ∧ tB σ 30 q = wc M w) ∧ mI M 1603 p = tA σ 32 q ∧ -32767 ≤ tA σ 32 q ∧ tA σ 32 q ≤ 32767))
def PhR (P : Nat → Prop) (Q m : Nat) (M : CM) (σ : TS) : List Nat → Nat → Prop
  | [], q => q = 0
  | p :: ps, q => (1 ≤ q ∧ q < Q) ∧ PtR P m M σ p q ∧ ∃ q', tA σ 33 q = nI q' ∧ q' < 7000 ∧ PhR P Q m M σ ps q'
/-- a reference -/
def RfR (P : Nat → Prop) (Q m : Nat) (M : CM) (σ : TS) (o q : Nat) : Prop := P o ∧ mk M o = 8 ∧ mI M 1400 o = 101 ∧ ∃ ps, ps ≠ [] ∧ LsP P M (mR M 1405 o) ps ∧ PhR P Q m M σ ps q
def AgR (R : Nat → Nat → Prop) (L N : Nat) (σ : TS) : List Nat → Nat → Prop
  | [], p => p = 0
  | o :: os, p => ((1 ≤ p ∧ L ≤ p) ∧ p < N ∧ tA σ 24 p = 43) ∧ (∃ e, tA σ 25 p = nI e ∧ e < 9000 ∧ R o e) ∧ ∃ q, tA σ 26 p = nI q ∧ q < 9000 ∧ AgR R L N σ os q
def unL : List (Int32 × Int32) := [(107, 7), (31, 10), (32, 11), (35, 12), (36, 13)]
def biL : List (Int32 × Int32) := [(103, 5), (104, 6), (105, 8), (106, 9), (33, 14), (34, 15)]
def coL : List (Int32 × Int32) := [(23, 21), (24, 22)]
def rlL : List (Int32 × Int32) := [(110, 60), (111, 62), (112, 15421), (113, 15933), (114, 15677), (115, 15422)]
/-- an expression (0) or condition (1): ar arguments may be meant, fn: the functions' objects -/
def AR (P : Nat → Prop) (N Q m ar nf : Nat) (fn : Nat → Nat) (M : CM) (σ : TS) : Nat → Nat → Nat → Nat → Prop
  | 0, _, _, _ => False
  | d + 1, s, o, n => (P o ∧ mk M o = 8 ∧ (1 ≤ n ∧ fn 1000 ≤ n) ∧ n < N) ∧
    ((s = 0 ∧ mI M 1400 o = 100 ∧ tA σ 24 n = 0 ∧ mI M 1401 o = tA σ 25 n ∧ ∃ x, tA σ 25 n = nI x ∧ x ≤ 2147418112) ∨
     (s = 0 ∧ ar = 0 ∧ mI M 1400 o = 102 ∧ tA σ 24 n = 41 ∧ ∃ w q, mI M 1401 o = nI w ∧ 38 ≤ w ∧ w < 38 + m ∧ tA σ 25 n = nI q ∧ 1 ≤ q ∧ q < Q ∧ q < 7000 ∧ tB σ 29 q = wc M w) ∨
     (s = 0 ∧ ar = 0 ∧ tA σ 24 n = 2 ∧ ∃ q, tA σ 25 n = nI q ∧ q < 7000 ∧ RfR P Q m M σ o q) ∨
     (s = 0 ∧ ar = 0 ∧ (mI M 1400 o = 26 ∧ tA σ 24 n = 3 ∨ mI M 1400 o = 27 ∧ tA σ 24 n = 4) ∧ ∃ q, tA σ 25 n = nI q ∧ q < 7000 ∧ RfR P Q m M σ (mR M 1402 o) q) ∨
     (s = 0 ∧ ar = 0 ∧ mI M 1400 o = 30 ∧ tA σ 24 n = 1) ∨
     (s = 0 ∧ mI M 1400 o = 109 ∧ tA σ 24 n = 42 ∧ ∃ k, mI M 1401 o = nI k ∧ tA σ 25 n = nI k ∧ k < ar ∧ ar ≤ 4) ∨
     (s = 0 ∧ mI M 1400 o = 108 ∧ tA σ 24 n = 40 ∧ ∃ k as p, mR M 1407 o = fn k ∧ k < nf ∧ nf ≤ 12 ∧ tA σ 25 n = nI k ∧ LsP P M (mR M 1406 o) as ∧ tA σ 42 k = nI as.length ∧ tA σ 26 n = nI p ∧ p < 9000 ∧ AgR (AR P N Q m ar nf fn M σ d 0) (fn 1000) N σ as p) ∨
     (s = 0 ∧ (mI M 1400 o, tA σ 24 n) ∈ unL ∧ mR M 1403 o = 0 ∧ mR M 1404 o = 0 ∧ ∃ x, tA σ 25 n = nI x ∧ x < 9000 ∧ AR P N Q m ar nf fn M σ d 0 (mR M 1402 o) x) ∨
     (s = 0 ∧ (mI M 1400 o, tA σ 24 n) ∈ biL ∧ mR M 1404 o = 0 ∧ (∃ x, tA σ 25 n = nI x ∧ x < 9000 ∧ AR P N Q m ar nf fn M σ d 0 (mR M 1402 o) x) ∧ ∃ y, tA σ 26 n = nI y ∧ y < 9000 ∧ AR P N Q m ar nf fn M σ d 0 (mR M 1403 o) y) ∨
     (s = 0 ∧ ar = 0 ∧ mI M 1400 o = 21 ∧ tA σ 24 n = 16 ∧ (∃ x, tA σ 25 n = nI x ∧ x < 9000 ∧ AR P N Q m ar nf fn M σ d 1 (mR M 1402 o) x) ∧ (∃ y, tA σ 26 n = nI y ∧ y < 9000 ∧ AR P N Q m ar nf fn M σ d 0 (mR M 1403 o) y) ∧ ∃ z, tA σ 27 n = nI z ∧ z < 9000 ∧ AR P N Q m ar nf fn M σ d 0 (mR M 1404 o) z) ∨
     (s = 1 ∧ (mI M 1400 o, tA σ 25 n) ∈ rlL ∧ tA σ 24 n = 20 ∧ mR M 1404 o = 0 ∧ (∃ x, tA σ 26 n = nI x ∧ x < 9000 ∧ AR P N Q m ar nf fn M σ d 0 (mR M 1402 o) x) ∧ ∃ y, tA σ 27 n = nI y ∧ y < 9000 ∧ AR P N Q m ar nf fn M σ d 0 (mR M 1403 o) y) ∨
     (s = 1 ∧ mI M 1400 o = 25 ∧ tA σ 24 n = 23 ∧ mR M 1403 o = 0 ∧ mR M 1404 o = 0 ∧ ∃ x, tA σ 25 n = nI x ∧ x < 9000 ∧ AR P N Q m ar nf fn M σ d 1 (mR M 1402 o) x) ∨
     (s = 1 ∧ (mI M 1400 o, tA σ 24 n) ∈ coL ∧ mR M 1404 o = 0 ∧ (∃ x, tA σ 25 n = nI x ∧ x < 9000 ∧ AR P N Q m ar nf fn M σ d 1 (mR M 1402 o) x) ∧ ∃ y, tA σ 26 n = nI y ∧ y < 9000 ∧ AR P N Q m ar nf fn M σ d 1 (mR M 1403 o) y) ∨
     (s = 1 ∧ ar = 0 ∧ mI M 1400 o = 29 ∧ tA σ 24 n = 24 ∧ P (mR M 1402 o) ∧ P (mR M 1403 o) ∧ mk M (mR M 1402 o) = 8 ∧ mk M (mR M 1403 o) = 8 ∧ mI M 1401 (mR M 1402 o) = tA σ 25 n ∧ mI M 1401 (mR M 1403 o) = tA σ 26 n ∧ ∃ x y, tA σ 25 n = nI x ∧ tA σ 26 n = nI y ∧ x ≤ 2147418112 ∧ 1 ≤ y ∧ y ≤ 2147418112))
section MV
variable {P P' : Nat → Prop} {N N' Q Q' m ar nf nf' : Nat} {fn fn' : Nat → Nat} {M M' : CM} {σ σ' : TS}
theorem PtR.mv {p q : Nat} (h : PtR P m M σ p q) (v : Mv P N Q m M M' σ σ') (hP : ∀ o, P o → P' o) (hq : q < Q) : PtR P' m M' σ' p q := by
  obtain ⟨v1, v2, v3, v4, v5, v6, v7⟩ := v
  obtain ⟨⟨a1, a2⟩, ⟨w, b1, b2, b3, b4⟩, c⟩ := h
  have s := v2 p a1
  refine ⟨⟨hP p a1, by rw [s.k]; exact a2⟩, ⟨w, by rw [s.i]; exact b1, b2, b3, by rw [v6 29 (by decide) q hq, v3 w b3]; exact b4⟩, ?_⟩
  rw [v5 31 (by decide) q hq, v5 32 (by decide) q hq, v6 30 (by decide) q hq, s.i, s.i, s.i]
  rcases c with c | c | ⟨c1, c2, ⟨w', d1, d2, d3, d4⟩, c3⟩
  · exact Or.inl c
  · exact Or.inr (Or.inl c)
  · exact Or.inr (Or.inr ⟨c1, c2, ⟨w', d1, d2, d3, by rw [v3 w' d3]; exact d4⟩, c3⟩)
theorem PhR.mv (v : Mv P N Q m M M' σ σ') (hP : ∀ o, P o → P' o) (hQ : Q ≤ Q') : ∀ (ps : List Nat) (q : Nat), PhR P Q m M σ ps q → PhR P' Q' m M' σ' ps q
  | [], q, h => h
  | p :: ps, q, h => by
    obtain ⟨⟨a1, a2⟩, b, q', c1, c2, c3⟩ := h
    exact ⟨⟨a1, by omega⟩, b.mv v hP a2, q', by rw [v.2.2.2.2.1 33 (by decide) q a2]; exact c1, c2, PhR.mv v hP hQ ps q' c3⟩
theorem RfR.mv {o q : Nat} (h : RfR P Q m M σ o q) (v : Mv P N Q m M M' σ σ') (hP : ∀ o, P o → P' o) (hQ : Q ≤ Q') : RfR P' Q' m M' σ' o q := by
  obtain ⟨a1, a2, a3, ps, b1, b2, b3⟩ := h
  have s := v.2.1 o a1
  exact ⟨hP o a1, by rw [s.k]; exact a2, by rw [s.i]; exact a3, ps, b1, by rw [s.r]; exact b2.mv v.1 v.2.1 hP, PhR.mv v hP hQ ps q b3⟩
theorem AgR.mv {R R' : Nat → Nat → Prop} {L L' L1 : Nat} (h24 : ∀ k, k = 24 ∨ k = 25 ∨ k = 26 ∨ k = 27 → ∀ n, L1 ≤ n → n < N → tA σ' k n = tA σ k n) (hR : ∀ o e, R o e → R' o e) (hN : N ≤ N') (hL1 : L1 ≤ L) (hL : L' ≤ L) : ∀ (os : List Nat) (p : Nat), AgR R L N σ os p → AgR R' L' N' σ' os p
  | [], p, h => h
  | o :: os, p, h => by
    obtain ⟨⟨⟨a1, a0⟩, a2, a3⟩, ⟨e, b1, b2, b3⟩, q, c1, c2, c3⟩ := h
    have a4 : L1 ≤ p := by omega
    exact ⟨⟨⟨a1, by omega⟩, by omega, by rw [h24 24 (by decide) p a4 a2]; exact a3⟩, ⟨e, by rw [h24 25 (by decide) p a4 a2]; exact b1, b2, hR o e b3⟩, q, by rw [h24 26 (by decide) p a4 a2]; exact c1, c2, AgR.mv h24 hR hN hL1 hL os q c3⟩
/-- what was read stays what it is -/
theorem AR.mvL {L : Nat} (hL : L ≤ fn 1000) (v : MvL P L N Q m M M' σ σ') (hP : ∀ o, P o → P' o) (hN : N ≤ N') (hQ : Q ≤ Q') (hf : nf ≤ nf' ∧ nf' ≤ 12 ∧ (∀ k, k < nf → fn' k = fn k) ∧ fn' 1000 ≤ fn 1000) : ∀ (d d' s o n : Nat), d ≤ d' → AR P N Q m ar nf fn M σ d s o n → AR P' N' Q' m ar nf' fn' M' σ' d' s o n
  | 0, _, _, _, _, _, h => absurd h (fun z => z)
  | d + 1, 0, _, _, _, hd, _ => absurd hd (Nat.not_succ_le_zero _)
  | d + 1, d' + 1, s, o, n, hd, h => by
    obtain ⟨⟨a1, a2, a3, a4⟩, h⟩ := h
    have v0 := v.z
    have vv := v
    obtain ⟨v1, v2, v3, v4, v5, v6, v7⟩ := v
    have S := v2 o a1
    have ih := fun s o n => AR.mvL hL vv hP hN hQ hf d d' s o n (Nat.le_of_succ_le_succ hd)
    refine ⟨⟨hP o a1, by rw [S.k]; exact a2, ⟨a3.1, by omega⟩, by omega⟩, ?_⟩
    have a5 : L ≤ n := by omega
    rw [v4 24 (by decide) n a5 a4, v4 25 (by decide) n a5 a4, v4 26 (by decide) n a5 a4, v4 27 (by decide) n a5 a4, S.i, S.i, S.r, S.r, S.r, S.r, S.r]
    rcases h with h | ⟨h1, h2, h3, h4, w, q, h5, h6, h7, h8, h9, h10, h11, h12⟩ | ⟨h1, h2, h3, q, h4, h5, h6⟩ | ⟨h1, h2, h3, q, h4, h5, h6⟩ | h | h | ⟨h1, h2, h3, k, as, p, h4, h5, h6, h7, h8, h9, h10, h11, h12⟩ | ⟨h1, h2, h3, h4, x, h5, h6, h7⟩ | ⟨h1, h2, h3, ⟨x, h4, h5, h6⟩, y, h7, h8, h9⟩ | ⟨h1, h2, h3, h4, ⟨x, h5, h6, h7⟩, ⟨y, h8, h9, h10⟩, z, h11, h12, h13⟩ | ⟨h1, h2, h3, h4, ⟨x, h5, h6, h7⟩, y, h8, h9, h10⟩ | ⟨h1, h2, h3, h4, h5, x, h6, h7, h8⟩ | ⟨h1, h2, h3, ⟨x, h4, h5, h6⟩, y, h7, h8, h9⟩ | ⟨h1, h2, h3, h4, h5, h6, h7, h8, h9, h10, h11⟩
    · exact Or.inl h
    · exact Or.inr (Or.inl ⟨h1, h2, h3, h4, w, q, h5, h6, h7, h8, h9, by omega, h11, by rw [v6 29 (by decide) q h10, v3 w h7]; exact h12⟩)
    · exact Or.inr (Or.inr (Or.inl ⟨h1, h2, h3, q, h4, h5, h6.mv v0 hP hQ⟩))
    · exact Or.inr (Or.inr (Or.inr (Or.inl ⟨h1, h2, h3, q, h4, h5, h6.mv v0 hP hQ⟩)))
    · exact Or.inr (Or.inr (Or.inr (Or.inr (Or.inl h))))
    · exact Or.inr (Or.inr (Or.inr (Or.inr (Or.inr (Or.inl h)))))
    · exact Or.inr (Or.inr (Or.inr (Or.inr (Or.inr (Or.inr (Or.inl ⟨h1, h2, h3, k, as, p, by rw [hf.2.2.1 k h5]; exact h4, by omega, hf.2.1, h7, h8.mv v1 v2 hP, by rw [v7]; exact h9, h10, h11, AgR.mv v4 (fun o e => ih 0 o e) hN hL hf.2.2.2 as p h12⟩))))))
    · exact Or.inr (Or.inr (Or.inr (Or.inr (Or.inr (Or.inr (Or.inr (Or.inl ⟨h1, h2, h3, h4, x, h5, h6, ih 0 _ x h7⟩)))))))
    · exact Or.inr (Or.inr (Or.inr (Or.inr (Or.inr (Or.inr (Or.inr (Or.inr (Or.inl ⟨h1, h2, h3, ⟨x, h4, h5, ih 0 _ x h6⟩, y, h7, h8, ih 0 _ y h9⟩))))))))
    · exact Or.inr (Or.inr (Or.inr (Or.inr (Or.inr (Or.inr (Or.inr (Or.inr (Or.inr (Or.inl ⟨h1, h2, h3, h4, ⟨x, h5, h6, ih 1 _ x h7⟩, ⟨y, h8, h9, ih 0 _ y h10⟩, z, h11, h12, ih 0 _ z h13⟩)))))))))
    · exact Or.inr (Or.inr (Or.inr (Or.inr (Or.inr (Or.inr (Or.inr (Or.inr (Or.inr (Or.inr (Or.inl ⟨h1, h2, h3, h4, ⟨x, h5, h6, ih 0 _ x h7⟩, y, h8, h9, ih 0 _ y h10⟩))))))))))
    · exact Or.inr (Or.inr (Or.inr (Or.inr (Or.inr (Or.inr (Or.inr (Or.inr (Or.inr (Or.inr (Or.inr (Or.inl ⟨h1, h2, h3, h4, h5, x, h6, h7, ih 1 _ x h8⟩)))))))))))
    · exact Or.inr (Or.inr (Or.inr (Or.inr (Or.inr (Or.inr (Or.inr (Or.inr (Or.inr (Or.inr (Or.inr (Or.inr (Or.inl ⟨h1, h2, h3, ⟨x, h4, h5, ih 1 _ x h6⟩, y, h7, h8, ih 1 _ y h9⟩))))))))))))
    · have s2 := v2 _ h5
      have s3 := v2 _ h6
      exact Or.inr (Or.inr (Or.inr (Or.inr (Or.inr (Or.inr (Or.inr (Or.inr (Or.inr (Or.inr (Or.inr (Or.inr (Or.inr ⟨h1, h2, h3, h4, hP _ h5, hP _ h6, by rw [s2.k]; exact h7, by rw [s3.k]; exact h8, by rw [s2.i]; exact h9, by rw [s3.i]; exact h10, h11⟩))))))))))))
theorem AR.mv (v : Mv P N Q m M M' σ σ') (hP : ∀ o, P o → P' o) (hN : N ≤ N') (hQ : Q ≤ Q') (hf : nf ≤ nf' ∧ nf' ≤ 12 ∧ ∀ k, k < nf → fn k = fn k) (d d' s o n : Nat) (hd : d ≤ d') (h : AR P N Q m ar nf fn M σ d s o n) : AR P' N' Q' m ar nf' fn M' σ' d' s o n := AR.mvL (Nat.zero_le _) v.l hP hN hQ ⟨hf.1, hf.2.1, hf.2.2, Nat.le_refl _⟩ d d' s o n hd h
theorem Mv.rf : Mv P N Q m M M σ σ := ⟨⟨Nat.le_refl _, fun _ _ => rfl⟩, fun o _ => So.rf M o, fun _ _ => rfl, fun _ _ _ _ => rfl, fun _ _ _ _ => rfl, fun _ _ _ _ => rfl, fun _ => rfl⟩
end MV
