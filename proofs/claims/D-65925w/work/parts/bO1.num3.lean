/-! Layer B: the flat model: relations are numbered, the twin's trees -/
set_option maxRecDepth 100000
section NUMBER3
variable {fx : Int32} {D : FQ} {M M1 M2 : CM} {σ σ' σ1 σ2 s s' s1 s2 s3 : TS} {K N v l k h h1 h2 n p q c1 c2 c3 tf : Nat} {L L1 L2 L3 : List Nat} {x x2 x3 y r : Int32} {S : List Nat}
theorem ht_lf (hn : n ≠ 0 ∧ n < 70000) (hop : (tA σ 121 n = 0 ∨ tA σ 121 n = 1 ∨ tA σ 121 n = 2 ∨ tA σ 121 n = 3 ∨ tA σ 121 n = 4)) : HT σ (h + 1) n [] := fun tf hf s p m hp h12 => by
  obtain ⟨tf, rfl⟩ : ∃ g, tf = g + 1 := ⟨tf - 1, by omega⟩
  have inn : inb (nI n) 70000 := inb_nI' hn.2 (by decide)
  have xn : ix (nI n) = n := ix_nI (by omega)
  have t1 := m.tb (k := 121) (by omega) n
  have t2 := m.tb (k := 122) (by omega) n
  show ∃ s', B_numberIn (G_numberIn tf) (nI n) s = some ((), s') ∧ _
  unfold B_numberIn
  rw [ifT inn, nm_eq, xn, t1]
  rcases hop with q | q | q | q | q
  · rw [q, ifF (show ¬ (0 : Int32) = 5 by decide), ifF (show ¬ (0 : Int32) = 6 by decide), ifF (show ¬ (0 : Int32) = 8 by decide), ifF (show ¬ (0 : Int32) = 9 by decide), ifF (show ¬ (0 : Int32) = 14 by decide), ifF (show ¬ (0 : Int32) = 15 by decide), ifF (show ¬ (0 : Int32) = 21 by decide), ifF (show ¬ (0 : Int32) = 22 by decide), ifF (show ¬ (0 : Int32) = 7 by decide), ifF (show ¬ (0 : Int32) = 10 by decide), ifF (show ¬ (0 : Int32) = 11 by decide), ifF (show ¬ (0 : Int32) = 12 by decide), ifF (show ¬ (0 : Int32) = 13 by decide), ifF (show ¬ (0 : Int32) = 23 by decide), ifF (show ¬ (0 : Int32) = 16 by decide), ifF (show ¬ (0 : Int32) = 20 by decide), ifF (show ¬ (0 : Int32) = 24 by decide)]; exact ⟨s, rfl, Po.rf⟩
  · rw [q, ifF (show ¬ (1 : Int32) = 5 by decide), ifF (show ¬ (1 : Int32) = 6 by decide), ifF (show ¬ (1 : Int32) = 8 by decide), ifF (show ¬ (1 : Int32) = 9 by decide), ifF (show ¬ (1 : Int32) = 14 by decide), ifF (show ¬ (1 : Int32) = 15 by decide), ifF (show ¬ (1 : Int32) = 21 by decide), ifF (show ¬ (1 : Int32) = 22 by decide), ifF (show ¬ (1 : Int32) = 7 by decide), ifF (show ¬ (1 : Int32) = 10 by decide), ifF (show ¬ (1 : Int32) = 11 by decide), ifF (show ¬ (1 : Int32) = 12 by decide), ifF (show ¬ (1 : Int32) = 13 by decide), ifF (show ¬ (1 : Int32) = 23 by decide), ifF (show ¬ (1 : Int32) = 16 by decide), ifF (show ¬ (1 : Int32) = 20 by decide), ifF (show ¬ (1 : Int32) = 24 by decide)]; exact ⟨s, rfl, Po.rf⟩
  · rw [q, ifF (show ¬ (2 : Int32) = 5 by decide), ifF (show ¬ (2 : Int32) = 6 by decide), ifF (show ¬ (2 : Int32) = 8 by decide), ifF (show ¬ (2 : Int32) = 9 by decide), ifF (show ¬ (2 : Int32) = 14 by decide), ifF (show ¬ (2 : Int32) = 15 by decide), ifF (show ¬ (2 : Int32) = 21 by decide), ifF (show ¬ (2 : Int32) = 22 by decide), ifF (show ¬ (2 : Int32) = 7 by decide), ifF (show ¬ (2 : Int32) = 10 by decide), ifF (show ¬ (2 : Int32) = 11 by decide), ifF (show ¬ (2 : Int32) = 12 by decide), ifF (show ¬ (2 : Int32) = 13 by decide), ifF (show ¬ (2 : Int32) = 23 by decide), ifF (show ¬ (2 : Int32) = 16 by decide), ifF (show ¬ (2 : Int32) = 20 by decide), ifF (show ¬ (2 : Int32) = 24 by decide)]; exact ⟨s, rfl, Po.rf⟩
  · rw [q, ifF (show ¬ (3 : Int32) = 5 by decide), ifF (show ¬ (3 : Int32) = 6 by decide), ifF (show ¬ (3 : Int32) = 8 by decide), ifF (show ¬ (3 : Int32) = 9 by decide), ifF (show ¬ (3 : Int32) = 14 by decide), ifF (show ¬ (3 : Int32) = 15 by decide), ifF (show ¬ (3 : Int32) = 21 by decide), ifF (show ¬ (3 : Int32) = 22 by decide), ifF (show ¬ (3 : Int32) = 7 by decide), ifF (show ¬ (3 : Int32) = 10 by decide), ifF (show ¬ (3 : Int32) = 11 by decide), ifF (show ¬ (3 : Int32) = 12 by decide), ifF (show ¬ (3 : Int32) = 13 by decide), ifF (show ¬ (3 : Int32) = 23 by decide), ifF (show ¬ (3 : Int32) = 16 by decide), ifF (show ¬ (3 : Int32) = 20 by decide), ifF (show ¬ (3 : Int32) = 24 by decide)]; exact ⟨s, rfl, Po.rf⟩
  · rw [q, ifF (show ¬ (4 : Int32) = 5 by decide), ifF (show ¬ (4 : Int32) = 6 by decide), ifF (show ¬ (4 : Int32) = 8 by decide), ifF (show ¬ (4 : Int32) = 9 by decide), ifF (show ¬ (4 : Int32) = 14 by decide), ifF (show ¬ (4 : Int32) = 15 by decide), ifF (show ¬ (4 : Int32) = 21 by decide), ifF (show ¬ (4 : Int32) = 22 by decide), ifF (show ¬ (4 : Int32) = 7 by decide), ifF (show ¬ (4 : Int32) = 10 by decide), ifF (show ¬ (4 : Int32) = 11 by decide), ifF (show ¬ (4 : Int32) = 12 by decide), ifF (show ¬ (4 : Int32) = 13 by decide), ifF (show ¬ (4 : Int32) = 23 by decide), ifF (show ¬ (4 : Int32) = 16 by decide), ifF (show ¬ (4 : Int32) = 20 by decide), ifF (show ¬ (4 : Int32) = 24 by decide)]; exact ⟨s, rfl, Po.rf⟩
theorem ht_two (hn : n ≠ 0 ∧ n < 70000) (hop : (tA σ 121 n = 14 ∨ tA σ 121 n = 15 ∨ tA σ 121 n = 21 ∨ tA σ 121 n = 22)) (e1 : tA σ 122 n = nI c1) (e2 : tA σ 123 n = nI c2) (g1 : HT σ h c1 L1) (g2 : HT σ h c2 L2) : HT σ (h + 1) n (L1 ++ L2) := fun tf hf s p m hp h12 => by
  obtain ⟨tf, rfl⟩ : ∃ g, tf = g + 1 := ⟨tf - 1, by omega⟩
  have inn : inb (nI n) 70000 := inb_nI' hn.2 (by decide)
  have xn : ix (nI n) = n := ix_nI (by omega)
  have t1 := m.tb (k := 121) (by omega) n
  have t2 := m.tb (k := 122) (by omega) n
  show ∃ s', B_numberIn (G_numberIn tf) (nI n) s = some ((), s') ∧ _
  unfold B_numberIn
  rw [ifT inn, nm_eq, xn, t1]
  have go : ∃ s', (ob (G_numberIn tf (tA s 122 n) s) fun r39 s38 => if inb (nI n) 70000 then ob (G_numberIn tf (tA s38 123 n) s38) fun r44 s43 => some ((), s43) else none) = some ((), s') ∧ Po (L1 ++ L2) p s s' := by
    rw [t2, e1]
    refine g1.m1 (by omega) m hp (by omega) (fun s1 m1 p1 _ => ?_)
    have t3 := m1.tb (k := 123) (by omega) n
    obtain ⟨s', a, b⟩ := g2 tf (by omega) s1 p m1 p1 (by omega)
    exact ⟨s', by rw [ifT inn, t3, e2, a, ob_some], b⟩
  rcases hop with q | q | q | q
  · rw [q, ifF (show ¬ (14 : Int32) = 5 by decide), ifF (show ¬ (14 : Int32) = 6 by decide), ifF (show ¬ (14 : Int32) = 8 by decide), ifF (show ¬ (14 : Int32) = 9 by decide), ifT (rfl : (14 : Int32) = 14), ifT inn]; exact go
  · rw [q, ifF (show ¬ (15 : Int32) = 5 by decide), ifF (show ¬ (15 : Int32) = 6 by decide), ifF (show ¬ (15 : Int32) = 8 by decide), ifF (show ¬ (15 : Int32) = 9 by decide), ifF (show ¬ (15 : Int32) = 14 by decide), ifT (rfl : (15 : Int32) = 15), ifT inn]; exact go
  · rw [q, ifF (show ¬ (21 : Int32) = 5 by decide), ifF (show ¬ (21 : Int32) = 6 by decide), ifF (show ¬ (21 : Int32) = 8 by decide), ifF (show ¬ (21 : Int32) = 9 by decide), ifF (show ¬ (21 : Int32) = 14 by decide), ifF (show ¬ (21 : Int32) = 15 by decide), ifT (rfl : (21 : Int32) = 21), ifT inn]; exact go
  · rw [q, ifF (show ¬ (22 : Int32) = 5 by decide), ifF (show ¬ (22 : Int32) = 6 by decide), ifF (show ¬ (22 : Int32) = 8 by decide), ifF (show ¬ (22 : Int32) = 9 by decide), ifF (show ¬ (22 : Int32) = 14 by decide), ifF (show ¬ (22 : Int32) = 15 by decide), ifF (show ¬ (22 : Int32) = 21 by decide), ifT (rfl : (22 : Int32) = 22), ifT inn]; exact go
theorem ht_un (hn : n ≠ 0 ∧ n < 70000) (hop : (tA σ 121 n = 7 ∨ tA σ 121 n = 10 ∨ tA σ 121 n = 11 ∨ tA σ 121 n = 12 ∨ tA σ 121 n = 13 ∨ tA σ 121 n = 23)) (e1 : tA σ 122 n = nI c1) (g1 : HT σ h c1 L1) : HT σ (h + 1) n L1 := fun tf hf s p m hp h12 => by
  obtain ⟨tf, rfl⟩ : ∃ g, tf = g + 1 := ⟨tf - 1, by omega⟩
  have inn : inb (nI n) 70000 := inb_nI' hn.2 (by decide)
  have xn : ix (nI n) = n := ix_nI (by omega)
  have t1 := m.tb (k := 121) (by omega) n
  have t2 := m.tb (k := 122) (by omega) n
  show ∃ s', B_numberIn (G_numberIn tf) (nI n) s = some ((), s') ∧ _
  unfold B_numberIn
  rw [ifT inn, nm_eq, xn, t1]
  obtain ⟨s', a, b⟩ := g1 tf (by omega) s p m hp (by omega)
  have go : (ob (G_numberIn tf (tA s 122 n) s) fun r39 s38 => some ((), s38)) = some ((), s') := by rw [t2, e1, a, ob_some]
  refine ⟨s', ?_, b⟩
  rcases hop with q | q | q | q | q | q
  · rw [q, ifF (show ¬ (7 : Int32) = 5 by decide), ifF (show ¬ (7 : Int32) = 6 by decide), ifF (show ¬ (7 : Int32) = 8 by decide), ifF (show ¬ (7 : Int32) = 9 by decide), ifF (show ¬ (7 : Int32) = 14 by decide), ifF (show ¬ (7 : Int32) = 15 by decide), ifF (show ¬ (7 : Int32) = 21 by decide), ifF (show ¬ (7 : Int32) = 22 by decide), ifT (rfl : (7 : Int32) = 7), ifT inn]; exact go
  · rw [q, ifF (show ¬ (10 : Int32) = 5 by decide), ifF (show ¬ (10 : Int32) = 6 by decide), ifF (show ¬ (10 : Int32) = 8 by decide), ifF (show ¬ (10 : Int32) = 9 by decide), ifF (show ¬ (10 : Int32) = 14 by decide), ifF (show ¬ (10 : Int32) = 15 by decide), ifF (show ¬ (10 : Int32) = 21 by decide), ifF (show ¬ (10 : Int32) = 22 by decide), ifF (show ¬ (10 : Int32) = 7 by decide), ifT (rfl : (10 : Int32) = 10), ifT inn]; exact go
  · rw [q, ifF (show ¬ (11 : Int32) = 5 by decide), ifF (show ¬ (11 : Int32) = 6 by decide), ifF (show ¬ (11 : Int32) = 8 by decide), ifF (show ¬ (11 : Int32) = 9 by decide), ifF (show ¬ (11 : Int32) = 14 by decide), ifF (show ¬ (11 : Int32) = 15 by decide), ifF (show ¬ (11 : Int32) = 21 by decide), ifF (show ¬ (11 : Int32) = 22 by decide), ifF (show ¬ (11 : Int32) = 7 by decide), ifF (show ¬ (11 : Int32) = 10 by decide), ifT (rfl : (11 : Int32) = 11), ifT inn]; exact go
  · rw [q, ifF (show ¬ (12 : Int32) = 5 by decide), ifF (show ¬ (12 : Int32) = 6 by decide), ifF (show ¬ (12 : Int32) = 8 by decide), ifF (show ¬ (12 : Int32) = 9 by decide), ifF (show ¬ (12 : Int32) = 14 by decide), ifF (show ¬ (12 : Int32) = 15 by decide), ifF (show ¬ (12 : Int32) = 21 by decide), ifF (show ¬ (12 : Int32) = 22 by decide), ifF (show ¬ (12 : Int32) = 7 by decide), ifF (show ¬ (12 : Int32) = 10 by decide), ifF (show ¬ (12 : Int32) = 11 by decide), ifT (rfl : (12 : Int32) = 12), ifT inn]; exact go
  · rw [q, ifF (show ¬ (13 : Int32) = 5 by decide), ifF (show ¬ (13 : Int32) = 6 by decide), ifF (show ¬ (13 : Int32) = 8 by decide), ifF (show ¬ (13 : Int32) = 9 by decide), ifF (show ¬ (13 : Int32) = 14 by decide), ifF (show ¬ (13 : Int32) = 15 by decide), ifF (show ¬ (13 : Int32) = 21 by decide), ifF (show ¬ (13 : Int32) = 22 by decide), ifF (show ¬ (13 : Int32) = 7 by decide), ifF (show ¬ (13 : Int32) = 10 by decide), ifF (show ¬ (13 : Int32) = 11 by decide), ifF (show ¬ (13 : Int32) = 12 by decide), ifT (rfl : (13 : Int32) = 13), ifT inn]; exact go
  · rw [q, ifF (show ¬ (23 : Int32) = 5 by decide), ifF (show ¬ (23 : Int32) = 6 by decide), ifF (show ¬ (23 : Int32) = 8 by decide), ifF (show ¬ (23 : Int32) = 9 by decide), ifF (show ¬ (23 : Int32) = 14 by decide), ifF (show ¬ (23 : Int32) = 15 by decide), ifF (show ¬ (23 : Int32) = 21 by decide), ifF (show ¬ (23 : Int32) = 22 by decide), ifF (show ¬ (23 : Int32) = 7 by decide), ifF (show ¬ (23 : Int32) = 10 by decide), ifF (show ¬ (23 : Int32) = 11 by decide), ifF (show ¬ (23 : Int32) = 12 by decide), ifF (show ¬ (23 : Int32) = 13 by decide), ifT (rfl : (23 : Int32) = 23), ifT inn]; exact go
theorem ht_if (hn : n ≠ 0 ∧ n < 70000) (hop : tA σ 121 n = 16) (e1 : tA σ 122 n = nI c1) (e2 : tA σ 123 n = nI c2) (e3 : tA σ 124 n = nI c3) (g1 : HT σ h c1 L1) (g2 : HT σ h c2 L2) (g3 : HT σ h c3 L3) : HT σ (h + 1) n (L1 ++ (L2 ++ L3)) := fun tf hf s p m hp h12 => by
  obtain ⟨tf, rfl⟩ : ∃ g, tf = g + 1 := ⟨tf - 1, by omega⟩
  have inn : inb (nI n) 70000 := inb_nI' hn.2 (by decide)
  have xn : ix (nI n) = n := ix_nI (by omega)
  have t1 := m.tb (k := 121) (by omega) n
  have t2 := m.tb (k := 122) (by omega) n
  show ∃ s', B_numberIn (G_numberIn tf) (nI n) s = some ((), s') ∧ _
  unfold B_numberIn
  rw [ifT inn, nm_eq, xn, t1]
  rw [hop, ifF (show ¬ (16 : Int32) = 5 by decide), ifF (show ¬ (16 : Int32) = 6 by decide), ifF (show ¬ (16 : Int32) = 8 by decide), ifF (show ¬ (16 : Int32) = 9 by decide), ifF (show ¬ (16 : Int32) = 14 by decide), ifF (show ¬ (16 : Int32) = 15 by decide), ifF (show ¬ (16 : Int32) = 21 by decide), ifF (show ¬ (16 : Int32) = 22 by decide), ifF (show ¬ (16 : Int32) = 7 by decide), ifF (show ¬ (16 : Int32) = 10 by decide), ifF (show ¬ (16 : Int32) = 11 by decide), ifF (show ¬ (16 : Int32) = 12 by decide), ifF (show ¬ (16 : Int32) = 13 by decide), ifF (show ¬ (16 : Int32) = 23 by decide), ifT (rfl : (16 : Int32) = 16), ifT inn, t2, e1]
  refine g1.m1 (by omega) m hp (by omega) (fun s1 m1 p1 _ => ?_)
  have t3 := m1.tb (k := 123) (by omega) n
  rw [ifT inn, t3, e2]
  refine g2.m1 (by omega) m1 p1 (by omega) (fun s2 m2 p2 _ => ?_)
  have t4 := m2.tb (k := 124) (by omega) n
  obtain ⟨s', a, b⟩ := g3 tf (by omega) s2 p m2 p2 (by omega)
  exact ⟨s', by rw [ifT inn, t4, e3, a, ob_some], b⟩
theorem ht_rl (hn : k + 1 = n ∧ n < 70000) (hop : tA σ 121 n = 20) (e1 : tA σ 123 n = nI c1) (e2 : tA σ 124 n = nI c2) (g1 : HT σ h c1 L1) (g2 : HT σ h c2 L2) : HT σ (h + 1) n (L1 ++ (L2 ++ [k])) := fun tf hf s p m hp h12 => by
  obtain ⟨tf, rfl⟩ : ∃ g, tf = g + 1 := ⟨tf - 1, by omega⟩
  have inn : inb (nI n) 70000 := inb_nI' hn.2 (by decide)
  have xn : ix (nI n) = n := ix_nI (by omega)
  have t1 := m.tb (k := 121) (by omega) n
  have t2 := m.tb (k := 122) (by omega) n
  show ∃ s', B_numberIn (G_numberIn tf) (nI n) s = some ((), s') ∧ _
  unfold B_numberIn
  rw [ifT inn, nm_eq, xn, t1]
  have t3 := m.tb (k := 123) (by omega) n
  rw [hop, ifF (show ¬ (20 : Int32) = 5 by decide), ifF (show ¬ (20 : Int32) = 6 by decide), ifF (show ¬ (20 : Int32) = 8 by decide), ifF (show ¬ (20 : Int32) = 9 by decide), ifF (show ¬ (20 : Int32) = 14 by decide), ifF (show ¬ (20 : Int32) = 15 by decide), ifF (show ¬ (20 : Int32) = 21 by decide), ifF (show ¬ (20 : Int32) = 22 by decide), ifF (show ¬ (20 : Int32) = 7 by decide), ifF (show ¬ (20 : Int32) = 10 by decide), ifF (show ¬ (20 : Int32) = 11 by decide), ifF (show ¬ (20 : Int32) = 12 by decide), ifF (show ¬ (20 : Int32) = 13 by decide), ifF (show ¬ (20 : Int32) = 23 by decide), ifF (show ¬ (20 : Int32) = 16 by decide), ifT (rfl : (20 : Int32) = 20)]
  unfold J_numberIn_313
  rw [ifT (rfl : (20 : Int32) = 20), ifT inn, xn, t3, e1]
  refine g1.m1 (by omega) m hp (by omega) (fun s1 m1 p1 _ => ?_)
  have t4 := m1.tb (k := 124) (by omega) n
  rw [ifT inn, t4, e2]
  refine g2.m1 (by omega) m1 p1 (by omega) (fun s2 m2 p2 _ => ?_)
  rw [← hn.1]
  exact t_339 m2 (by omega)
theorem ht_sm (hn : k + 1 = n ∧ n < 70000) (hop : tA σ 121 n = 24) : HT σ (h + 1) n [k] := fun tf hf s p m hp h12 => by
  obtain ⟨tf, rfl⟩ : ∃ g, tf = g + 1 := ⟨tf - 1, by omega⟩
  have inn : inb (nI n) 70000 := inb_nI' hn.2 (by decide)
  have xn : ix (nI n) = n := ix_nI (by omega)
  have t1 := m.tb (k := 121) (by omega) n
  have t2 := m.tb (k := 122) (by omega) n
  show ∃ s', B_numberIn (G_numberIn tf) (nI n) s = some ((), s') ∧ _
  unfold B_numberIn
  rw [ifT inn, nm_eq, xn, t1]
  rw [hop, ifF (show ¬ (24 : Int32) = 5 by decide), ifF (show ¬ (24 : Int32) = 6 by decide), ifF (show ¬ (24 : Int32) = 8 by decide), ifF (show ¬ (24 : Int32) = 9 by decide), ifF (show ¬ (24 : Int32) = 14 by decide), ifF (show ¬ (24 : Int32) = 15 by decide), ifF (show ¬ (24 : Int32) = 21 by decide), ifF (show ¬ (24 : Int32) = 22 by decide), ifF (show ¬ (24 : Int32) = 7 by decide), ifF (show ¬ (24 : Int32) = 10 by decide), ifF (show ¬ (24 : Int32) = 11 by decide), ifF (show ¬ (24 : Int32) = 12 by decide), ifF (show ¬ (24 : Int32) = 13 by decide), ifF (show ¬ (24 : Int32) = 23 by decide), ifF (show ¬ (24 : Int32) = 16 by decide), ifF (show ¬ (24 : Int32) = 20 by decide), ifT (rfl : (24 : Int32) = 24)]
  unfold J_numberIn_313
  rw [ifF (show ¬ (24 : Int32) = 20 by decide), ← hn.1]
  exact t_339 m (by omega)
/-- along a chain -/
def HS (σ : TS) (h n : Nat) (L : List Nat) : Prop := ∀ tf, h ≤ tf → ∀ f g p0, h < f → h < g → ∀ s p, p0 ≤ p → NuT σ s → tI s 140 = nI p → p + h ≤ 12100 → ∃ m s', m ≤ h ∧ (ob (L_numberIn_38 (G_numberIn tf) f (nI p0) (nI n) s) fun q s1 => ob (G_numberIn tf q s1) fun _ s2 => L_numberIn_124 (G_numberIn tf) g (nI p0) s2) = L_numberIn_124 (G_numberIn tf) (g - m) (nI p0) s' ∧ Po L p s s'
theorem hs_of (hn : n ≠ 0 ∧ n < 70000) (hop : tA σ 121 n ≠ 5 ∧ tA σ 121 n ≠ 6 ∧ tA σ 121 n ≠ 8 ∧ tA σ 121 n ≠ 9) (g1 : HT σ h n L) : HS σ h n L := fun tf hf f g p0 h1 h2 s p hp0 m hp h12 => by
  obtain ⟨f, rfl⟩ : ∃ g, f = g + 1 := ⟨f - 1, by omega⟩
  have inn : inb (nI n) 70000 := inb_nI' hn.2 (by decide)
  have xn : ix (nI n) = n := ix_nI (by omega)
  have t1 := m.tb (k := 121) (by omega) n
  obtain ⟨s', a, b⟩ := g1 tf hf s p m hp h12
  refine ⟨0, s', by omega, ?_, b⟩
  unfold L_numberIn_38
  rw [ifT inn, xn, t1, ifF hop.1, ifT inn, ifF hop.2.1, ifT inn, ifF hop.2.2.1, ifT inn, ifF hop.2.2.2, ob_some, a, ob_some]
  rfl
theorem hs_ch (hn : n ≠ 0 ∧ n < 70000) (hop : tA σ 121 n = 5 ∨ tA σ 121 n = 6 ∨ tA σ 121 n = 8 ∨ tA σ 121 n = 9) (e1 : tA σ 122 n = nI c1) (e2 : tA σ 123 n = nI c2) (g1 : HS σ h c1 L1) (g2 : HT σ h c2 L2) : ∀ tf, h ≤ tf → ∀ f g p0, h + 1 < f → h + 1 < g → ∀ s p, p0 ≤ p → NuT σ s → tI s 140 = nI p → p + (h + 1) ≤ 12100 → ∃ m s', m ≤ h + 1 ∧ (ob (L_numberIn_38 (G_numberIn tf) f (nI p0) (nI n) s) fun q s1 => ob (G_numberIn tf q s1) fun _ s2 => L_numberIn_124 (G_numberIn tf) g (nI p0) s2) = L_numberIn_124 (G_numberIn tf) (g - m) (nI p0) s' ∧ Po (L1 ++ L2) p s s' := fun tf hf f g p0 h1 h2 s p hp0 m hp h12 => by
  obtain ⟨f, rfl⟩ : ∃ g, f = g + 1 := ⟨f - 1, by omega⟩
  have inn : inb (nI n) 70000 := inb_nI' hn.2 (by decide)
  have xn : ix (nI n) = n := ix_nI (by omega)
  have t1 := m.tb (k := 121) (by omega) n
  have t2 := m.tb (k := 122) (by omega) n
  have ip : inb (nI p) 12100 := inb_nI' (by omega) (by decide)
  have xp : ix (nI p) = p := ix_nI (by omega)
  obtain ⟨s7, hs7⟩ : ∃ q, q = tsI (tsA s 139 p (nI n)) 140 (nI (p + 1)) := ⟨_, rfl⟩
  have f7 : Ft [139, 140] s s7 := by rw [hs7]; exact ((Ft.rf _ s).p_tsA rfl).p_tsI rfl
  have m7 : NuT σ s7 := ⟨m.1.tr (f7.mono (by decide)), by
    obtain ⟨c, a, b⟩ := m.2
    exact ⟨c, a, by rw [(f7 154 rfl).1]; exact b⟩⟩
  have j85 : J_numberIn_85_38 (G_numberIn tf) (L_numberIn_38 (G_numberIn tf) f) (nI p0) (nI n) s = L_numberIn_38 (G_numberIn tf) f (nI p0) (nI c1) s7 := by
    unfold J_numberIn_85_38
    rw [hp, ifT ip, nm_eq, xp, nm_eq, show tI (tsA s 139 p (nI n)) 140 = nI p from hp, nI_addL p 1, ← hs7, ifT inn, nm_eq, xn, (f7 122 rfl).2.2.1, t2, e1]
  have st : L_numberIn_38 (G_numberIn tf) (f + 1) (nI p0) (nI n) s = L_numberIn_38 (G_numberIn tf) f (nI p0) (nI c1) s7 := by
    rw [← j85]
    conv => lhs; unfold L_numberIn_38
    rw [ifT inn, xn, t1, ifT inn, ifT inn, ifT inn]
    rcases hop with q | q | q | q
    · rw [q, ifT (rfl : (5 : Int32) = 5)]
    · rw [q, ifF (show ¬ (6 : Int32) = 5 by decide), ifT (rfl : (6 : Int32) = 6)]
    · rw [q, ifF (show ¬ (8 : Int32) = 5 by decide), ifF (show ¬ (8 : Int32) = 6 by decide), ifT (rfl : (8 : Int32) = 8)]
    · rw [q, ifF (show ¬ (9 : Int32) = 5 by decide), ifF (show ¬ (9 : Int32) = 6 by decide), ifF (show ¬ (9 : Int32) = 8 by decide), ifT (rfl : (9 : Int32) = 9)]
  obtain ⟨w, s3, w1, w2, w3⟩ := g1 tf hf f g p0 (by omega) (by omega) s7 (p + 1) (by omega) m7 (by rw [hs7]; rfl) (by omega)
  have m3 := w3.nu m7
  have p3 : tI s3 140 = nI (p + 1) := (w3.p140 m7).trans (by rw [hs7]; rfl)
  obtain ⟨g', hg'⟩ : ∃ g', g - w = g' + 1 := ⟨g - w - 1, by omega⟩
  obtain ⟨s4, hs4⟩ : ∃ q, q = tsI s3 140 (nI p) := ⟨_, rfl⟩
  have f4 : Ft [140] s3 s4 := by rw [hs4]; exact (Ft.rf _ s3).p_tsI rfl
  have m4 : NuT σ s4 := ⟨m3.1.tr (f4.mono (by decide)), by
    obtain ⟨c, a, b⟩ := m3.2
    exact ⟨c, a, by rw [(f4 154 rfl).1]; exact b⟩⟩
  have p4 : tI s4 140 = nI p := by rw [hs4]; rfl
  have q4 : tA s4 139 p = nI n := by
    rw [(f4 139 rfl).2.2.1, w3.2 p (by omega), hs7]
    show tA (tsA s 139 p (nI n)) 139 p = _
    rw [tA_tsA, ifT ⟨rfl, rfl⟩]
  obtain ⟨s', a, b⟩ := g2 tf hf s4 p m4 p4 (by omega)
  have po4 : Po L1 p s s4 := by
    refine ⟨fun k hk => ?_, fun j hj => ?_⟩
    · by_cases z : k = 140
      · obtain ⟨z1, z2⟩ := NuT.num L1 s m
        rw [z]
        have y3 := w3.1 140 rfl
        have y7 := (NuT.num L1 s7 m7).2 140 rfl
        have y0 := z2 140 rfl
        have e7 : ∀ i, tA s7 140 i = tA s 140 i := fun i => by
          rw [hs7]
          show tA (tsA s 139 p (nI n)) 140 i = _
          rw [tA_tsA, ifF (by omega)]
        refine ⟨by rw [p4, y0.1, hp], ?_, fun i => ?_, fun i => ?_⟩
        · rw [hs4]
          rw [hs7] at y7 y3
          exact y3.2.1.trans (y7.2.1.trans y0.2.1.symm)
        · rw [hs4]
          exact (y3.2.2.1 i).trans ((y7.2.2.1 i).trans ((e7 i).trans (y0.2.2.1 i).symm))
        · rw [hs4]
          rw [hs7] at y7 y3
          exact (y3.2.2.2 i).trans ((y7.2.2.2 i).trans (y0.2.2.2 i).symm)
      · have hk2 : ([139, 140] : List Nat).contains k = false := by
          simp only [List.contains_eq_any_beq, List.any_cons, List.any_nil, Bool.or_false, Bool.or_eq_false_iff, beq_eq_false_iff_ne] at hk ⊢
          exact ⟨hk, z⟩
        exact (((tNum_fr (S := [139, 140]) ⟨rfl, rfl⟩ L1 _ _ f7).tr ((w3.1.mono (by decide)).tr (f4.mono (by decide)))) k hk2)
    · rw [(f4 139 rfl).2.2.1, w3.2 j (by omega), hs7]
      show tA (tsA s 139 p (nI n)) 139 j = _
      rw [tA_tsA, ifF (by omega)]
  refine ⟨w + 1, s', by omega, ?_, po4.tr b⟩
  rw [st, w2, hg', show g - (w + 1) = g' by omega]
  conv => lhs; unfold L_numberIn_124
  rw [p3, ifF (fun z => by have := (bI_le (by omega) (by omega)).mp z; omega), nm_eq, show nI (p + 1) - 1 = nI p from nI_subL (p + 1) 1 (Nat.le_add_left 1 p), ← hs4, p4, ifT ip, xp, q4, ifT inn, xn, m4.tb (by omega) n, e2, a, ob_some]
end NUMBER3
