/-! Layer B: the flat model: what stands once the instances are made -/
set_option maxRecDepth 100000
/-- what may be written from now on -/
def TG (t : Nat) : Prop := (1 ≤ t ∧ t ≤ 3) ∨ (98 ≤ t ∧ t < 167) ∨ 98000000 ≤ t
/-- what the twin keeps of it -/
abbrev flN : List Nat := [74, 75, 76, 77, 82, 83, 84, 85, 86, 87, 88, 89, 94, 95, 96, 97, 98, 99, 100, 101, 102, 103, 107]
/-- no variable, instance, member (but what is worked out of variables) -/
def TV (t : Nat) : Prop := ¬ (tg 99 0 ≤ t ∧ t < tg 101 0) ∧ ¬ (tg 200 0 ≤ t ∧ t < tg 203 0)
/-- every instance's class with all it extends -/
def Exs (σ : TS) (I : Nat) : Prop := ∃ dp : Nat → Nat, ∀ n, n < I → dp n ≤ 13 ∧ (∀ p, p < n → tA σ 75 n = nI p → dp p < dp n) ∧ ∃ k g, tA σ 74 n = nI k ∧ ExD σ g k ∧ g ≤ 13
def FlX (z7 : Nat → Nat) (C : PC) (P : Nat → Prop) (D : FQ) (mss : List Nat) (M : CM) (σ : TS) (V I Bm : Nat) : Prop := FInZ z7 C P D mss M σ V I Bm ∧ (V ≤ 96 ∧ I ≤ 200 ∧ Bm ≤ 20000 ∧ 1 ≤ I ∧ z7 100000 ≠ 0 ∧ Exs σ I ∧ VoS σ 0 V 0 Bm ∧ VnS σ V I) ∧ (tI σ 107 = nI V ∧ tI σ 82 = nI I ∧ tI σ 89 = nI Bm) ∧ (mI M 15 1 = nI V ∧ mI M 16 1 = nI I) ∧ ∀ b, b < Bm → MbC D mss M σ V I b ∧ (¬ outT σ b → z7 b = 0) ∧ (outT σ b → InnR D σ Bm z7 b)
section FLX
variable {C C' : PC} {D D' D1 D2 : FQ} {M M' M1 M2 : CM} {σ σ' σ0 σ1 σ2 σ4 s : TS} {mss fss xs bs qs os es : List Nat} {B l k n o m u w Q I I' L V V' Bm Bm' b c v r R R' E E' E0 cr i e eo ec fl z mo mc : Nat} {P P' X T : Nat → Prop} {S S' O : List Nat} {x : Int64} {x1 : Int32} {z7 z7' : Nat → Nat}
theorem TG0 : ¬ TG 0 := fun z => by unfold TG at z; omega
theorem kindF : ∀ o, o < 167 → 98 ≤ o → (flA.contains o || bfK.any (fun q => q.1 == o && q.2.1 != 23)) = true := by decide +kernel
theorem FW.ntx2 (W : FW C B P mss fss D M σ) (ho : o < mn M) (h : TG (tgof D o)) : ¬ Tx P M o ∧ mk M o ≠ 23 := by
  have hm := W.rm
  by_cases q : o < 167
  · rw [tgo_s q] at h
    refine ⟨fun z => ?_, ?_⟩
    · have := W.1.ntx ho z
      unfold TG at h; omega
    · have hb := W.2.2.2.1.1
      rcases h with h | h | h
      · have : o = 1 ∨ o = 2 ∨ o = 3 := by omega
        rcases this with rfl | rfl | rfl
        · rw [(hb (1, 1, 0) (by decide)).1]; decide
        · rw [(hb (2, 51, 2000) (by decide)).1]; decide
        · rw [(hb (3, 51, 500) (by decide)).1]; decide
      · have hk := kindF o q h.1
        rw [Bool.or_eq_true] at hk
        rcases hk with hk | hk
        · have hl : o ∈ flA := by simpa using hk
          rw [(W.2.1.1 o hl).1.1]; decide
        · obtain ⟨p, p1, p2⟩ := List.any_eq_true.mp hk
          rw [Bool.and_eq_true] at p2
          have e1 : p.1 = o := by simpa using p2.1
          have e2 : p.2.1 ≠ 23 := by simpa using p2.2
          rw [← e1, (hb p p1).1]; exact e2
      · omega
  · rw [tgo_d (by omega)] at h
    refine ⟨fun z => ?_, W.2.1.2.2.2.2 o (by omega) ho (fun z => ?_)⟩
    · rw [W.2.2.1 o z ho (by omega)] at h; exact TG0 h
    · rw [z] at h; exact TG0 h
theorem FW.mv2 (W : FW C B P mss fss D M σ) (F : Fq D TG M M') (h9 : mI M' 9 1 = mI M 9 1) (hp : PoW D' M') (hx : Dx D D' M) (hr : rmN D' M' ≤ rmN D M ∧ rmS D' M' ≤ rmS D M) (hb : ∀ q, q ∈ bfR → mR M' q.1 q.2.1 = mR M q.1 q.2.1) (hbi : ∀ q, q ∈ bfI → mI M' q.1 q.2.1 = mI M q.1 q.2.1) (f : Ft S σ σ') (hK : itK.all (fun k => !S.contains k) = true) : FW C B P mss fss D' M' σ' ∧ Wz C C P M M' σ σ' := by
  have hn := W.n167
  obtain ⟨I', v⟩ := W.1.mv F (fun o ho z => W.ntx2 ho z) h9 f hK
  have s0 : ∀ o, o < 167 → ¬ TG o → So M M' o := fun o ho h => Fz.so F (by omega) (fun z => h (by rw [tgo_s ho] at z; exact z))
  have s4 := s0 4 (by decide) (fun z => by unfold TG at z; omega)
  have ar : ∀ l, l ∈ arL → mR M' 4201 l = mR M 4201 l := fun l hl => (s0 l (by have := arL_lt hl; omega) (fun z => by have := arL_lt hl; unfold TG at z; omega)).r _
  have tx : ∀ o, Tx P M' o → Tx P M o := fun o z => by
    rcases z with z | z | z | ⟨l, hl, z⟩
    · exact Or.inl z
    · exact Or.inr (Or.inl z)
    · rw [s4.r] at z; exact Or.inr (Or.inr (Or.inl z))
    · rw [ar l hl] at z; exact Or.inr (Or.inr (Or.inr ⟨l, hl, z⟩))
  have hc := W.2.2.2.2
  have hm := W.rm
  refine ⟨⟨I', hp, fun o h1 h2 h3 => ?_, W.2.2.2.1.mv hn F hb hbi, ⟨by omega, by omega⟩, hc.2⟩, v⟩
  by_cases ho : o < mn M
  · rw [hx.2 o ho]; exact W.2.2.1 o (tx o h1) ho h3
  · exfalso
    rcases tx o h1 with z | z | z | ⟨l, hl, z⟩
    · omega
    · have := (W.1.2.2.2.2.2.1.nx z).1; omega
    · obtain ⟨L, WN⟩ := W.1.1.2.1
      have := WN.2.2.2.2.2.2.2.1
      omega
    · have hp2 : mn M' ≤ rmN D' M' := Nat.le_add_right _ _
      rcases (W.1.2.2.2.1.2.2.2.2.2.2.2 l hl).2 with q | q
      · omega
      · omega
/-- a member's lookup is the same in a later state -/
theorem memberOf_ft (f : Ft S σ s) (hS : [50, 84, 87, 88].all (fun k => !S.contains k) = true) (a : Int32) : (F_memberOf a x σ = none ∧ F_memberOf a x s = none) ∨ ∃ y, F_memberOf a x σ = some (y, σ) ∧ F_memberOf a x s = some (y, s) := by
  have hf : ∀ k, k ∈ [50, 84, 87, 88] → S.contains k = false := fun k hk => by
    have := List.all_eq_true.mp hS k hk
    simpa using this
  have loop : ∀ (n : Nat) (j : Int32), (L_memberOf_8 n x j σ = none ∧ L_memberOf_8 n x j s = none) ∨ ∃ y, L_memberOf_8 n x j σ = some (y, σ) ∧ L_memberOf_8 n x j s = some (y, s) := by
    intro n
    induction n with
    | zero => intro j; exact Or.inl ⟨rfl, rfl⟩
    | succ n ih =>
      intro j
      rw [L_memberOf_8, L_memberOf_8, (f 84 (hf 84 (by decide))).2.2.1, (f 87 (hf 87 (by decide))).2.2.1, (f 50 (hf 50 (by decide))).2.2.2]
      by_cases q : j < 0
      · simp only [ifT q]; exact Or.inr ⟨_, rfl, rfl⟩
      · simp only [ifF q]
        by_cases q2 : inb j 96001
        · simp only [ifT q2]
          by_cases q3 : inb (tA σ 84 (ix j)) 481
          · simp only [ifT q3]
            by_cases q4 : lg_cmp (tB σ 50 (ix (tA σ 84 (ix j)))) x = 0
            · simp only [ifT q4]; exact Or.inr ⟨_, rfl, rfl⟩
            · simp only [ifF q4, ifT q2, nm_eq]; exact ih _
          · left; constructor <;> simp only [ifF q3]
        · left; constructor <;> simp only [ifF q2]
  unfold F_memberOf
  rw [(f 88 (hf 88 (by decide))).2.2.1]
  by_cases q : inb a 200
  · simp only [ifT q, nm_eq]
    rcases loop FU (tA σ 88 (ix a)) with ⟨h1, h2⟩ | ⟨y, h1, h2⟩
    · rw [h1, h2]; exact Or.inl ⟨rfl, rfl⟩
    · rw [h1, h2]
      cases y with
      | inl u => exact Or.inr ⟨_, rfl, rfl⟩
      | inr u => exact Or.inr ⟨_, rfl, rfl⟩
  · left; constructor <;> simp only [ifF q]
theorem t_badAny (r p : Int32) (σ : TS) : ∃ s, F_bad r p σ = some ((), s) := by
  unfold F_bad
  by_cases q : tI σ 0 = 0
  · exact ⟨_, by rw [ifT q]; rfl⟩
  · exact ⟨_, by rw [ifF q]⟩
theorem innerOf_ft (f : Ft S σ s) (hS : [50, 51, 52, 54, 75, 83, 84, 87, 88].all (fun k => !S.contains k) = true) {a r : Int32} (h : F_innerOf a σ = some (r, σ)) (hr : ¬ r = -1) : F_innerOf a s = some (r, s) := by
  have hf : ∀ k, k ∈ [50, 51, 52, 54, 75, 83, 84, 87, 88] → S.contains k = false := fun k hk => by
    have := List.all_eq_true.mp hS k hk
    simpa using this
  have hm : ∀ (x : Int64) (a : Int32), (F_memberOf a x σ = none ∧ F_memberOf a x s = none) ∨ ∃ y, F_memberOf a x σ = some (y, σ) ∧ F_memberOf a x s = some (y, s) := fun x a => memberOf_ft f (by
    rw [List.all_eq_true]; intro k hk; rw [hf k (by simp only [List.mem_cons, List.not_mem_nil, or_false] at hk ⊢; omega)]; rfl) a
  have hb : ∀ σ' : TS, some ((Sum.inr (-1) : Unit ⊕ Int32), σ') = some (.inr r, σ) → False := fun σ' z => by
    have := congrArg Prod.fst (Option.some.inj z)
    have this : (Sum.inr (-1) : Unit ⊕ Int32) = .inr r := this
    exact hr (Sum.inr.inj this).symm
  obtain ⟨sb, hsb⟩ := t_badAny 22 0 σ
  have loop : ∀ (n : Nat) (x2 j : Int32), L_innerOf_19 n x2 j σ = some (.inr r, σ) → L_innerOf_19 n x2 j s = some (.inr r, s) := by
    intro n
    induction n with
    | zero => intro x2 j z; exact absurd z (by intro z; cases z)
    | succ n ih =>
      intro x2 j z
      rw [L_innerOf_19] at z ⊢
      rw [(f 50 (hf 50 (by decide))).2.2.2]
      by_cases q : j < 0
      · rw [ifT q] at z
        exact absurd (congrArg Prod.fst (Option.some.inj z)) (by intro z; cases z)
      rw [ifF q] at z ⊢
      by_cases q2 : inb x2 481
      case neg => rw [ifF q2] at z; exact absurd z (by intro z; cases z)
      rw [ifT q2] at z ⊢
      rcases hm (tB σ 50 (ix x2)) j with ⟨h1, h2⟩ | ⟨y, h1, h2⟩
      · rw [h1] at z; exact absurd z (by intro z; cases z)
      rw [h1, ob_some] at z
      rw [h2, ob_some, (f 75 (hf 75 (by decide))).2.2.1, (f 84 (hf 84 (by decide))).2.2.1, (f 52 (hf 52 (by decide))).2.2.1]
      by_cases q3 : y < 0
      · rw [ifT q3] at z ⊢
        by_cases q4 : inb j 200
        · rw [ifT q4, nm_eq] at z ⊢; exact ih _ _ z
        · rw [ifF q4] at z; exact absurd z (by intro z; cases z)
      rw [ifF q3] at z ⊢
      by_cases q4 : inb y 96001
      case neg => rw [ifF q4] at z; exact absurd z (by intro z; cases z)
      rw [ifT q4] at z ⊢
      by_cases q5 : inb (tA σ 84 (ix y)) 481
      case neg => rw [ifF q5] at z; exact absurd z (by intro z; cases z)
      rw [ifT q5] at z ⊢
      by_cases q6 : tA σ 52 (ix (tA σ 84 (ix y))) &&& 8 = 0
      · rw [ifT q6] at z ⊢
        by_cases q7 : inb j 200
        · rw [ifT q7, nm_eq] at z ⊢; exact ih _ _ z
        · rw [ifF q7] at z; exact absurd z (by intro z; cases z)
      rw [ifF q6, ifT q4, nm_eq, ifT q5, ifT q2] at z ⊢
      rw [(f 51 (hf 51 (by decide))).2.2.2, (f 51 (hf 51 (by decide))).2.2.2]
      have one : ¬ (1 : Int32) = 0 := by decide
      by_cases q7 : lg_cmp (tB σ 51 (ix (tA σ 84 (ix y)))) (tB σ 51 (ix x2)) = 0
      case neg =>
        rw [ifF q7, ifT (rfl : (0 : Int32) = 0), hsb, ob_some] at z
        exact absurd z (fun z => hb _ z)
      rw [ifT q7, ifT q2] at z ⊢
      by_cases q8 : lg_cmp (tB σ 51 (ix x2)) 0 = 0
      case neg =>
        rw [ifF q8, ifF one] at z ⊢
        have := congrArg Prod.fst (Option.some.inj z)
        have this : (Sum.inr y : Unit ⊕ Int32) = .inr r := this
        rw [this]
      rw [ifT q8, ifT q5, ifT q2] at z ⊢
      rw [(f 54 (hf 54 (by decide))).2.2.1, (f 54 (hf 54 (by decide))).2.2.1]
      by_cases q9 : tA σ 54 (ix (tA σ 84 (ix y))) = tA σ 54 (ix x2)
      case neg =>
        rw [ifF q9, ifT (rfl : (0 : Int32) = 0), hsb, ob_some] at z
        exact absurd z (fun z => hb _ z)
      rw [ifT q9, ifF one] at z ⊢
      have := congrArg Prod.fst (Option.some.inj z)
      have this : (Sum.inr y : Unit ⊕ Int32) = .inr r := this
      rw [this]
  unfold F_innerOf at h ⊢
  rw [(f 84 (hf 84 (by decide))).2.2.1, (f 83 (hf 83 (by decide))).2.2.1, (f 75 (hf 75 (by decide))).2.2.1]
  by_cases q : inb a 96001
  case neg => rw [ifF q] at h; exact absurd h (by intro z; cases z)
  rw [ifT q, nm_eq, ifT q] at h ⊢
  by_cases q2 : inb (tA σ 83 (ix a)) 200
  case neg => rw [ifF q2] at h; exact absurd h (by intro z; cases z)
  rw [ifT q2, nm_eq] at h ⊢
  cases hL : L_innerOf_19 FU (tA σ 84 (ix a)) (tA σ 75 (ix (tA σ 83 (ix a)))) σ with
  | none => rw [hL] at h; exact absurd h (by intro z; cases z)
  | some p =>
    obtain ⟨y, s1⟩ := p
    rw [hL] at h
    cases y with
    | inl u =>
      rw [obS_inl] at h
      cases hB : F_bad 25 0 s1 with
      | none => rw [hB] at h; exact absurd h (by intro z; cases z)
      | some p2 =>
        rw [hB] at h
        obtain ⟨y2, s2⟩ := p2
        rw [ob_some] at h
        exact absurd (congrArg Prod.fst (Option.some.inj h)).symm hr
    | inr u =>
      rw [obS_inr] at h
      have e := Option.some.inj h
      have e1 : u = r := congrArg Prod.fst e
      have e2 : s1 = σ := congrArg Prod.snd e
      rw [e1, e2] at hL
      rw [loop FU _ _ hL, obS_inr]
end FLX
