/-! Layer B: an equation that is gone holds no relation (the twin alone) -/
set_option maxRecDepth 100000
/-- no relation stands in a tree -/
def NoR (s : TS) (n : Nat) : Prop := ∀ N h m, OcT s N h n m → ¬ isR s m
/-- equations below j that are gone hold no relation -/
def GoN (s : TS) (j : Nat) : Prop := ∀ e, e < j → tA s 180 e ≠ 0 → ∀ n, n < 100000 → (tA s 174 e = nI n ∨ tA s 175 e = nI n) → NoR s n
section GONE
variable {s s' s1 s2 : TS} {S : List Nat} {n x E j : Nat} {y sg r y1 y2 : Int32}
theorem NoR.ft (h : NoR s n) (f : Ft S s s') (hS : [121, 122, 123, 124].all (fun k => !S.contains k) = true) : NoR s' n := fun N j m o r => by
  refine h N j m (OcT.mv (Nd4.ft f.sy hS) (Nat.le_refl _) _ _ _ _ (Nat.le_refl _) o) ?_
  have e : tA s' 121 m = tA s 121 m := (f 121 (by simpa using List.all_eq_true.mp hS 121 (by decide))).2.2.1 m
  unfold isR at *
  rw [e] at r; exact r
theorem NoR.lf (h2 : tA s 121 n ∉ kd2) (h3 : tA s 121 n ∉ kd3) (h4 : tA s 121 n ∉ kd4) (hr : ¬ isR s n) : NoR s n := fun N h m o => by
  cases h with
  | zero => exact o.elim
  | succ h =>
    rcases o.2 with z | ⟨z, -⟩ | ⟨z, -⟩ | ⟨z, -⟩
    · rw [z]; exact hr
    · exact absurd z h2
    · exact absurd z h3
    · exact absurd z h4
theorem NoR.bi (h4 : tA s 121 n ∉ kd4) (hr : ¬ isR s n) (a : ∀ x, tA s 122 n = nI x → x < 100000 → NoR s x) (b : tA s 121 n ∈ kd3 → ∀ x, tA s 123 n = nI x → x < 100000 → NoR s x) : NoR s n := fun N h m o => by
  cases h with
  | zero => exact o.elim
  | succ h =>
    rcases o.2 with z | ⟨-, x, x1, x2⟩ | ⟨z, x, x1, x2⟩ | ⟨z, -⟩
    · rw [z]; exact hr
    · exact a x x1 x2.lt.2 N h m x2
    · exact b z x x1 x2.lt.2 N h m x2
    · exact absurd z h4
theorem g_gather : ∀ (d : Nat) (y sg r : Int32) (s s' : TS), G_gather d y sg s = some (r, s') → r ≠ 0 → ∀ n, y = nI n → n < 100000 → NoR s n
  | 0, _, _, _, _, _, e, _, _, _, _ => by cases e
  | d + 1, y, sg, r, s, s', e, hr, n, hy, hn => by
    subst hy
    have ih := g_gather d
    have xn : ix (nI n) = n := ix_nI (by omega)
    have e : B_gather (G_gather d) (nI n) sg s = some (r, s') := e
    have no : ∀ {t : TS}, some ((0 : Int32), t) = some (r, s') → False := fun z => hr (Prod.mk.inj (Option.some.inj z)).1.symm
    unfold B_gather at e
    obtain ⟨-, e⟩ := if_e e
    rw [xn] at e
    by_cases c0 : tA s 121 n = 0
    · exact NoR.lf (by rw [c0]; decide) (by rw [c0]; decide) (by rw [c0]; decide) (by unfold isR; rw [c0]; decide)
    by_cases c1 : tA s 121 n = 1
    · exact NoR.lf (by rw [c1]; decide) (by rw [c1]; decide) (by rw [c1]; decide) (by unfold isR; rw [c1]; decide)
    by_cases c2 : tA s 121 n = 2
    · exact NoR.lf (by rw [c2]; decide) (by rw [c2]; decide) (by rw [c2]; decide) (by unfold isR; rw [c2]; decide)
    by_cases c3 : tA s 121 n = 3
    · exact NoR.lf (by rw [c3]; decide) (by rw [c3]; decide) (by rw [c3]; decide) (by unfold isR; rw [c3]; decide)
    by_cases c4 : tA s 121 n = 4
    · exact NoR.lf (by rw [c4]; decide) (by rw [c4]; decide) (by rw [c4]; decide) (by unfold isR; rw [c4]; decide)
    rw [ifF c0, ifF c1, ifF c2, ifF c3, ifF c4] at e
    have two : ∀ {s1 : TS} {sg2 r1 r2 : Int32} {s2 : TS}, G_gather d (tA s 122 n) sg s = some (r1, s1) → r1 ≠ 0 → G_gather d (tA s1 123 n) sg2 s1 = some (r2, s2) → r2 ≠ 0 → (∀ x, tA s 122 n = nI x → x < 100000 → NoR s x) ∧ ∀ x, tA s 123 n = nI x → x < 100000 → NoR s x := fun {s1 sg2 r1 r2 s2} a1 a2 a3 a4 => by
      have f : Ft sF_gather s s1 := fS_G_gather d _ _ _ _ _ a1
      refine ⟨fun x x1 x2 => ih _ _ _ _ _ a1 a2 x x1 x2, fun x x1 x2 => ?_⟩
      exact (ih _ _ _ _ _ a3 a4 x (by rw [(f 123 rfl).2.2.1]; exact x1) x2).ft f.sy (by decide)
    by_cases c5 : tA s 121 n = 5
    · rw [ifT c5] at e
      obtain ⟨-, e⟩ := if_e e
      obtain ⟨r1, s1, e1, e⟩ := ob_e e
      by_cases z : r1 = 0
      · rw [ifT z] at e; exact (no e).elim
      · rw [ifF z] at e
        obtain ⟨-, e⟩ := if_e e
        obtain ⟨r2, s2, e2, e⟩ := ob_e e
        by_cases z2 : r2 = 0
        · rw [ifT z2] at e; exact (no e).elim
        · obtain ⟨q1, q2⟩ := two e1 z e2 z2
          exact NoR.bi (by rw [c5]; decide) (by unfold isR; rw [c5]; decide) q1 (fun _ => q2)
    by_cases c6 : tA s 121 n = 6
    · rw [ifF c5, ifT c6] at e
      obtain ⟨-, e⟩ := if_e e
      obtain ⟨r1, s1, e1, e⟩ := ob_e e
      by_cases z : r1 = 0
      · rw [ifT z] at e; exact (no e).elim
      · rw [ifF z] at e
        obtain ⟨-, e⟩ := if_e e
        obtain ⟨r2, s2, e2, e⟩ := ob_e e
        by_cases z2 : r2 = 0
        · rw [ifT z2] at e; exact (no e).elim
        · obtain ⟨q1, q2⟩ := two e1 z e2 z2
          exact NoR.bi (by rw [c6]; decide) (by unfold isR; rw [c6]; decide) q1 (fun _ => q2)
    by_cases c7 : tA s 121 n = 7
    · rw [ifF c5, ifF c6, ifT c7] at e
      obtain ⟨-, e⟩ := if_e e
      obtain ⟨r1, s1, e1, e⟩ := ob_e e
      have er : r1 = r := (Prod.mk.inj (Option.some.inj e)).1
      exact NoR.bi (by rw [c7]; decide) (by unfold isR; rw [c7]; decide) (fun x x1 x2 => ih _ _ _ _ _ e1 (by rw [er]; exact hr) x x1 x2) (fun z => by rw [c7] at z; exact absurd z (by decide))
    · rw [ifF c5, ifF c6, ifF c7] at e
      exact (no e).elim
theorem g_isAlias (e : F_isAlias y1 y2 s = some (r, s')) (hr : r ≠ 0) : (∀ n, y1 = nI n → n < 100000 → NoR s n) ∧ ∀ n, y2 = nI n → n < 100000 → NoR s n := by
  have no : ∀ {t : TS}, some ((0 : Int32), t) = some (r, s') → False := fun z => hr (Prod.mk.inj (Option.some.inj z)).1.symm
  unfold F_isAlias at e
  rw [nm_eq] at e
  obtain ⟨s1, hs1⟩ : ∃ q, q = tsI s 186 0 := ⟨_, rfl⟩
  have f1 : Ft [186] s s1 := by rw [hs1]; exact (Ft.rf _ s).p_tsI rfl
  rw [← hs1] at e
  obtain ⟨r1, s2, e1, e⟩ := ob_e e
  by_cases z : r1 = 0
  · rw [ifT z] at e; exact (no e).elim
  · rw [ifF z] at e
    have f2 : Ft sF_gather s1 s2 := fS_G_gather 300 _ _ _ _ _ e1
    obtain ⟨r2, s3, e2, e⟩ := ob_e e
    by_cases z2 : r2 = 0
    · rw [ifT z2] at e; exact (no e).elim
    · exact ⟨fun n x1 x2 => (g_gather 300 _ _ _ _ _ e1 z n x1 x2).ft f1.sy (by decide), fun n x1 x2 => ((g_gather 300 _ _ _ _ _ e2 z2 n x1 x2).ft f2.sy (by decide)).ft f1.sy (by decide)⟩
theorem GoN.ft (h : GoN s j) (f : Ft S s s') (hS : [121, 122, 123, 124, 174, 175, 180].all (fun k => !S.contains k) = true) : GoN s' j := fun e he z n hn hz => by
  have hf : ∀ k, k ∈ [121, 122, 123, 124, 174, 175, 180] → S.contains k = false := fun k hk => by simpa using List.all_eq_true.mp hS k hk
  rw [(f 180 (hf 180 (by decide))).2.2.1] at z
  rw [(f 174 (hf 174 (by decide))).2.2.1, (f 175 (hf 175 (by decide))).2.2.1] at hz
  refine (h e he z n hn hz).ft f ?_
  simp only [List.all_cons, List.all_nil, hf 121 (by decide), hf 122 (by decide), hf 123 (by decide), hf 124 (by decide)]; rfl
theorem g_37 (hE : E ≤ 120) : ∀ (tf j : Nat) (s s' : TS) (u : Unit), tI s 144 = nI E → j ≤ E → GoN s j → L_aliases_37 tf (nI j) s = some (u, s') → GoN s' E
  | 0, _, _, _, _, _, _, _, e => by cases e
  | tf + 1, j, s, s', u, h144, hj, h, e => by
    have ih := g_37 hE tf
    unfold L_aliases_37 at e
    rw [h144] at e
    by_cases le : nI E ≤ nI j
    · rw [ifT le] at e
      have : j = E := by have := (bI_le (by omega) (by omega)).mp le; omega
      subst this
      rw [← (Prod.mk.inj (Option.some.inj e)).2]; exact h
    · rw [ifF le] at e
      have jE : j < E := by
        by_cases q : j < E
        · exact q
        · exact absurd ((bI_le (by omega) (by omega)).mpr (by omega)) le
      have xj : ix (nI j) = j := ix_nI (by omega)
      have nx : nI j + 1 = nI (j + 1) := nI_addL j 1
      obtain ⟨-, e⟩ := if_e e
      rw [nm_eq, xj] at e
      obtain ⟨s12, hs12⟩ : ∃ q, q = tsA s 180 j (nZ 0) := ⟨_, rfl⟩
      have f12 : Ft [180] s s12 := by rw [hs12]; exact (Ft.rf _ s).p_tsA rfl
      have v12 : ∀ i, tA s12 180 i = if i = j then nZ 0 else tA s 180 i := fun i => by
        rw [hs12, tA_tsA]
        by_cases y : i = j
        · rw [ifT ⟨rfl, y⟩, ifT y]
        · rw [ifF (fun q => y q.2), ifF y]
      have z0 : nZ 0 = 0 := by decide
      have h12 : GoN s12 j := fun i hi z n hn hz => by
        rw [v12, ifF (by omega)] at z
        rw [(f12 174 rfl).2.2.1, (f12 175 rfl).2.2.1] at hz
        exact (h i hi z n hn hz).ft f12 (by decide)
      rw [← hs12] at e
      obtain ⟨-, e⟩ := if_e e
      obtain ⟨-, e⟩ := if_e e
      obtain ⟨r16, s15, e1, e⟩ := ob_e e
      have f15 : Ft sF_gather s12 s15 := fS_F_isAlias _ _ _ _ _ e1
      have h15 : GoN s15 j := h12.ft f15 (by decide)
      have g15 : tA s15 180 j = 0 := by rw [(f15 180 rfl).2.2.1, v12, ifT rfl, z0]
      have keep : GoN s15 (j + 1) := fun i hi z n hn hz => by
        by_cases y : i = j
        · subst y; exact absurd g15 z
        · exact h15 i (by omega) z n hn hz
      have t15 : tI s15 144 = nI E := (f15 144 rfl).1.trans ((f12 144 rfl).1.trans h144)
      by_cases zr : r16 = 0
      · rw [ifT zr, nm_eq, nx] at e
        exact ih (j + 1) s15 s' u t15 (by omega) keep e
      · rw [ifF zr, nm_eq] at e
        obtain ⟨-, e⟩ := if_e e
        rw [nm_eq] at e
        obtain ⟨-, e⟩ := if_e e
        rw [nm_eq] at e
        by_cases z2 : tA s15 177 (ix (tI s15 182)) = tA s15 177 (ix (tI s15 183))
        · rw [ifT z2, nm_eq, nx] at e
          exact ih (j + 1) s15 s' u t15 (by omega) keep e
        · rw [ifF z2] at e
          obtain ⟨-, e⟩ := if_e e
          obtain ⟨-, e⟩ := if_e e
          rw [nm_eq, nm_eq, nm_eq] at e
          obtain ⟨u2, s40, e2, e⟩ := ob_e e
          have f40 := fS_L_aliases_157 _ _ _ _ _ _ _ _ _ e2
          obtain ⟨-, e⟩ := if_e e
          rw [nm_eq, nm_eq, nm_eq, nx] at e
          obtain ⟨s44, hs44⟩ : ∃ q, q = tsI (tsA s40 180 j (nZ 1)) 181 (tI (tsA s40 180 j (nZ 1)) 181 + 1) := ⟨_, rfl⟩
          have f44 : Ft [180, 181] s40 s44 := by rw [hs44]; exact ((Ft.rf _ s40).p_tsA rfl).p_tsI rfl
          rw [← hs44] at e
          have v44 : ∀ i, i ≠ j → tA s44 180 i = tA s40 180 i := fun i hi => by
            rw [hs44]
            show tA (tsA s40 180 j (nZ 1)) 180 i = _
            rw [tA_tsA, ifF (fun q => hi q.2)]
          refine ih (j + 1) s44 s' u ((f44 144 rfl).1.trans ((f40 144 rfl).1.trans t15)) (by omega) (fun i hi z n hn hz => ?_) e
          rw [(f44 174 rfl).2.2.1, (f44 175 rfl).2.2.1, (f40 174 rfl).2.2.1, (f40 175 rfl).2.2.1] at hz
          have last : NoR s15 n → NoR s44 n := fun q => (q.ft f40 (by decide)).ft f44 (by decide)
          by_cases y : i = j
          · subst y
            obtain ⟨q1, q2⟩ := g_isAlias e1 zr
            rw [(f15 174 rfl).2.2.1, (f15 175 rfl).2.2.1] at hz
            exact last ((hz.elim (fun hz => q1 n hz hn) (fun hz => q2 n hz hn)).ft f15 (by decide))
          · rw [v44 i y, (f40 180 rfl).2.2.1] at z
            exact last (h15 i (by omega) z n hn hz)
theorem g_aliases {u : Unit} (h144 : tI s 144 = nI E) (hE : E ≤ 120) (e : F_aliases s = some (u, s')) : GoN s' E := by
  unfold F_aliases at e
  rw [nm_eq] at e
  obtain ⟨s1, hs1⟩ : ∃ q, q = tsI s 181 0 := ⟨_, rfl⟩
  have f1 : Ft [181] s s1 := by rw [hs1]; exact (Ft.rf _ s).p_tsI rfl
  rw [← hs1] at e
  obtain ⟨u1, s2, e1, e⟩ := ob_e e
  have f2 := fS_L_aliases_7 _ _ _ _ _ e1
  obtain ⟨u2, s3, e2, e⟩ := ob_e e
  have := g_37 hE FU 0 s2 s3 u2 ((f2 144 rfl).1.trans ((f1 144 rfl).1.trans h144)) (Nat.zero_le _) (fun i hi => absurd hi (Nat.not_lt_zero i)) e2
  rw [← (Prod.mk.inj (Option.some.inj e)).2]; exact this
end GONE
