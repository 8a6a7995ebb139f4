/-! Layer B: the flat model: a when is begun; what was assigned already -/
set_option maxRecDepth 100000
section WHEN1
variable {zb zb' : Nat} {C : PC} {D D' D1 D2 : FQ} {M M' M1 M2 M3 M0 : CM} {σ σ' σ1 σ2 σ0 s1 s8 : TS} {mss fss : List Nat} {B V I Bm K N K' N' E A Wn E' A' Wn' v l k x0 dc md X N0 Lp w d s o n i nf R a b n1 n2 f g h1 h2 j eq : Nat} {P T Y : Nat → Prop} {x2 x3 x3' x4 x y r : Int32} {z7 : Nat → Nat} {S : List Nat}
/-- one object more in a table -/
theorem BS.nx (h : BS zb z7 C B P mss fss V I Bm Lp x3 D M σ K N E A Wn) (hz : zb ≠ 0) (hl : (l = 112 ∧ R = A) ∨ (l = 113 ∧ R = Wn)) (nx : Nx D M D' M1 l R) : BS zb z7 C B P mss fss V I Bm Lp x3 D' M1 σ K N E A Wn ∧ BTr V C P K N D M σ D' M1 σ ∧ Fq D (fun t => t = l) M M1 := by
  obtain ⟨w1, w2, w3, w4, w5, w6, w7, w8⟩ := nx
  have W := h.fw
  have hlL : l ∈ flL := by rcases hl with ⟨rfl, -⟩ | ⟨rfl, -⟩ <;> decide
  have hlA := flL_A l hlL
  have l0 : l ≠ 1 ∧ l < 167 ∧ (l = 112 ∨ l = 113) := by omega
  have fq1 : Fq D (fun t => t = l) M M1 := w4.mono (fun o ho z => by
    rcases z with z | z
    · rw [z, tgo_s l0.2.1]
    · exact (W.2.1.1 l hlA).2.1.tg (by have := W.rm; omega) ho z)
  have fq : Fq D (TQf A Wn) M M1 := fq1.mono (fun t z => by unfold TQf; omega)
  have s1 : So M M1 1 := Fz.so fq1 (by have := W.n167; omega) (fun z => by rw [tgo_s (by decide)] at z; omega)
  obtain ⟨Fs', bt⟩ := h.tq fq w1 w3 w6 (fun i h1 h2 => w5 i (by omega)) ⟨fun f _ _ => s1.i f, fun f => s1.r f⟩ (Ft.rf tqS σ)
  have c := h.2.2.2.1.1
  have dd := h.2.2.2.2.1.1
  have len : ∀ l n, n ≤ (pl D l).length → n ≤ (pl D' l).length := fun l n hn => by
    by_cases q : n = 0
    · omega
    · have := (w3.1 l (n - 1) (by omega)).1; omega
  exact ⟨⟨Fs', h.2.tb W h.hV bt.2.2.1 fq w3 ⟨s1.i _, s1.i _, s1.i _, s1.i _, s1.i _⟩ (Ft.rf tqS σ) ⟨hz, hz⟩ ⟨by rw [s1.i]; exact c.1, c.2.1, c.2.2.1, len _ _ c.2.2.2⟩ (Nat.le_refl _) (fun _ _ _ _ => rfl) (fun k h1 h2 => by omega) ⟨by rw [s1.i]; exact dd.1, dd.2.1, dd.2.2.1, len _ _ dd.2.2.2⟩ (fun _ _ _ _ => rfl) (fun k h1 h2 => by omega) (fun zz => h.sm zz)⟩, bt, fq1⟩
/-- an int of object 1, not the ones that are fixed -/
theorem BS.w1 (h : BS zb z7 C B P mss fss V I Bm Lp x3 D M σ K N E A Wn) (hf : f = 37 ∨ f = 39) (ft : Ft tqS σ σ') : FSt 1 105 106 12000 1 z7 C B P mss fss D (msI M f 1 x) σ' V I Bm K N Lp 0 x3 ∧ BTr V C P K N D M σ D (msI M f 1 x) σ' ∧ Fq D (TQf A Wn) M (msI M f 1 x) := by
  have W := h.fw
  have F : Fz (fun o => o = 1) M (msI M f 1 x) := Fz.rf.msI (fun _ => rfl)
  have fq : Fq D (TQf A Wn) M (msI M f 1 x) := F.mono (fun o ho z => by rw [z, tgo_s (by decide)]; exact Or.inl rfl)
  have hp : PoW D (msI M f 1 x) := W.2.1.gn W.n167 F (fun o _ z => Or.inl ⟨by omega, by rw [z]; decide⟩) (fun _ _ => rfl) (fun _ _ => rfl) (fun o h1 h2 => absurd h2 (by show ¬ o < mn M; omega))
  have rm := rm_same (D := D) (M := M) (M' := msI M f 1 x) ⟨rfl, rfl⟩ (fun _ => ⟨rfl, rfl, rfl⟩)
  obtain ⟨a, b⟩ := h.tq fq hp (Dx.rf D M) (by rw [rm.1, rm.2]; exact ⟨Nat.le_refl _, Nat.le_refl _⟩) (fun _ _ _ => rfl) ⟨fun g h1 h2 => by rw [mI_msI, ifF (by omega)], fun _ => rfl⟩ ft
  exact ⟨a, b, fq⟩
/-- a when more, under way -/
theorem BS.w39 (h : BS 1 z7 C B P mss fss V I Bm Lp x3 D M σ K N E A Wn) (hW : Wn < 12) : BS 2 z7 C B P mss fss V I Bm Lp x3 D (msI M 39 1 (nI (Wn + 1))) (tsI σ 148 (nI (Wn + 1))) K N E A Wn ∧ BTr V C P K N D M σ D (msI M 39 1 (nI (Wn + 1))) (tsI σ 148 (nI (Wn + 1))) := by
  have ft : Ft tqS σ (tsI σ 148 (nI (Wn + 1))) := (Ft.rf _ σ).p_tsI rfl
  obtain ⟨Fs', bt, fq⟩ := h.w1 (f := 39) (x := nI (Wn + 1)) (Or.inr rfl) ft
  have c := h.2.2.2.1.1
  have dd := h.2.2.2.2.1.1
  exact ⟨⟨Fs', h.2.tb h.fw h.hV bt.2.2.1 fq (Dx.rf D M) ⟨by rw [mI_msI, ifF (by omega)], by rw [mI_msI, ifF (by omega)], by rw [mI_msI, ifF (by omega)], by rw [mI_msI, ifF (by omega)], by rw [mI_msI, ifF (by omega)]⟩ ft ⟨by decide, by decide⟩ ⟨by rw [mI_msI, ifF (by omega)]; exact c.1, c.2.1, c.2.2.1, c.2.2.2⟩ (Nat.le_refl _) (fun _ _ _ _ => rfl) (fun k h1 h2 => by omega) ⟨by rw [mI_msI, ifT ⟨rfl, rfl⟩], rfl, by show Wn + 1 ≤ 12; omega, dd.2.2.2⟩ (fun _ _ _ _ => rfl) (fun k h1 h2 => by omega) (fun zz => absurd zz (by decide))⟩, bt⟩
/-- a when that is whole -/
theorem BS.wend {m : Nat} (h : BS 2 z7 C B P mss fss V I Bm Lp x3 D M σ K N E A Wn) (hl : Wn < (pl D 113).length) (hw : (∃ n, tA σ 145 Wn = nI n ∧ NdR 0 D M σ 106 V 100 1 K N (mR M 3800 ((pl D 113).getD Wn 0)) n) ∧ ∃ A0, mI M 3802 ((pl D 113).getD Wn 0) = nI A0 ∧ tA σ 146 Wn = nI A0 ∧ mI M 3803 ((pl D 113).getD Wn 0) = nI A ∧ A0 + m = A) (hs : Sm 141 142 σ N N E A (Wn + 1)) : BS 1 z7 C B P mss fss V I Bm Lp x3 D M (tsA σ 147 Wn (nI m)) K N E A (Wn + 1) ∧ BTr V C P K N D M σ D M (tsA σ 147 Wn (nI m)) := by
  have ft : Ft tqS σ (tsA σ 147 Wn (nI m)) := (Ft.rf _ σ).p_tsA rfl
  have F : Fq D (TQf A Wn) M M := Fq.rf
  obtain ⟨Fs', bt⟩ := h.tq F h.fw.2.1 (Dx.rf D M) ⟨Nat.le_refl _, Nat.le_refl _⟩ (fun _ _ _ => rfl) ⟨fun _ _ _ => rfl, fun _ => rfl⟩ ft
  have c := h.2.2.2.1.1
  have dd := h.2.2.2.2.1.1
  refine ⟨⟨Fs', h.2.tb h.fw h.hV bt.2.2.1 F (Dx.rf D M) ⟨rfl, rfl, rfl, rfl, rfl⟩ ft ⟨by decide, by decide⟩ c (Nat.le_refl _) (fun g hg k hk => by rw [tA_tsA, ifF (by omega)]) (fun k h1 h2 => by omega) ⟨dd.1, dd.2.1, dd.2.2.1, by omega⟩ (fun g hg k hk => by rw [tA_tsA, ifF (by omega)]) (fun k h1 h2 => ?_) (fun _ => hs.mv bt.2.2.1.n4 (Nat.le_refl _) (Nat.le_refl _) (fun k _ => ⟨(ft 141 rfl).2.2.1 k, (ft 142 rfl).2.2.1 k⟩) (fun k _ => by rw [tA_tsA, ifF (by omega)]) (fun k _ => by rw [tA_tsA, ifF (by omega)]))⟩, bt⟩
  have ek : k = Wn := by omega
  obtain ⟨⟨n, w1, w2⟩, A0, w3, w4, w5, w6⟩ := hw
  rw [ek]
  refine ⟨⟨n, by rw [tA_tsA, ifF (by omega)]; exact w1, NdR.mv bt.2.2.1 (Nat.le_refl _) (Nat.le_refl _) (Nat.le_refl V) 100 100 1 _ _ (Nat.le_refl _) w2⟩, A0, m, w3, by rw [tA_tsA, ifF (by omega)]; exact w4, by rw [w6]; exact w5, by rw [tA_tsA, ifT ⟨rfl, rfl⟩], by omega⟩
theorem t_154m (hA : A ≤ 200) {s : TS} (hb : tI s 0 ≠ 0) (h152 : tI s 152 = nI A) : ∀ (m j f : Nat), j + m = A → m < f → L_when_154 f x2 x x4 y (nI j) s = some ((), s) := by
  intro m
  induction m with
  | zero =>
    intro j f hj hf
    obtain ⟨f, rfl⟩ : ∃ g, f = g + 1 := ⟨f - 1, by omega⟩
    unfold L_when_154
    rw [h152, ifT ((bI_le (by omega) (by omega)).mpr (by omega))]
  | succ m ih =>
    intro j f hj hf
    obtain ⟨f, rfl⟩ : ∃ g, f = g + 1 := ⟨f - 1, by omega⟩
    have nx : nI j + 1 = nI (j + 1) := nI_addL j 1
    have go := ih (j + 1) f (by omega) (by omega)
    unfold L_when_154
    rw [h152, ifF (fun z => by have := (bI_le (by omega) (by omega)).mp z; omega), ifT (inb_nI' (by omega) (by decide)), ifT (inb_nI' (by omega) (by decide))]
    by_cases q : tA s 149 (ix (nI j)) = 6
    · rw [ifT q]
      by_cases q2 : tA s 150 (ix (nI j)) = y
      · rw [ifT q2, t_bad1 hb, ob_some, nm_eq, nx]; exact go
      · rw [ifF q2, nm_eq, nx]; exact go
    · rw [ifF q, nm_eq, nx]; exact go
theorem t_154b (hA : A ≤ 200) {s : TS} (hb : tI s 0 ≠ 0) (h152 : tI s 152 = nI A) : L_when_154 FU x2 x x4 y 0 s = some ((), s) := by
  have hFU : 200 < FU := by unfold FU; decide
  exact t_154m hA hb h152 A 0 FU (by omega) (by omega)
/-- was variable v assigned already -/
theorem z_done (h : BS zb z7 C B P mss fss V I Bm Lp x3 D M σ K N E A Wn) (hv : v < 96) : (K_X0_isDone (nI v) M = some (1, M) ∧ L_when_154 FU x2 x x4 (nI v) 0 σ = some ((), badT σ 30)) ∨ (K_X0_isDone (nI v) M = some (0, M) ∧ L_when_154 FU x2 x x4 (nI v) 0 σ = some ((), σ)) := by
  have W := h.fw
  obtain ⟨⟨c1, c2, c3, c4⟩, c5⟩ := h.2.2.2.1
  have h0 := h.h0
  have main : ∀ (m j f f' : Nat), j + m = A → m < f → m < f' → (KL_X0_isDone_2 f (nI v) (nI j) M = some (.inr 1, M) ∧ L_when_154 f' x2 x x4 (nI v) (nI j) σ = some ((), badT σ 30)) ∨ (KL_X0_isDone_2 f (nI v) (nI j) M = some (.inl (), M) ∧ L_when_154 f' x2 x x4 (nI v) (nI j) σ = some ((), σ)) := by
    intro m
    induction m with
    | zero =>
      intro j f f' hj hf hf'
      obtain ⟨f, rfl⟩ : ∃ g, f = g + 1 := ⟨f - 1, by omega⟩
      obtain ⟨f', rfl⟩ : ∃ g, f' = g + 1 := ⟨f' - 1, by omega⟩
      have le : nI A ≤ nI j := (bI_le (by omega) (by omega)).mpr (by omega)
      right
      unfold KL_X0_isDone_2 L_when_154
      rw [c1, c2, ifT le, ifT le]
      exact ⟨rfl, rfl⟩
    | succ m ih =>
      intro j f f' hj hf hf'
      obtain ⟨f, rfl⟩ : ∃ g, f = g + 1 := ⟨f - 1, by omega⟩
      obtain ⟨f', rfl⟩ : ∃ g, f' = g + 1 := ⟨f' - 1, by omega⟩
      have nx : nI j + 1 = nI (j + 1) := nI_addL j 1
      have le : ¬ nI A ≤ nI j := fun z => by have := (bI_le (by omega) (by omega)).mp z; omega
      have get : K_J2_get 112 (nI j) M = some ((pl D 112).getD j 0, M) := ls_get (W.2.1.1 112 (by decide)).1 (by omega)
      have kk : mk M ((pl D 112).getD j 0) = 21 := (W.2.1.2.1 112 (by decide) j (by omega)).1
      obtain ⟨⟨u, u1, u2, u3, -⟩, a2, -⟩ := c5 j (by omega)
      have ij : inb (nI j) 200 := inb_nI' (by omega) (by decide)
      have xj : ix (nI j) = j := ix_nI (by omega)
      have go := ih (j + 1) f f' (by omega) (by omega) (by omega)
      have hV := h.hV
      unfold KL_X0_isDone_2 L_when_154
      rw [c1, c2, ifF le, ifF le, get, ob_some, ifT (Or.inr kk), ifT kk, ifT ij, xj]
      rcases a2 with ⟨a2, a3⟩ | ⟨a2, a3⟩
      · rw [a2, a3, ifT (rfl : (0 : Int32) = 0), ifT (rfl : (6 : Int32) = 6), get, ob_some, ifT (Or.inr kk), ifT kk, ifT ij, u2, u3]
        by_cases q : u = v
        · left
          rw [q, ifT rfl, ifT rfl, t_badT h0, ob_some, nm_eq, nx]
          exact ⟨rfl, t_154m c3 (badT_ne (by decide)) (by rw [(badT_f 152 rfl).1]; exact c2) m (j + 1) f' (by omega) (by omega)⟩
        · have nq : ¬ nI u = nI v := fun z => q ((bI_eq (by omega) (by omega)).mp z)
          rw [ifF nq, ifF nq, nm_eq, nm_eq, nx]
          exact go
      · rw [a2, a3, ifF (show ¬ (1 : Int32) = 0 by decide), ifF (show ¬ (7 : Int32) = 6 by decide), nm_eq, nm_eq, nx]
        exact go
  have hFU : 200 < FU := by unfold FU; decide
  rcases main A 0 FU FU (by omega) (by omega) (by omega) with ⟨e1, e2⟩ | ⟨e1, e2⟩
  · left
    refine ⟨?_, e2⟩
    unfold K_X0_isDone
    rw [show (0 : Int32) = nI 0 from rfl, e1, obS_inr]
  · right
    refine ⟨?_, e2⟩
    unfold K_X0_isDone
    rw [show (0 : Int32) = nI 0 from rfl, e1, obS_inl]
end WHEN1
