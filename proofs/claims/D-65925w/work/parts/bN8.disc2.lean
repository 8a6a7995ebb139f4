/-! Layer B: the flat model: discrete variables are looked at, the loops -/
set_option maxRecDepth 100000
section DISCRETE2
variable {zb zb' : Nat} {fx : Int32} {C : PC} {D D' D1 D2 : FQ} {M M' M1 M2 M3 M0 : CM} {σ σ' σ1 σ2 σ0 s1 s8 s : TS} {mss fss : List Nat} {B V I Bm K N K' N' E A Wn E' A' A0 Wn' v l k x0 dc md X N0 Lp Lp' w d i nf R a f h1 h2 eq L n : Nat} {os : List Nat} {P T Y : Nat → Prop} {x x2 x3 x3' x4 y r kd : Int32} {z7 : Nat → Nat} {S : List Nat}
theorem t_ca90y (hA : A ≤ 200) (h152 : tI s 152 = nI A) : ∀ (m j f : Nat) (q : Int32), j + m = A → m < f → L_checkActions_90 f x q 1 (nI j) s = some (1, s) := by
  intro m
  induction m with
  | zero =>
    intro j f q hj hf
    obtain ⟨f, rfl⟩ : ∃ g, f = g + 1 := ⟨f - 1, by omega⟩
    unfold L_checkActions_90
    rw [h152, ifT ((bI_le (by omega) (by omega)).mpr (by omega))]
  | succ m ih =>
    intro j f q hj hf
    obtain ⟨f, rfl⟩ : ∃ g, f = g + 1 := ⟨f - 1, by omega⟩
    have nx : nI j + 1 = nI (j + 1) := nI_addL j 1
    have le : ¬ nI A ≤ nI j := fun z => by have := (bI_le (by omega) (by omega)).mp z; omega
    unfold L_checkActions_90
    rw [h152, ifF le, ifF (show ¬ (1 : Int32) = 0 by decide), nm_eq, nx]
    exact ih (j + 1) f q (by omega) (by omega)
/-- is a variable assigned -/
theorem z_done2 (h : BS zb z7 C B P mss fss V I Bm Lp x3 D M σ K N E A Wn) (hv : v < 96) : ∃ p, K_X0_isDone (nI v) M = some (b1 p, M) ∧ ∀ q, L_checkActions_90 FU (nI v) q 0 0 σ = some (b1 p, σ) := by
  have W := h.fw
  obtain ⟨⟨c1, c2, c3, c4⟩, c5⟩ := h.2.2.2.1
  have main : ∀ (m j f f' : Nat), j + m = A → m < f → m < f' → ∃ p : Bool, KL_X0_isDone_2 f (nI v) (nI j) M = some (if p then .inr 1 else .inl (), M) ∧ ∀ q, L_checkActions_90 f' (nI v) q 0 (nI j) σ = some (b1 p, σ) := by
    intro m
    induction m with
    | zero =>
      intro j f f' hj hf hf'
      obtain ⟨f, rfl⟩ : ∃ g, f = g + 1 := ⟨f - 1, by omega⟩
      obtain ⟨f', rfl⟩ : ∃ g, f' = g + 1 := ⟨f' - 1, by omega⟩
      have le : nI A ≤ nI j := (bI_le (by omega) (by omega)).mpr (by omega)
      refine ⟨false, ?_, fun q => ?_⟩
      · unfold KL_X0_isDone_2
        rw [c1, ifT le]; rfl
      · unfold L_checkActions_90
        rw [c2, ifT le]; rfl
    | succ m ih =>
      intro j f f' hj hf hf'
      obtain ⟨f, rfl⟩ : ∃ g, f = g + 1 := ⟨f - 1, by omega⟩
      obtain ⟨f', rfl⟩ : ∃ g, f' = g + 1 := ⟨f' - 1, by omega⟩
      have nx : nI j + 1 = nI (j + 1) := nI_addL j 1
      have le : ¬ nI A ≤ nI j := fun z => by have := (bI_le (by omega) (by omega)).mp z; omega
      have get : K_J2_get 112 (nI j) M = some ((pl D 112).getD j 0, M) := ls_get (W.2.1.1 112 (by decide)).1 (by omega)
      have kk : mk M ((pl D 112).getD j 0) = 21 := (W.2.1.2.1 112 (by decide) j (by omega)).1
      obtain ⟨⟨u, u1, u2, u3, -⟩, a2, -⟩ := c5 j (by omega)
      have ij : inb (nI j) 200 := inb_nI' (by omega) (by decide)
      have xj : ix (nI j) = j := ix_nI (by omega)
      obtain ⟨p, g1, g2⟩ := ih (j + 1) f f' (by omega) (by omega) (by omega)
      have hV := h.hV
      have ku : KL_X0_isDone_2 (f + 1) (nI v) (nI j) M = (if mI M 4000 ((pl D 112).getD j 0) = 0 then (if mI M 4001 ((pl D 112).getD j 0) = nI v then some (.inr 1, M) else KL_X0_isDone_2 f (nI v) (nI (j + 1)) M) else KL_X0_isDone_2 f (nI v) (nI (j + 1)) M) := by
        conv => lhs; unfold KL_X0_isDone_2
        rw [c1, ifF le, get, ob_some, ifT (Or.inr kk), ifT kk, get, ob_some, ifT (Or.inr kk), ifT kk, nm_eq, nx]
      have tu : ∀ q, L_checkActions_90 (f' + 1) (nI v) q 0 (nI j) σ = (if tA σ 149 j = 6 then (if tA σ 150 j = nI v then L_checkActions_90 f' (nI v) q 1 (nI (j + 1)) σ else L_checkActions_90 f' (nI v) q 0 (nI (j + 1)) σ) else L_checkActions_90 f' (nI v) q 0 (nI (j + 1)) σ) := fun q => by
        conv => lhs; unfold L_checkActions_90
        rw [c2, ifF le, ifT (rfl : (0 : Int32) = 0), ifT ij, xj, ifT ij, nm_eq, nm_eq, nx]
      rcases a2 with ⟨a2, a3⟩ | ⟨a2, a3⟩
      · by_cases q : u = v
        · refine ⟨true, ?_, fun y => ?_⟩
          · rw [ku, a2, ifT (rfl : (0 : Int32) = 0), u2, q, ifT rfl]; rfl
          · rw [tu, a3, ifT (rfl : (6 : Int32) = 6), u3, q, ifT rfl]
            exact t_ca90y c3 c2 m (j + 1) f' y (by omega) (by omega)
        · have nq : ¬ nI u = nI v := fun z => q ((bI_eq (by omega) (by omega)).mp z)
          refine ⟨p, ?_, fun y => ?_⟩
          · rw [ku, a2, ifT (rfl : (0 : Int32) = 0), u2, ifF nq]; exact g1
          · rw [tu, a3, ifT (rfl : (6 : Int32) = 6), u3, ifF nq]; exact g2 y
      · refine ⟨p, ?_, fun y => ?_⟩
        · rw [ku, a2, ifF (show ¬ (1 : Int32) = 0 by decide)]; exact g1
        · rw [tu, a3, ifF (show ¬ (7 : Int32) = 6 by decide)]; exact g2 y
  have hFU : 200 < FU := by unfold FU; decide
  obtain ⟨p, e1, e2⟩ := main A 0 FU FU (by omega) (by omega) (by omega)
  refine ⟨p, ?_, e2⟩
  unfold K_X0_isDone
  rw [show (0 : Int32) = nI 0 from rfl, e1]
  cases p
  · rw [ifF (show ¬ false = true by decide), obS_inl]; rfl
  · rw [ifT rfl, obS_inr]; rfl
/-- derivatives that actions set -/
theorem z_ca2 (h : BS zb z7 C B P mss fss V I Bm Lp x3 D M σ K N E A Wn) : ∀ (m j f f' : Nat), j + m = A → m < f → m < f' →
    (KL_X0_lookAtDiscretes_2 f (nI j) M = some (.inr (.inr (mn M)), wM M 30 0) ∧ L_checkActions_2 f' (nI j) σ = some ((), badT σ 30)) ∨
    (KL_X0_lookAtDiscretes_2 f (nI j) M = some (.inl (), M) ∧ L_checkActions_2 f' (nI j) σ = some ((), σ)) := by
  have W := h.fw
  obtain ⟨⟨c1, c2, c3, c4⟩, c5⟩ := h.2.2.2.1
  obtain ⟨k1, t1, g1⟩ := h.bad (x4 := 30) (by decide)
  intro m
  induction m with
  | zero =>
    intro j f f' hj hf hf'
    obtain ⟨f, rfl⟩ : ∃ g, f = g + 1 := ⟨f - 1, by omega⟩
    obtain ⟨f', rfl⟩ : ∃ g, f' = g + 1 := ⟨f' - 1, by omega⟩
    have le : nI A ≤ nI j := (bI_le (by omega) (by omega)).mpr (by omega)
    right
    unfold KL_X0_lookAtDiscretes_2 L_checkActions_2
    rw [c1, c2, ifT le, ifT le]
    exact ⟨rfl, rfl⟩
  | succ m ih =>
    intro j f f' hj hf hf'
    obtain ⟨f, rfl⟩ : ∃ g, f = g + 1 := ⟨f - 1, by omega⟩
    obtain ⟨f', rfl⟩ : ∃ g, f' = g + 1 := ⟨f' - 1, by omega⟩
    have nx : nI j + 1 = nI (j + 1) := nI_addL j 1
    have le : ¬ nI A ≤ nI j := fun z => by have := (bI_le (by omega) (by omega)).mp z; omega
    have get : K_J2_get 112 (nI j) M = some ((pl D 112).getD j 0, M) := ls_get (W.2.1.1 112 (by decide)).1 (by omega)
    have kk : mk M ((pl D 112).getD j 0) = 21 := (W.2.1.2.1 112 (by decide) j (by omega)).1
    obtain ⟨⟨u, u1, u2, u3, -⟩, a2, -⟩ := c5 j (by omega)
    have ij : inb (nI j) 200 := inb_nI' (by omega) (by decide)
    have xj : ix (nI j) = j := ix_nI (by omega)
    have go := ih (j + 1) f f' (by omega) (by omega) (by omega)
    unfold KL_X0_lookAtDiscretes_2 L_checkActions_2
    rw [c1, c2, ifF le, ifF le, get, ob_some, ifT (Or.inr kk), ifT kk, ifT ij, xj]
    rcases a2 with ⟨a2, a3⟩ | ⟨a2, a3⟩
    · rw [a2, a3, ifT (rfl : (0 : Int32) = 0), ifF (show ¬ (6 : Int32) = 7 by decide), nm_eq, nm_eq, nx]
      exact go
    · obtain ⟨p, d1, d2⟩ := z_isDer h (nI u)
      rw [a2, a3, ifF (show ¬ (1 : Int32) = 0 by decide), ifT (rfl : (7 : Int32) = 7), ifT kk, ifT ij, u2, u3, d1, ob_some, d2 σ (Ft.rf _ σ), ob_some]
      cases p
      · rw [ifT (show b1 false = 0 from rfl), ifT (show b1 false = 0 from rfl), k1, ob_some, ifT g1.1.2.1.1, t1, ob_some, nm_eq, nx]
        exact Or.inl ⟨rfl, t_ca2b h badT_f (badT_ne (by decide)) m (j + 1) f' (by omega) (by omega)⟩
      · rw [ifF (show ¬ b1 true = 0 by decide), ifF (show ¬ b1 true = 0 by decide), nm_eq, nm_eq, nx]
        exact go
theorem z_ca49 (h : BS zb z7 C B P mss fss V I Bm Lp x3 D M σ K N E A Wn) : ∀ (m j f f' : Nat), j + m = V → m < f → m < f' →
    (KL_X0_lookAtDiscretes_55 f (nI j) M = some (.inr (.inr (mn M)), wM M 30 0) ∧ L_checkActions_49 f' (nI j) σ = some ((), badT σ 30)) ∨
    (KL_X0_lookAtDiscretes_55 f (nI j) M = some (.inl (), M) ∧ L_checkActions_49 f' (nI j) σ = some ((), σ)) := by
  have W := h.fw
  obtain ⟨⟨d1, d2, d3, d4⟩, d5⟩ := h.2.2.2.1
  have c1 := h.fx.2.2.1.1
  have c2 := h.fx.2.2.2.1.1
  have hV := h.hV
  obtain ⟨k1, t1, g1⟩ := h.bad (x4 := 30) (by decide)
  intro m
  induction m with
  | zero =>
    intro j f f' hj hf hf'
    obtain ⟨f, rfl⟩ : ∃ g, f = g + 1 := ⟨f - 1, by omega⟩
    obtain ⟨f', rfl⟩ : ∃ g, f' = g + 1 := ⟨f' - 1, by omega⟩
    have le : nI V ≤ nI j := (bI_le (by omega) (by omega)).mpr (by omega)
    right
    unfold KL_X0_lookAtDiscretes_55 L_checkActions_49
    rw [c2, c1, ifT le, ifT le]
    exact ⟨rfl, rfl⟩
  | succ m ih =>
    intro j f f' hj hf hf'
    obtain ⟨f, rfl⟩ : ∃ g, f = g + 1 := ⟨f - 1, by omega⟩
    obtain ⟨f', rfl⟩ : ∃ g, f' = g + 1 := ⟨f' - 1, by omega⟩
    have nx : nI j + 1 = nI (j + 1) := nI_addL j 1
    have le : ¬ nI V ≤ nI j := fun z => by have := (bI_le (by omega) (by omega)).mp z; omega
    have ij : inb (nI j) 96 := inb_nI' (by omega) (by decide)
    have xj : ix (nI j) = j := ix_nI (by omega)
    obtain ⟨⟨get, kk⟩, ⟨u, u1, u2, u3⟩, ax, -⟩ := h.vr (v := j) (by omega)
    have go := ih (j + 1) f f' (by omega) (by omega) (by omega)
    have fin := t_ca49b (s := badT σ 30) d3 (by rw [(badT_f 152 rfl).1]; exact d2) hV.2 (by rw [(badT_f 107 rfl).1]; exact c1) (badT_ne (by decide)) m (j + 1) f' (by omega) (by omega)
    unfold KL_X0_lookAtDiscretes_55 L_checkActions_49
    rw [c2, c1, ifF le, ifF le, get, ob_some, ifT (Or.inr kk), ifT kk, ifT ij, xj, u2, u3]
    by_cases q : nI u = 2
    · rw [ifT q, ifT q, ifT kk, ifT ij]
      obtain ⟨p, e1, e2⟩ := z_done2 h (v := j) (by omega)
      rcases ax with ⟨a1, a2⟩ | ⟨a1, n, t, a2, a3, a4, -⟩
      · rw [ifT a1, a2, ifT (rfl : (0 : Int32) = 0), e1, ob_some]
        unfold J_checkActions_84_49
        rw [e2, ob_some, ifF (show ¬ (1 : Int32) = 0 by decide)]
        cases p
        · rw [ifT (show b1 false = 0 from rfl), ifT (show b1 false = 0 from rfl), k1, ob_some, ifT g1.1.2.1.1, t1, ob_some, nm_eq, nx]
          exact Or.inl ⟨rfl, fin⟩
        · rw [ifF (show ¬ b1 true = 0 by decide), ifF (show ¬ b1 true = 0 by decide), nm_eq, nm_eq, nx]
          exact go
      · have n0 : ¬ nI n = 0 := fun z => by have := (bI_eq (b := 0) (by omega) (by decide)).mp z; omega
        rw [ifF a1, a2, ifF n0, k1, ob_some, ifT g1.1.2.1.1]
        unfold J_checkActions_84_49
        rw [e2, ob_some, ifT (rfl : (0 : Int32) = 0), t1, ob_some, nm_eq, nx]
        exact Or.inl ⟨rfl, fin⟩
    · rw [ifF q, ifF q, nm_eq, nm_eq, nx]
      exact go
/-- K_X0_lookAtDiscretes and F_checkActions -/
theorem z_disc (h : BS zb z7 C B P mss fss V I Bm Lp x3 D M σ K N E A Wn) :
    (K_X0_lookAtDiscretes M = some (.inr (mn M), wM M 30 0) ∧ F_checkActions σ = some ((), badT σ 30) ∧ FfB C B P mss fss M (wM M 30 0) σ (badT σ 30) (mn M)) ∨
    (K_X0_lookAtDiscretes M = some (.inl (), M) ∧ F_checkActions σ = some ((), σ)) := by
  obtain ⟨⟨d1, d2, d3, d4⟩, d5⟩ := h.2.2.2.1
  have hV := h.hV
  have hFU : 200 < FU := by unfold FU; decide
  have c1 := h.fx.2.2.1.1
  obtain ⟨k1, t1, g1⟩ := h.bad (x4 := 30) (by decide)
  unfold K_X0_lookAtDiscretes F_checkActions
  rcases z_ca2 h A 0 FU FU (by omega) (by omega) (by omega) with ⟨e1, e2⟩ | ⟨e1, e2⟩
  · left
    have fin := t_ca49b (s := badT σ 30) d3 (by rw [(badT_f 152 rfl).1]; exact d2) hV.2 (by rw [(badT_f 107 rfl).1]; exact c1) (badT_ne (by decide)) V 0 FU (by omega) (by omega)
    rw [show (0 : Int32) = nI 0 from rfl, e1, obS_inr, e2, ob_some, fin, ob_some]
    exact ⟨rfl, rfl, g1⟩
  · rw [show (0 : Int32) = nI 0 from rfl, e1, obS_inl, e2, ob_some]
    rcases z_ca49 h V 0 FU FU (by omega) (by omega) (by omega) with ⟨e1, e2⟩ | ⟨e1, e2⟩
    · rw [e1, obS_inr, e2, ob_some]
      exact Or.inl ⟨rfl, rfl, g1⟩
    · rw [e1, obS_inl, e2, ob_some]
      exact Or.inr ⟨rfl, rfl⟩
end DISCRETE2
