/-! Layer B: the flat model: an expression is flattened, both sides -/
set_option maxRecDepth 100000
section FLAT
variable {C : PC} {D D' D1 D2 : FQ} {M M' M1 M2 M3 : CM} {σ σ' σ1 σ2 : TS} {mss fss ps : List Nat} {B V I Bm b c e f z w q Lp dc n j p x o o1 o2 o3 md x0 l X N0 K K' K1 N N' N1 ar nf d h s s1 s2 a i u1 u2 u3 v : Nat} {P T : Nat → Prop} {x3 x4 tw op op' vl y y2 y3 y4 tok kop u : Int32} {z7 : Nat → Nat} {S : List Nat} {kr : Option ((Nat ⊕ Nat) × CM)} {tr : Option (Int32 × TS)} {cfK : Nat → Nat → Int32 → Int32 → Int32 → CM → Option ((Nat ⊕ Nat) × CM)} {cfT : Int32 → Int32 → Int32 → Int32 → TS → Option (Int32 × TS)} {kk : Nat → CM → Option ((Nat ⊕ Nat) × CM)} {tt : Int32 → TS → Option (Int32 × TS)}
theorem fl_base {cfK : Nat → Nat → Int32 → Int32 → Int32 → CM → Option ((Nat ⊕ Nat) × CM)} (cfT : Int32 → Int32 → Int32 → Int32 → TS → Option (Int32 × TS)) : FlJ md x0 l X N0 z7 C B P mss fss V I Bm Lp x3 i (KB_X0_flatten_3 cfK) (B_build cfT) 0 := by
  intro D M σ K N dc x4 tw ar nf d s o n Fs hd hnf A cx
  have h0 := Fs.2.2.2.2.2.2.2
  obtain ⟨b1, b2, g⟩ := Fs.bad (x4 := 24) (by decide)
  refine g.out ?_ ?_
  · unfold KB_X0_flatten_3
    rw [ifF (show ¬ nI (101 - 0) ≤ 100 by decide), b1, ob_some, ifT (wM_k M 24 0)]
  · have h1 : tI (badT σ 24) 0 ≠ 0 := badT_ne (by decide)
    unfold B_build J_build_21
    rw [t_isBad0 h0, ob_some, ifT (rfl : (0 : Int32) = 0), ifF (show ¬ nI (101 - 0) ≤ 100 by decide), b2, ob_some, t_isBad1 h1, ob_some, ifF (show ¬ (1 : Int32) = 0 by decide)]
theorem fl_step (hB1 : B ≤ 1280) (hi : i < I) (hh : h + 1 ≤ 100) (hF : ∀ a b c d s, tI s 0 ≠ 0 → cfT a b c d s = some (0, s)) (ih : FlJ md x0 l X N0 z7 C B P mss fss V I Bm Lp x3 i cfK cfT h) : FlJ md x0 l X N0 z7 C B P mss fss V I Bm Lp x3 i (KB_X0_flatten_3 cfK) (B_build cfT) (h + 1) := by
  intro D M σ K N dc x4 tw ar nf d s o n Fs hd hnf A cx
  rw [show 101 - (h + 1) = 100 - h by omega]
  cases d with
  | zero => exact A.elim
  | succ d =>
    obtain ⟨⟨Po, ko, hn1, hn⟩, A⟩ := A
    rcases A with ⟨rfl, h1, h2, h3, x, h4, h5⟩ | ⟨rfl, rfl, h3, h4, w, q, h5, h6, h7, h8, h9, h10, h11, h12⟩ | ⟨rfl, rfl, h3, q, h4, h5, h6⟩ | ⟨rfl, rfl, h3, q, h4, h5, h6⟩ | ⟨rfl, rfl, h3, h4⟩ | ⟨rfl, h2, h3, k, h4, h5, h6⟩ | ⟨rfl, h2, h3, k, as, p, h4, h5, h6, h7, h8, h9, h10, h11, h12⟩ | ⟨rfl, h2, h3, h4, x, h5, h6, h7⟩ | ⟨rfl, h2, h3, ⟨x, h4, h5, h6⟩, y, h7, h8, h9⟩ | ⟨rfl, rfl, h3, h4, ⟨x, h5, h6, h7⟩, ⟨y, h8, h9, h10⟩, z, h11, h12, h13⟩ | ⟨rfl, h2, h3, h4, ⟨x, h5, h6, h7⟩, y, h8, h9, h10⟩ | ⟨rfl, h2, h3, h4, h5, x, h6, h7, h8⟩ | ⟨rfl, h2, h3, ⟨x, h4, h5, h6⟩, y, h7, h8, h9⟩ | ⟨rfl, rfl, h3, h4, h5, h6, h7, h8, h9, h10, x, y, h11, h12, h13, h14, h15⟩
    · exact z_con Fs hB1 hd ⟨Po, ko⟩ hn h1 h2 h3 ⟨x, h4, h5⟩
    · exact z_nam Fs hB1 hd ⟨Po, ko⟩ hn h3 h4 h5 h7 h8 h11 h12
    · exact z_refF Fs hB1 hi hd ⟨Po, ko⟩ hn h6.2.2.1 h3 h4 h6
    · exact z_dp Fs hB1 hi hd ⟨Po, ko⟩ hn h3 h4 h6
    · exact z_tim Fs hB1 hd ⟨Po, ko⟩ hn h3 h4
    · exact z_arg ih Fs hB1 hd cx ⟨Po, ko⟩ hn h2 h3 h4 h5 h6
    · exact z_cal ih Fs hB1 hd hnf cx ⟨Po, ko⟩ hn h2 h3 h4 ⟨h5, h6⟩ h7 h8 h9 h10 h11 h12
    · exact z_un hB1 ih Fs hd hnf cx ⟨Po, ko⟩ hn (Or.inl ⟨rfl, h2⟩) h3 h4 h5 h7
    · exact z_bi hB1 hF ih Fs hd hnf cx ⟨Po, ko⟩ hn (Or.inl ⟨rfl, h2⟩) h3 h4 h7 h6 h9
    · exact z_if hB1 hF ih Fs hd hnf cx ⟨Po, ko⟩ hn h3 h4 h5 h8 h11 h7 h10 h13
    · exact z_rl hB1 hF ih Fs hd hnf cx ⟨Po, ko⟩ hn h2 h3 h4 h5 h8 h7 h10
    · exact z_un hB1 ih Fs hd hnf cx ⟨Po, ko⟩ hn (Or.inr ⟨rfl, h2, h3⟩) h4 h5 h6 h8
    · exact z_bi hB1 hF ih Fs hd hnf cx ⟨Po, ko⟩ hn (Or.inr ⟨rfl, h2⟩) h3 h4 h7 h6 h9
    · exact z_smp Fs hB1 hd ⟨Po, ko⟩ hn h3 h4 ⟨h5, h7⟩ ⟨h6, h8⟩ h9 h10 ⟨x, y, h11, h12, h13, h14, h15⟩
theorem fl_all (hB1 : B ≤ 1280) (hi : i < I) : ∀ (h kf tf : Nat), h ≤ 100 → h < kf → h < tf → FlJ md x0 l X N0 z7 C B P mss fss V I Bm Lp x3 i (KG_X0_flatten_3 kf) (G_build tf) h := by
  intro h
  induction h with
  | zero =>
    intro kf tf _ hk ht
    obtain ⟨kf, rfl⟩ : ∃ g, kf = g + 1 := ⟨kf - 1, by omega⟩
    obtain ⟨tf, rfl⟩ : ∃ g, tf = g + 1 := ⟨tf - 1, by omega⟩
    exact fl_base _
  | succ h ih =>
    intro kf tf hh hk ht
    obtain ⟨kf, rfl⟩ : ∃ g, kf = g + 1 := ⟨kf - 1, by omega⟩
    obtain ⟨tf, rfl⟩ : ∃ g, tf = g + 1 := ⟨tf - 1, by omega⟩
    refine fl_step hB1 hi hh (fun a b c d s hs => ?_) (ih kf tf (by omega) (by omega) (by omega))
    obtain ⟨tf, rfl⟩ : ∃ g, tf = g + 1 := ⟨tf - 1, by omega⟩
    exact t_buildF hs a b c d
/-- an expression is flattened -/
theorem z_flatten (hB1 : B ≤ 1280) (hi : i < I) (Fs : FSt md x0 l X N0 z7 C B P mss fss D M σ V I Bm K N Lp 0 x3) (hnf : nf ≤ cnf C) (A : AR P (tN σ) (tQ σ) (cm C) 0 nf (cfn C) M σ d s o n) : FlO md x0 l X N0 z7 C B P mss fss V I Bm Lp 0 x3 s 100 N D M σ K N (K_X0_flatten_2 o ((pl D 99).getD i 0) x3 (-1) M) (F_build (nI n) (nI i) 0 1 σ) := by
  have := fl_all (md := md) (x0 := x0) (l := l) (X := X) (N0 := N0) (z7 := z7) (C := C) (P := P) (mss := mss) (fss := fss) (V := V) (Bm := Bm) (Lp := Lp) (x3 := x3) hB1 hi 100 300 300 (by decide) (by decide) (by decide) D M σ K N 0 (-1) 0 0 nf d s o n Fs (by decide) hnf A (Or.inl ⟨rfl, rfl, rfl⟩)
  unfold K_X0_flatten_2
  rw [obS_id]
  exact this
end FLAT
