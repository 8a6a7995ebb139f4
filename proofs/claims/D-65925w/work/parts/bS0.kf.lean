/-! Layer B: solving and running: what they write; gathering sums, both sides -/
set_option maxRecDepth 100000
/-- whose things solving and running write -/
def TZ (t : Nat) : Prop := t = 1 ∨ (117 ≤ t ∧ t < 167) ∨ (tg 98 0 ≤ t ∧ t < tg 99 0) ∨ (tg 112 0 ≤ t ∧ t < tg 114 0) ∨ (tg 134 0 ≤ t ∧ t < tg 135 0) ∨ (tg 136 0 ≤ t ∧ t < tg 137 0)
/-- a step that makes nothing: ints I, links R, arrays A of ints, X of links -/
def KF (D : FQ) (I R A X : List Nat) (M M' : CM) : Prop := Fq D TZ M M' ∧ (∀ g o, I.contains g = false → mI M' g o = mI M g o) ∧ (∀ g o, R.contains g = false → mR M' g o = mR M g o) ∧ (∀ a j, A.contains a = false → mA M' a j = mA M a j) ∧ (∀ a j, X.contains a = false → mX M' a j = mX M a j) ∧ (∀ a j, mL M' a j = mL M a j) ∧ (∀ o, mk M' o = mk M o ∧ ml M' o = ml M o) ∧ mn M' = mn M ∧ ms M' = ms M
section KFS
variable {C : PC} {P : Nat → Prop} {mss fss : List Nat} {D : FQ} {M M' M1 M2 : CM} {σ σ' : TS} {I R A X I' R' A' X' xs S : List Nat} {B g o a j l v V : Nat} {x : Int32} {z7 : Nat → Nat} {II Bm : Nat}
theorem KF.rf : KF D I R A X M M := ⟨Fz.rf, fun _ _ _ => rfl, fun _ _ _ => rfl, fun _ _ _ => rfl, fun _ _ _ => rfl, fun _ _ => rfl, fun _ => ⟨rfl, rfl⟩, rfl, rfl⟩
theorem KF.tr (h : KF D I R A X M M1) (k : KF D I R A X M1 M2) : KF D I R A X M M2 := ⟨Fz.tr h.1 k.1, fun g o z => (k.2.1 g o z).trans (h.2.1 g o z), fun g o z => (k.2.2.1 g o z).trans (h.2.2.1 g o z), fun g o z => (k.2.2.2.1 g o z).trans (h.2.2.2.1 g o z), fun g o z => (k.2.2.2.2.1 g o z).trans (h.2.2.2.2.1 g o z), fun g o => (k.2.2.2.2.2.1 g o).trans (h.2.2.2.2.2.1 g o), fun o => ⟨(k.2.2.2.2.2.2.1 o).1.trans (h.2.2.2.2.2.2.1 o).1, (k.2.2.2.2.2.2.1 o).2.trans (h.2.2.2.2.2.2.1 o).2⟩, k.2.2.2.2.2.2.2.1.trans h.2.2.2.2.2.2.2.1, k.2.2.2.2.2.2.2.2.trans h.2.2.2.2.2.2.2.2⟩
theorem ncon {L L' : List Nat} (h : L.all L'.contains = true) {g : Nat} (z : L'.contains g = false) : L.contains g = false := by
  cases e : L.contains g with
  | false => rfl
  | true =>
    have := List.all_eq_true.mp h g (by simpa using e)
    rw [z] at this; cases this
theorem KF.mono (h : KF D I R A X M M1) (hI : I.all I'.contains = true) (hR : R.all R'.contains = true) (hA : A.all A'.contains = true) (hX : X.all X'.contains = true) : KF D I' R' A' X' M M1 := ⟨h.1, fun g o z => h.2.1 g o (ncon hI z), fun g o z => h.2.2.1 g o (ncon hR z), fun g o z => h.2.2.2.1 g o (ncon hA z), fun g o z => h.2.2.2.2.1 g o (ncon hX z), h.2.2.2.2.2⟩
theorem KF.wI (h : KF D I R A X M M1) (hI : I.contains g = true) (ho : TZ (tgof D o)) : KF D I R A X M (msI M1 g o x) := h.tr ⟨Fz.rf.msI (fun _ => ho), fun f q z => by rw [mI_msI, ifF (fun y => by rw [y.1, hI] at z; cases z)], fun _ _ _ => rfl, fun _ _ _ => rfl, fun _ _ _ => rfl, fun _ _ => rfl, fun _ => ⟨rfl, rfl⟩, rfl, rfl⟩
theorem KF.wR {x : Nat} (h : KF D I R A X M M1) (hR : R.contains g = true) (ho : TZ (tgof D o)) : KF D I R A X M (msR M1 g o x) := h.tr ⟨Fz.rf.msR (fun _ => ho), fun _ _ _ => rfl, fun f q z => by rw [mR_msR, ifF (fun y => by rw [y.1, hR] at z; cases z)], fun _ _ _ => rfl, fun _ _ _ => rfl, fun _ _ => rfl, fun _ => ⟨rfl, rfl⟩, rfl, rfl⟩
theorem KF.wA (h : KF D I R A X M M1) (hA : A.contains a = true) (ho : 117 ≤ a ∧ a < 167) : KF D I R A X M (mwA M1 a j x) := h.tr ⟨Fz.rf.mwA (fun _ => by rw [tgo_s ho.2]; exact Or.inr (Or.inl ho)), fun _ _ _ => rfl, fun _ _ _ => rfl, fun f q z => by rw [mA_mwA, ifF (fun y => by rw [y.1, hA] at z; cases z)], fun _ _ _ => rfl, fun _ _ => rfl, fun _ => ⟨rfl, rfl⟩, rfl, rfl⟩
theorem KF.wX {x : Nat} (h : KF D I R A X M M1) (hA : X.contains a = true) (ho : 117 ≤ a ∧ a < 167) : KF D I R A X M (mwX M1 a j x) := h.tr ⟨Fz.rf.mwX (fun _ => by rw [tgo_s ho.2]; exact Or.inr (Or.inl ho)), fun _ _ _ => rfl, fun _ _ _ => rfl, fun _ _ _ => rfl, fun f q z => by rw [mX_mwX, ifF (fun y => by rw [y.1, hA] at z; cases z)], fun _ _ => rfl, fun _ => ⟨rfl, rfl⟩, rfl, rfl⟩
theorem KF.i (h : KF D I R A X M M1) (hI : I.contains g = false) (o : Nat) : mI M1 g o = mI M g o := h.2.1 g o hI
theorem KF.r (h : KF D I R A X M M1) (hI : R.contains g = false) (o : Nat) : mR M1 g o = mR M g o := h.2.2.1 g o hI
theorem KF.ga (h : KF D I R A X M M1) (hI : A.contains a = false) (j : Nat) : mA M1 a j = mA M a j := h.2.2.2.1 a j hI
theorem KF.gx (h : KF D I R A X M M1) (hI : X.contains a = false) (j : Nat) : mX M1 a j = mX M a j := h.2.2.2.2.1 a j hI
theorem KF.k (h : KF D I R A X M M1) (o : Nat) : mk M1 o = mk M o := (h.2.2.2.2.2.2.1 o).1
theorem KF.gl (h : KF D I R A X M M1) (o : Nat) : ml M1 o = ml M o := (h.2.2.2.2.2.2.1 o).2
theorem KF.n (h : KF D I R A X M M1) : mn M1 = mn M := h.2.2.2.2.2.2.2.1
/-- rows stay -/
theorem KF.ls (h : KF D I R A X M M1) (L : Ls M l xs) (q : AQ D M l g) (h1 : I.contains 4202 = false) (h2 : R.contains 4201 = false) (h3 : X.all (fun x => x < 167) = true) : Ls M1 l xs := by
  obtain ⟨a1, a2, a3, a4, a5⟩ := L
  refine ⟨(h.k l).trans a1, (h.i h1 l).trans a2, a3, fun i hi => ?_, ?_⟩
  · rcases a4 i hi with z | z
    · exact Or.inl ⟨by rw [h.n]; exact z.1, by rw [h.k]; exact z.2⟩
    · exact Or.inr z
  · rw [h.r h2, h.n, h.k, h.gl]
    rcases a5 with z | ⟨z1, z2, z3, z4, z5, z6⟩
    · exact Or.inl z
    · refine Or.inr ⟨z1, z2, z3, z4, z5, fun i hi => ?_⟩
      have q1 := (q z1.2).1.2
      rw [h.gx ?_]
      · exact z6 i hi
      · cases e : X.contains (mR M 4201 l) with
        | false => rfl
        | true =>
          have := List.all_eq_true.mp h3 _ (by simpa using e)
          have := of_decide_eq_true this
          omega
theorem KF.get (h : KF D I R A X M M1) (W : PoW D M) (hl : l ∈ flA) (hj : j < (pl D l).length) (h1 : I.contains 4202 = false) (h2 : R.contains 4201 = false) (h3 : X.all (fun x => x < 167) = true) : K_J2_get l (nI j) M1 = some ((pl D l).getD j 0, M1) := ls_get (h.ls (W.1 l hl).1 (W.1 l hl).2.1 h1 h2 h3) hj
/-- a variable of the flat model -/
theorem FlY.vr (h : FlY z7 C P D mss M σ V II Bm) (W : FW C B P mss fss D M σ) (hv : v < V) : mk M ((pl D 98).getD v 0) = 17 ∧ (∃ x, x < 3 ∧ mI M 3203 ((pl D 98).getD v 0) = nI x ∧ tA σ 94 v = nI x) ∧ v < (pl D 98).length ∧ v < 96 := by
  obtain ⟨-, -, x6, -⟩ := h.1.2.2.2 v hv
  have l := h.1.1.1
  have v96 := h.2.1.1
  exact ⟨(W.2.1.2.1 98 (by decide) v (by omega)).1, x6, by omega, by omega⟩
theorem TZ.vr (W : PoW D M) (hv : v < (pl D 98).length) : TZ (tgof D ((pl D 98).getD v 0)) := by
  rw [W.tv (by decide) hv]
  have := (W.1 98 (by decide)).2.2
  have : flX 98 = 96 := rfl
  unfold TZ tg; omega
theorem TZ.one : TZ (tgof D 1) := by rw [tgo_s (by decide)]; exact Or.inl rfl
end KFS
def sg1 (x : Int32) : Prop := x = 1 ∨ x = -1
theorem sg1.ng {x : Int32} (h : sg1 x) : sg1 (-x) := by
  rcases h with rfl | rfl
  · exact Or.inr rfl
  · exact Or.inl rfl
/-- m variables of a sum so far -/
def GaI (V : Nat) (σ : TS) (M : CM) (s : TS) (m : Nat) : Prop := (mI M 49 1 = nI m ∧ tI s 186 = nI m ∧ m ≤ 2) ∧ (1 ≤ m → ∃ v, v < V ∧ tA σ 94 v = 0 ∧ mA M 117 0 = nI v ∧ tI s 182 = nI v ∧ mA M 118 0 = tI s 184 ∧ sg1 (tI s 184)) ∧ (2 ≤ m → ∃ v, v < V ∧ tA σ 94 v = 0 ∧ mA M 117 1 = nI v ∧ tI s 183 = nI v ∧ mA M 118 1 = tI s 185 ∧ sg1 (tI s 185))
abbrev gaS : List Nat := [182, 183, 184, 185, 186]
abbrev gaK (D : FQ) (M M' : CM) : Prop := KF D [49] [] [117, 118] [] M M'
/-- what solving writes before it makes nodes -/
abbrev svI : List Nat := [49, 57, 66, 3217, 3218, 3219]
abbrev svA : List Nat := [117, 118, 119, 120, 121, 122, 123, 128]
abbrev sv1 : List Nat := [0, 1, 141, 142, 177, 178, 179, 180, 181, 182, 183, 184, 185, 186, 187, 188, 189, 190, 191, 194, 195, 196, 197, 202, 203, 204]
def PA (D : FQ) (M0 : CM) (σ : TS) (M : CM) (s : TS) : Prop := KF D svI [] svA [] M0 M ∧ Ft sv1 σ s
theorem gaK.sv {D : FQ} {M M' : CM} (h : gaK D M M') : KF D svI [] svA [] M M' := KF.mono h (by decide) (by decide) (by decide) (by decide)
section GATHER
variable {C : PC} {P : Nat → Prop} {mss fss : List Nat} {D : FQ} {M0 M M' M1 M2 : CM} {σ σ' : TS} {B V I Bm K N : Nat} {z7 : Nat → Nat}
theorem z_gather (W : FW C B P mss fss D M0 σ) (X : FlY z7 C P D mss M0 σ V I Bm) (hN : N ≤ 70000) (hK : K ≤ (pl D 106).length) : ∀ (h f a n : Nat) (sg : Int32) (M : CM) (s : TS) (m : Nat), h ≤ f → NdR 0 D M0 σ 106 V h 0 K N a n → sg1 sg → PA D M0 σ M s → GaI V σ M s m → ∃ r M' s', KG_X0_gather f a sg M = some (r, M') ∧ G_gather f (nI n) sg s = some (r, s') ∧ gaK D M M' ∧ Ft gaS s s' ∧ (r = 0 ∨ r = 1 ∧ ∃ m', GaI V σ M' s' m') := by
  intro h
  induction h with
  | zero => intro f a n sg M s m _ z; exact z.elim
  | succ h ih =>
    intro f a n sg M s m hf nd hs ⟨k, ft⟩ g
    obtain ⟨f, rfl⟩ : ∃ g, f = g + 1 := ⟨f - 1, by omega⟩
    obtain ⟨⟨⟨k0, k1, k2, -⟩, n1, n2⟩, -, nd⟩ := nd
    have km : mk M a = 18 := by
      rw [k.k, k2]
      exact (W.2.1.2.1 106 (by decide) k0 (by omega)).1
    have inn : inb (nI n) 70000 := inb_nI' (by omega) (by decide)
    have xn : ix (nI n) = n := ix_nI (by omega)
    have e0 : mI M 3400 a = mI M0 3400 a := k.i rfl a
    have e1 : mI M 3401 a = mI M0 3401 a := k.i rfl a
    have r5 : mR M 3405 a = mR M0 3405 a := k.r rfl a
    have r6 : mR M 3406 a = mR M0 3406 a := k.r rfl a
    have t1 : tA s 121 n = tA σ 121 n := (ft 121 rfl).2.2.1 n
    have t2 : tA s 122 n = tA σ 122 n := (ft 122 rfl).2.2.1 n
    have t3 : tA s 123 n = tA σ 123 n := (ft 123 rfl).2.2.1 n
    show ∃ r M' s', KB_X0_gather (KG_X0_gather f) a sg M = some (r, M') ∧ B_gather (G_gather f) (nI n) sg s = some (r, s') ∧ _
    have z0 : ∀ op op' : Int32, (op, op') ∈ ([(2, 1), (15, 3), (16, 4), (8, 10), (9, 11), (12, 12), (13, 13), (5, 8), (6, 9), (10, 14), (11, 15), (14, 16)] : List (Int32 × Int32)) → mI M0 3400 a = op → tA σ 121 n = op' → KB_X0_gather (KG_X0_gather f) a sg M = some (0, M) ∧ B_gather (G_gather f) (nI n) sg s = some (0, s) := by
      intro op op' hm h1 h2
      unfold KB_X0_gather B_gather
      rw [xn, e0, t1, h1, h2, ifT km, ifT inn]
      simp only [List.mem_cons, Prod.mk.injEq, List.not_mem_nil, or_false] at hm
      rcases hm with ⟨rfl, rfl⟩ | ⟨rfl, rfl⟩ | ⟨rfl, rfl⟩ | ⟨rfl, rfl⟩ | ⟨rfl, rfl⟩ | ⟨rfl, rfl⟩ | ⟨rfl, rfl⟩ | ⟨rfl, rfl⟩ | ⟨rfl, rfl⟩ | ⟨rfl, rfl⟩ | ⟨rfl, rfl⟩ | ⟨rfl, rfl⟩ <;> simp
    have zz : ∀ op op' : Int32, (op, op') ∈ ([(2, 1), (15, 3), (16, 4), (8, 10), (9, 11), (12, 12), (13, 13), (5, 8), (6, 9), (10, 14), (11, 15), (14, 16)] : List (Int32 × Int32)) → mI M0 3400 a = op → tA σ 121 n = op' → ∃ r M' s', KB_X0_gather (KG_X0_gather f) a sg M = some (r, M') ∧ B_gather (G_gather f) (nI n) sg s = some (r, s') ∧ gaK D M M' ∧ Ft gaS s s' ∧ (r = 0 ∨ r = 1 ∧ ∃ m', GaI V σ M' s' m') := fun op op' hm h1 h2 => by
      obtain ⟨a1, a2⟩ := z0 op op' hm h1 h2
      exact ⟨0, M, s, a1, a2, KF.rf, Ft.rf _ _, Or.inl rfl⟩
    have bi : ∀ op op' sb : Int32, ((op = 3 ∧ op' = 5 ∧ sb = sg) ∨ (op = 4 ∧ op' = 6 ∧ sb = -sg)) → mI M0 3400 a = op → tA σ 121 n = op' → (∃ x, tA σ 122 n = nI x ∧ NdR 0 D M0 σ 106 V h 0 K N (mR M0 3405 a) x) → (∃ y, tA σ 123 n = nI y ∧ NdR 0 D M0 σ 106 V h 0 K N (mR M0 3406 a) y) → ∃ r M' s', KB_X0_gather (KG_X0_gather f) a sg M = some (r, M') ∧ B_gather (G_gather f) (nI n) sg s = some (r, s') ∧ gaK D M M' ∧ Ft gaS s s' ∧ (r = 0 ∨ r = 1 ∧ ∃ m', GaI V σ M' s' m') := by
      intro op op' sb hop h1 h2 ⟨x, x1, x2⟩ ⟨y, y1, y2⟩
      obtain ⟨ra, Ma, sa, a1, a2, a3, a4, a5⟩ := ih f _ x sg M s m (by omega) x2 hs ⟨k, ft⟩ g
      have ka := KF.tr k a3.sv
      have fa := ft.tr (a4.mono (show gaS.all sv1.contains = true by decide))
      have hsb : sg1 sb := by
        rcases hop with ⟨-, -, z⟩ | ⟨-, -, z⟩
        · rw [z]; exact hs
        · rw [z]; exact hs.ng
      have f1 : mk Ma a = 18 := by rw [a3.k]; exact km
      have f2 : mI Ma 3400 a = mI M0 3400 a := ka.i rfl a
      have f3 : mR Ma 3406 a = mR M0 3406 a := ka.r rfl a
      have f4 : tA sa 123 n = tA σ 123 n := (fa 123 rfl).2.2.1 n
      have mid : ∀ r : Int32, ¬ r = 0 → (∃ m', GaI V σ Ma sa m') → ra = r → ∃ rb Mb sb', KG_X0_gather f (mR M0 3406 a) sb Ma = some (rb, Mb) ∧ G_gather f (nI y) sb sa = some (rb, sb') ∧ gaK D Ma Mb ∧ Ft gaS sa sb' ∧ (rb = 0 ∨ rb = 1 ∧ ∃ m', GaI V σ Mb sb' m') := fun r _ ⟨m', hm⟩ _ => ih f _ y sb Ma sa m' (by omega) y2 hsb ⟨ka, fa⟩ hm
      unfold KB_X0_gather B_gather
      rw [xn, e0, t1, h1, h2, ifT km, ifT inn, r5, t2, x1, a1, a2]
      rcases hop with ⟨rfl, rfl, rfl⟩ | ⟨rfl, rfl, rfl⟩
      · rcases a5 with rfl | ⟨rfl, hm⟩
        · exact ⟨0, Ma, sa, by simp +decide only [↓reduceIte, ob_some, km], by simp +decide only [↓reduceIte, ob_some, ifT inn], a3, a4, Or.inl rfl⟩
        · obtain ⟨rb, Mb, sb', b1, b2, b3, b4, b5⟩ := mid 1 (by decide) hm rfl
          refine ⟨rb, Mb, sb', ?_, ?_, a3.tr b3, a4.tr b4, b5⟩
          · rcases b5 with rfl | ⟨rfl, -⟩ <;> simp +decide only [↓reduceIte, ob_some, km, f1, f2, h1, f3, b1]
          · rcases b5 with rfl | ⟨rfl, -⟩ <;> simp +decide only [↓reduceIte, ob_some, ifT inn, f4, y1, b2]
      · rcases a5 with rfl | ⟨rfl, hm⟩
        · exact ⟨0, Ma, sa, by simp +decide only [↓reduceIte, ob_some, km], by simp +decide only [↓reduceIte, ob_some, ifT inn], a3, a4, Or.inl rfl⟩
        · obtain ⟨rb, Mb, sb', b1, b2, b3, b4, b5⟩ := mid 1 (by decide) hm rfl
          refine ⟨rb, Mb, sb', ?_, ?_, a3.tr b3, a4.tr b4, b5⟩
          · rcases b5 with rfl | ⟨rfl, -⟩ <;> simp +decide only [↓reduceIte, ob_some, km, f1, f2, h1, f3, b1]
          · rcases b5 with rfl | ⟨rfl, -⟩ <;> simp +decide only [↓reduceIte, ob_some, ifT inn, f4, y1, b2]
    rcases nd with ⟨-, h1, h2, h3, -⟩ | ⟨-, h1, ⟨v, v1, v2, v3, -⟩, -⟩ | ⟨-, h1, h2, -⟩ | ⟨-, h1, ⟨x, x1, x2⟩, -⟩ | ⟨-, h1, hx, hy, -⟩ | ⟨-, h1, h2, -⟩ | ⟨z, -⟩ | ⟨z, -⟩ | ⟨z, -⟩ | ⟨z, -⟩
    · by_cases q : tA σ 122 n = 0
      · refine ⟨1, M, s, ?_, ?_, KF.rf, Ft.rf _ _, Or.inr ⟨rfl, m, g⟩⟩
        · unfold KB_X0_gather; rw [e0, h1, e1, h3, q, ifT km, ifT rfl, ifT km, ifT rfl]
        · unfold B_gather; rw [xn, t1, h2, t2, q, ifT inn, ifT rfl, ifT inn, ifT rfl]
      · refine ⟨0, M, s, ?_, ?_, KF.rf, Ft.rf _ _, Or.inl rfl⟩
        · unfold KB_X0_gather; rw [e0, h1, e1, h3, ifT km, ifT rfl, ifT km, ifF q]
        · unfold B_gather; rw [xn, t1, h2, t2, ifT inn, ifT rfl, ifT inn, ifF q]
    · simp only [List.mem_cons, Prod.mk.injEq, List.not_mem_nil, or_false] at h1
      rcases h1 with ⟨h1, h2⟩ | ⟨h1, h2⟩ | ⟨h1, h2⟩
      · obtain ⟨q1, ⟨kd, q2, q3, q4⟩, q5, q6⟩ := X.vr W v1
        have get : K_J2_get 98 (nI v) M = some ((pl D 98).getD v 0, M) := k.get W.2.1 (by decide) q5 rfl rfl rfl
        have e3 : mI M 3203 ((pl D 98).getD v 0) = nI kd := (k.i rfl _).trans q3
        have k17 : mk M ((pl D 98).getD v 0) = 17 := (k.k _).trans q1
        have iv : inb (nI v) 96 := inb_nI' q6 (by decide)
        have xv : ix (nI v) = v := ix_nI (by omega)
        have t94 : tA s 94 v = nI kd := ((ft 94 rfl).2.2.1 v).trans q4
        obtain ⟨⟨g1, g2, g3⟩, g4, g5⟩ := g
        by_cases kz : kd = 0
        · have kz' : nI kd = 0 := by rw [kz]; rfl
          have m3 : m = 0 ∨ m = 1 ∨ m = 2 := by omega
          obtain ⟨M', hM⟩ : ∃ q, q = msI (mwA (mwA M 117 m (nI v)) 118 m sg) 49 1 (nI (m + 1)) := ⟨_, rfl⟩
          have kM : gaK D M M' := by rw [hM]; exact (((KF.rf (I := [49]) (R := []) (A := [117, 118]) (X := [])).wA rfl ⟨by decide, by decide⟩).wA rfl ⟨by decide, by decide⟩).wI rfl TZ.one
          have k18 : m < 2 → KB_X0_gather (KG_X0_gather f) a sg M = some (1, M') := fun hm => by
            have im : inb (nI m) 2 := inb_nI' (by omega) (by decide)
            have xm : ix (nI m) = m := ix_nI (by omega)
            have n2 : ¬ nI m = 2 := fun z => by have := (bI_eq (b := 2) (by omega) (by decide)).mp z; omega
            have nx : nI m + 1 = nI (m + 1) := nI_addL m 1
            unfold KB_X0_gather
            rw [e0, h1, e1, v2, get]
            simp +decide only [↓reduceIte, ob_some, km, k17, e3, kz', g1, ifF n2, ifT im, nm_eq, mI_mwA, xm, nx, or_true]
            rw [hM, ← v2, ← e1]
          have tb : ∀ s1 r, (if nI m + 1 = 1 then if 2 < nI m + 1 then some ((0 : Int32), tsI (tsI (tsI s 186 (nI m + 1)) 182 (nI v)) 184 sg) else some (1, tsI (tsI (tsI s 186 (nI m + 1)) 182 (nI v)) 184 sg) else if 2 < nI m + 1 then some (0, tsI (tsI (tsI s 186 (nI m + 1)) 183 (nI v)) 185 sg) else some (1, tsI (tsI (tsI s 186 (nI m + 1)) 183 (nI v)) 185 sg)) = some (r, s1) → B_gather (G_gather f) (nI n) sg s = some (r, s1) := fun s1 r e => by
            unfold B_gather
            rw [xn, t1, h2, t2, v3, xv, t94, g2]
            simp +decide only [↓reduceIte, ifT inn, ifT iv, kz', nm_eq, tI_tsI, tA_tsI, t2, v3]
            exact e
          rcases m3 with rfl | rfl | rfl
          · obtain ⟨s1, hs1⟩ : ∃ q, q = tsI (tsI (tsI s 186 (nI 0 + 1)) 182 (nI v)) 184 sg := ⟨_, rfl⟩
            refine ⟨1, M', s1, k18 (by decide), tb _ _ (by rw [hs1]; rfl), kM, by rw [hs1]; exact (((Ft.rf gaS s).p_tsI rfl).p_tsI rfl).p_tsI rfl, Or.inr ⟨rfl, 1, ⟨by rw [hM, mI_msI, ifT ⟨rfl, rfl⟩], by rw [hs1]; rfl, by decide⟩, fun _ => ⟨v, v1, by rw [q4, kz'], by rw [hM]; rfl, by rw [hs1]; rfl, by rw [hM, hs1]; rfl, by rw [hs1]; exact hs⟩, fun z => absurd z (by decide)⟩⟩
          · obtain ⟨s1, hs1⟩ : ∃ q, q = tsI (tsI (tsI s 186 (nI 1 + 1)) 183 (nI v)) 185 sg := ⟨_, rfl⟩
            obtain ⟨u, u1, u2, u3, u4, u5, u6⟩ := g4 (by decide)
            refine ⟨1, M', s1, k18 (by decide), tb _ _ (by rw [hs1]; rfl), kM, by rw [hs1]; exact (((Ft.rf gaS s).p_tsI rfl).p_tsI rfl).p_tsI rfl, Or.inr ⟨rfl, 2, ⟨by rw [hM, mI_msI, ifT ⟨rfl, rfl⟩], by rw [hs1]; rfl, by decide⟩, fun _ => ⟨u, u1, u2, ?_, ?_, ?_, ?_⟩, fun _ => ⟨v, v1, by rw [q4, kz'], by rw [hM]; rfl, by rw [hs1]; rfl, by rw [hM, hs1]; rfl, by rw [hs1]; exact hs⟩⟩⟩
            · rw [hM, mA_msI, mA_mwA, ifF (by decide), mA_mwA, ifF (by decide)]; exact u3
            · rw [hs1]; exact u4
            · rw [hM, mA_msI, mA_mwA, ifF (by decide), mA_mwA, ifF (by decide), hs1]; exact u5
            · rw [hs1]; exact u6
          · obtain ⟨s1, hs1⟩ : ∃ q, q = tsI (tsI (tsI s 186 (nI 2 + 1)) 183 (nI v)) 185 sg := ⟨_, rfl⟩
            refine ⟨0, M, s1, ?_, tb _ _ (by rw [hs1]; rfl), KF.rf, by rw [hs1]; exact (((Ft.rf gaS s).p_tsI rfl).p_tsI rfl).p_tsI rfl, Or.inl rfl⟩
            unfold KB_X0_gather
            rw [e0, h1, e1, v2, get]
            simp +decide only [↓reduceIte, ob_some, km, k17, e3, kz', g1, or_true]
        · have kz' : ¬ nI kd = 0 := fun z => kz ((bI_eq (b := 0) (by omega) (by decide)).mp z)
          refine ⟨0, M, s, ?_, ?_, KF.rf, Ft.rf _ _, Or.inl rfl⟩
          · unfold KB_X0_gather
            rw [e0, h1, e1, v2, get]
            simp +decide only [↓reduceIte, ob_some, km, k17, e3, ifF kz', or_true]
          · unfold B_gather
            rw [xn, t1, h2, t2, v3, xv, t94]
            simp +decide only [↓reduceIte, ifT inn, ifT iv, ifF kz']
      · exact zz 15 3 (by decide) h1 h2
      · exact zz 16 4 (by decide) h1 h2
    · exact zz 2 1 (by decide) h1 h2
    · simp only [List.mem_cons, Prod.mk.injEq, List.not_mem_nil, or_false] at h1
      rcases h1 with ⟨h1, h2⟩ | ⟨h1, h2⟩ | ⟨h1, h2⟩ | ⟨h1, h2⟩ | ⟨h1, h2⟩
      · obtain ⟨ra, Ma, sa, a1, a2, a3, a4, a5⟩ := ih f _ x (-sg) M s m (by omega) x2 hs.ng ⟨k, ft⟩ g
        refine ⟨ra, Ma, sa, ?_, ?_, a3, a4, a5⟩
        · unfold KB_X0_gather
          rw [e0, h1, r5, a1]
          simp +decide only [↓reduceIte, ob_some, km]
        · unfold B_gather
          rw [xn, t1, h2, t2, x1, a2]
          simp +decide only [↓reduceIte, ob_some, ifT inn]
      · exact zz 8 10 (by decide) h1 h2
      · exact zz 9 11 (by decide) h1 h2
      · exact zz 12 12 (by decide) h1 h2
      · exact zz 13 13 (by decide) h1 h2
    · simp only [List.mem_cons, Prod.mk.injEq, List.not_mem_nil, or_false] at h1
      rcases h1 with ⟨h1, h2⟩ | ⟨h1, h2⟩ | ⟨h1, h2⟩ | ⟨h1, h2⟩ | ⟨h1, h2⟩ | ⟨h1, h2⟩
      · exact bi 3 5 sg (Or.inl ⟨rfl, rfl, rfl⟩) h1 h2 hx hy
      · exact bi 4 6 (-sg) (Or.inr ⟨rfl, rfl, rfl⟩) h1 h2 hx hy
      · exact zz 5 8 (by decide) h1 h2
      · exact zz 6 9 (by decide) h1 h2
      · exact zz 10 14 (by decide) h1 h2
      · exact zz 11 15 (by decide) h1 h2
    · exact zz 14 16 (by decide) h1 h2
    · exact absurd z (by decide)
    · exact absurd z (by decide)
    · exact absurd z (by decide)
    · exact absurd z (by decide)
end GATHER
