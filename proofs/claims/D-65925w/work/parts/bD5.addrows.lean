/-! Layer B: the flat model: all modifications of an element come into a window -/
set_option maxRecDepth 100000
/-- windows: their entries -/
def ge (W : List (Nat × Nat × Nat)) (j : Nat) : Nat × Nat × Nat := W.getD j (0, 0, 0)
/-- those of n modifications from k0 on, in instance i -/
def msE (k0 n i : Nat) : List (Nat × Nat × Nat) := (List.range n).map fun j => (k0 + j, 0, i)
def RsR (C : PC) (P : Nat → Prop) (D : FQ) (M : CM) (σ : TS) (I fr : Nat) (W : List (Nat × Nat × Nat)) : Prop := ∀ j, j < W.length → RoR C P D M σ I (fr + j) (ge W j)
def EsR (σ : TS) (fr : Nat) (W : List (Nat × Nat × Nat)) : Prop := ∀ j, j < W.length → EvR σ (fr + j) (ge W j)
/-- rows from R on -/
def Tr (R t : Nat) : Prop := t = 1 ∨ t = 101 ∨ (tg 101 R ≤ t ∧ t < tg 102 0)
/-- an entry more -/
def putT (σ : TS) (E : Nat) (x y z : Int32) : TS := tsI (tsA (tsA (tsA σ 90 E x) 91 E y) 92 E z) 93 (nI (E + 1))
section ADDROWS
variable {C C' : PC} {D D' D2 : FQ} {M M' M2 : CM} {σ σ' σ2 : TS} {mss fss xs bs qs os : List Nat} {B l k n o m u w Q I I' L V V' Bm Bm' b v r R E E' cr i k0 fr : Nat} {P P' X T : Nat → Prop} {S S' : List Nat} {a : Nat × Nat × Nat} {W W1 W2 : List (Nat × Nat × Nat)}
theorem msE_len : (msE k0 n i).length = n := by unfold msE; rw [List.length_map, List.length_range]
theorem msE_ge (h : k < n) : ge (msE k0 n i) k = (k0 + k, 0, i) := by
  unfold ge msE
  rw [List.getD_eq_getElem?_getD, List.getElem?_map, List.getElem?_range h]; rfl
theorem ge_l (h : k < W1.length) : ge (W1 ++ W2) k = ge W1 k := by
  unfold ge
  rw [List.getD_eq_getElem?_getD, List.getD_eq_getElem?_getD, List.getElem?_append_left h]
theorem ge_r : ge (W1 ++ W2) (W1.length + k) = ge W2 k := by
  unfold ge
  rw [List.getD_eq_getElem?_getD, List.getD_eq_getElem?_getD, List.getElem?_append_right (Nat.le_add_right _ _), Nat.add_sub_cancel_left]
theorem RsR.app (h : RsR C P D M σ I fr W1) (g : RsR C P D M σ I (fr + W1.length) W2) : RsR C P D M σ I fr (W1 ++ W2) := fun j hj => by
  by_cases q : j < W1.length
  · rw [ge_l q]; exact h j q
  · rw [List.length_append] at hj
    have := g (j - W1.length) (by omega)
    rw [show fr + W1.length + (j - W1.length) = fr + j by omega] at this
    rw [show j = W1.length + (j - W1.length) by omega, ge_r]
    rw [show fr + (W1.length + (j - W1.length)) = fr + j by omega]
    exact this
theorem EsR.app (h : EsR σ fr W1) (g : EsR σ (fr + W1.length) W2) : EsR σ fr (W1 ++ W2) := fun j hj => by
  by_cases q : j < W1.length
  · rw [ge_l q]; exact h j q
  · rw [List.length_append] at hj
    have := g (j - W1.length) (by omega)
    rw [show fr + W1.length + (j - W1.length) = fr + j by omega] at this
    rw [show j = W1.length + (j - W1.length) by omega, ge_r]
    rw [show fr + (W1.length + (j - W1.length)) = fr + j by omega]
    exact this
theorem RsR.mv (h : RsR C P D M σ I fr W) (v : Wz C C P M M' σ σ') (hx : Dx D D' M) (hr : ∀ j, j < W.length → RwS D M D' M' (fr + j)) (hI : I ≤ (pl D 99).length ∧ I ≤ I') (f : Ft fiS σ σ') : RsR C P D' M' σ' I' fr W := fun j hj => (h j hj).mv v hx (hr j hj) hI f
theorem EsR.mv (h : EsR σ fr W) (f : Ft fiS σ σ') (hj : ∀ j, fr ≤ j → j < fr + W.length → tA σ' 90 j = tA σ 90 j ∧ tA σ' 91 j = tA σ 91 j ∧ tA σ' 92 j = tA σ 92 j) : EsR σ' fr W := fun j h1 => (h j h1).mv f (hj _ (Nat.le_add_right _ _) (by omega))
theorem Ft.fi (f : Ft S σ σ') (h : S.all fiS.contains = true) : Ft fiS σ σ' := f.mono h
/-- nothing but the twin's chain and entries -/
theorem FiS.tw (F : FiS C B P mss fss D M σ V I Bm cr R E) (f : Ft S σ σ') (hS : S.all [90, 91, 92, 93, 112, 113, 114, 78, 79, 85, 86].contains = true) (h93 : tI σ' 93 = nI E') : FiS C B P mss fss D M σ' V I Bm cr R E' := by
  have f2 : Ft [90, 91, 92, 93, 112, 113, 114, 78, 79, 85, 86] σ σ' := f.mono hS
  obtain ⟨W, N, ⟨⟨a1, a2, a3⟩, ⟨a4, a5, a6⟩, a7, a8⟩, ⟨g, g1, g2, g3, g4⟩, r, ⟨e1, e2⟩, os, o1, o2, o3, o4⟩ := F
  obtain ⟨W', v⟩ := W.mv Fq.rf (O1.rf [] M) (by decide) W.2.1 (Dx.rf D M) ⟨Nat.le_refl _, Nat.le_refl _⟩ f2 (by decide)
  exact ⟨W', N.kp (T := fun _ => False) W.2.1 Fq.rf (fun t z => absurd z (fun q => q)) v (Dx.rf D M) (Tk.ft f2 (by decide)), ⟨⟨a1, by rw [(f2 107 rfl).1]; exact a2, a3⟩, ⟨a4, by rw [(f2 82 rfl).1]; exact a5, a6⟩, a7, by rw [(f2 89 rfl).1]; exact a8⟩, ⟨g, g1, by rw [(f2 132 rfl).1]; exact g2, g3, g4⟩, r, ⟨h93, by rw [(f2 0 rfl).1]; exact e2⟩, os, o1, o2, o3, fun b hb => ⟨(o4 b hb).1, (o4 b hb).2.mv ((f2 84 rfl).2.2.1 b) (f2 52 rfl).2.2.1⟩⟩
theorem putT_f {x y z : Int32} : Ft [90, 91, 92, 93] σ (putT σ E x y z) := (((Ft.rf _ σ).p_tsA rfl).p_tsA rfl).p_tsA rfl |>.p_tsI rfl
theorem t_putE {x y z : Int32} (h : tI σ 93 = nI E) (hE : E < 40000) : F_put x y z σ = some ((), putT σ E x y z) := by
  unfold F_put J_put_19
  have hi : inb (nI E) 40000 := inb_nI' hE (by decide)
  have h1 : tI (tsA σ 90 E x) 93 = nI E := h
  have h2 : tI (tsA (tsA σ 90 E x) 91 E y) 93 = nI E := h
  have h3 : tI (tsA (tsA (tsA σ 90 E x) 91 E y) 92 E z) 93 = nI E := h
  rw [h, ifF (show ¬ nI E = 40000 from by rw [show (40000 : Int32) = nI 40000 from rfl, bI_eq (by omega) (by decide)]; omega), ifT hi, nm_eq, ix_nI (by omega), h1, ifT hi, nm_eq, ix_nI (by omega), h2, ifT hi, nm_eq, ix_nI (by omega), h3, nI_addL, nm_eq]
  rfl
theorem putT_v {x y z : Int32} : tA (putT σ E x y z) 90 E = x ∧ tA (putT σ E x y z) 91 E = y ∧ tA (putT σ E x y z) 92 E = z := by
  unfold putT
  refine ⟨?_, ?_, ?_⟩
  · show tA (tsA (tsA (tsA σ 90 E x) 91 E y) 92 E z) 90 E = x
    rw [tA_tsA, ifF (by omega), tA_tsA, ifF (by omega), tA_tsA, ifT ⟨rfl, rfl⟩]
  · show tA (tsA (tsA (tsA σ 90 E x) 91 E y) 92 E z) 91 E = y
    rw [tA_tsA, ifF (by omega), tA_tsA, ifT ⟨rfl, rfl⟩]
  · show tA (tsA (tsA (tsA σ 90 E x) 91 E y) 92 E z) 92 E = z
    rw [tA_tsA, ifT ⟨rfl, rfl⟩]
theorem putT_o {x y z : Int32} {j : Nat} (h : j ≠ E) : tA (putT σ E x y z) 90 j = tA σ 90 j ∧ tA (putT σ E x y z) 91 j = tA σ 91 j ∧ tA (putT σ E x y z) 92 j = tA σ 92 j := by
  unfold putT
  refine ⟨?_, ?_, ?_⟩
  · show tA (tsA (tsA (tsA σ 90 E x) 91 E y) 92 E z) 90 j = _
    rw [tA_tsA, ifF (by omega), tA_tsA, ifF (by omega), tA_tsA, ifF (by omega)]
  · show tA (tsA (tsA (tsA σ 90 E x) 91 E y) 92 E z) 91 j = _
    rw [tA_tsA, ifF (by omega), tA_tsA, ifF (by omega), tA_tsA, ifF (by omega)]
  · show tA (tsA (tsA (tsA σ 90 E x) 91 E y) 92 E z) 92 j = _
    rw [tA_tsA, ifF (by omega), tA_tsA, ifF (by omega), tA_tsA, ifF (by omega)]
/-- a modification of an element, none of its names used -/
theorem EnOK.new (h : MdR C P M σ m k) (hk : 1 ≤ k ∧ k < tM σ) (hi : i < I) : EnOK C P M σ I m (k, 0, i) := by
  have hl : ∃ ys, LsP P M (mR M 2200 m) ys := by
    rcases h.2 with ⟨_, _, b, _, _, q, _⟩ | ⟨_, _, bs, _, _, _, q, _⟩
    · exact ⟨_, q⟩
    · exact ⟨_, q⟩
  obtain ⟨ys, y⟩ := hl
  exact ⟨h, hk, hi, fun _ => rfl, ys, y.1, Nat.zero_le _⟩
theorem Tr.tn (h : FIn C P D mss M σ V I Bm) (W : PoW D M) {t : Nat} (z : Tr R t) : Tn V I Bm t := by
  have l := h.1
  have l98 := (W.1 98 (by decide)).2.2
  have l99 := (W.1 99 (by decide)).2.2
  have l100 := (W.1 100 (by decide)).2.2
  have e98 : flX 98 = 96 := rfl
  have e99 : flX 99 = 200 := rfl
  have e100 : flX 100 = 20000 := rfl
  unfold Tr at z
  refine ⟨fun v hv => ?_, fun n hn => ?_, fun b hb => ?_⟩ <;> unfold tg at * <;> omega
theorem Tr.mono {R' t : Nat} (h : R ≤ R') (z : Tr R' t) : Tr R t := by
  unfold Tr tg at *; omega
/-- the component's rows of an element's modifications -/
theorem k_addL (hi : i < I) : ∀ (d j f : Nat) (D : FQ) (M : CM) (R : Nat), j + d = os.length → d < f → FiS C B P mss fss D M σ V I Bm cr R E → R + d < 33300 → LsP P M l os → (∀ j, j < os.length → MdR C P M σ (os.getD j 0) (k0 + j)) → 1 ≤ k0 ∧ k0 + os.length ≤ tM σ →
    ∃ D' M', KL_X0_addRows_2 f l ((pl D 99).getD i 0) (nI j) M = some ((), M') ∧ FiS C B P mss fss D' M' σ V I Bm cr (R + d) E ∧ Wz C C P M M' σ σ ∧ Dx D D' M ∧ (∀ r, r < R → RwS D M D' M' r ∧ hit D' M' r = hit D M r) ∧ (∀ c, c < d → RoR C P D' M' σ I (R + c) (k0 + j + c, 0, i) ∧ hit D' M' (R + c) = 0) ∧ FqO D (Tr R) M M' := by
  intro d
  induction d with
  | zero =>
    intro j f D M R hj hf F hR hl hm hk
    obtain ⟨f, rfl⟩ : ∃ g, f = g + 1 := ⟨f - 1, by omega⟩
    have hlen := hl.1.2.2.1
    refine ⟨D, M, ?_, F, Wz.rf (by have := F.1.1.2.2.2.2.1; omega), Dx.rf D M, fun _ _ => ⟨RwS.rf, rfl⟩, fun c hc => absurd hc (Nat.not_lt_zero _), FqO.rf⟩
    rw [KL_X0_addRows_2, ifT hl.1.1, ls_size hl.1, ob_some, ifT ((bI_le (by omega) (by omega)).mpr (by omega))]
  | succ d ih =>
    intro j f D M R hj hf F hR hl hm hk
    obtain ⟨f, rfl⟩ : ∃ g, f = g + 1 := ⟨f - 1, by omega⟩
    have hlen := hl.1.2.2.1
    have hjl : j < os.length := by omega
    have mj := hm j hjl
    obtain ⟨D1, M1, a1, F1, v1, x1, st1, ⟨b1, b2, b3, b4⟩, q1⟩ := F.row (by omega) (os.getD j 0) ((pl D 99).getD i 0) 0
    have iI := F.2.1.1.2.1
    have e99 : (pl D1 99).getD i 0 = (pl D 99).getD i 0 := (x1.1 99 i (by omega)).2
    obtain ⟨D2, M2, c1, F2, v2, x2, st2, ro2, q2⟩ := ih (j + 1) f D1 M1 (R + 1) (by omega) (by omega) F1 (by omega) (hl.wz v1 (fun _ z => z)) (fun j hj => (hm j hj).wz v1 (fun _ z => z) (by omega)) hk
    have n1 := v1.1.1
    have roR : RoR C P D1 M1 σ I R (k0 + j, 0, i) := ⟨os.getD j 0, ⟨b1, b2, by rw [b3, e99]⟩, EnOK.new (mj.wz v1 (fun _ z => z) (by omega)) ⟨by omega, by omega⟩ hi⟩
    refine ⟨D2, M2, ?_, ?_, v1.tr v2 (fun _ z => z), x1.tr x2 n1, fun r hr => ?_, fun c hc => ?_, (q1.mono (fun t z => ?_)).tr (q2.mono (fun t z => z.mono (Nat.le_succ R))) x1⟩
    · rw [KL_X0_addRows_2, ifT hl.1.1, ls_size hl.1, ob_some, ifF (fun z => by have := (bI_le (by omega) (by omega)).mp z; omega), ifT hl.1.1, ls_get hl.1 hjl, ob_some, ifT (Or.inr mj.1.2), a1, ob_some, nI_addL, nm_eq, ← e99]
      exact c1
    · rw [show R + (d + 1) = R + 1 + d by omega]; exact F2
    · exact ⟨(st1 r hr).1.tr (st2 r (by omega)).1, (st2 r (by omega)).2.trans (st1 r hr).2⟩
    · by_cases e : c = 0
      · subst e
        have := st2 R (Nat.lt_succ_self R)
        exact ⟨roR.mv v2 x2 this.1 ⟨F1.2.1.1.2.1, Nat.le_refl _⟩ (Ft.rf _ _), this.2.trans b4⟩
      · have := ro2 (c - 1) (by omega)
        rw [show R + 1 + (c - 1) = R + c by omega, show k0 + (j + 1) + (c - 1) = k0 + j + c by omega] at this
        exact this
    · have := F1.r18.2
      have l101 := (F1.1.2.1.1 101 (by decide)).2.2
      have e101 : flX 101 = 33300 := rfl
      unfold Tr tg at *; omega
theorem k_addRows (F : FiS C B P mss fss D M σ V I Bm cr R E) (hi : i < I) (hl : LsP P M l os) (hm : ∀ j, j < os.length → MdR C P M σ (os.getD j 0) (k0 + j)) (hk : 1 ≤ k0 ∧ k0 + os.length ≤ tM σ) (hR : R + os.length < 33300) : ∃ D' M', K_X0_addRows l ((pl D 99).getD i 0) M = some ((), M') ∧ FiS C B P mss fss D' M' σ V I Bm cr (R + os.length) E ∧ Wz C C P M M' σ σ ∧ Dx D D' M ∧ (∀ r, r < R → RwS D M D' M' r ∧ hit D' M' r = hit D M r) ∧ RsR C P D' M' σ I R (msE k0 os.length i) ∧ (∀ c, c < os.length → hit D' M' (R + c) = 0) ∧ FqO D (Tr R) M M' := by
  have fu := FUb
  have hlen := hl.1.2.2.1
  obtain ⟨D', M', a1, a2, a3, a4, a5, a6, a7⟩ := k_addL (B := B) hi os.length 0 FU D M R (by omega) (by omega) F hR hl hm hk
  refine ⟨D', M', ?_, a2, a3, a4, a5, fun j hj => ?_, fun c hc => (a6 c hc).2, a7⟩
  · unfold K_X0_addRows
    rw [show (0 : Int32) = nI 0 from rfl, a1, ob_some]
  · rw [msE_len] at hj
    rw [msE_ge hj]
    exact (a6 j hj).1
end ADDROWS
