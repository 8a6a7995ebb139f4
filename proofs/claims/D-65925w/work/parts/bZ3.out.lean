/-! Layer B: values while running: outcomes -/
set_option maxRecDepth 100000
/-- a number of both sides, or a fault without a place -/
def NvO {α β : Type} (M : CM) (σ : TS) (R : α → β → Prop) (kr : Option ((α ⊕ Nat) × CM)) (tr : Option (β × TS)) : Prop := (∃ r y σ', r ≠ 0 ∧ kr = some (.inr (mn M), wM M r 0) ∧ tr = some (y, σ') ∧ (tI σ' 0 = r ∧ tI σ' 1 = 0 ∧ tI σ' 171 = nI 0) ∧ Ft [0, 1, 170, 171] σ σ') ∨ ∃ v w σ', R v w ∧ kr = some (.inl v, M) ∧ tr = some (w, σ') ∧ tI σ' 171 = nI 0 ∧ Ft [170, 171] σ σ'
abbrev NvE (M : CM) (σ : TS) (kr : Option ((Int32 ⊕ Nat) × CM)) (tr : Option (Int32 × TS)) : Prop := NvO M σ (fun v w => v = w) kr tr
abbrev kP (d : Nat) := KG_X0_part d
abbrev tP (d : Nat) := G_partial d
section OUT
variable {α β γ δ : Type} {M M0 : CM} {σ σ0 s : TS} {D : FQ} {U V K K1 K2 N l h st d a n o u v w kf tf : Nat} {x x2 y r op tok : Int32} {t : Nat → Int32} {R : α → β → Prop} {R' : γ → δ → Prop} {kr : Option ((α ⊕ Nat) × CM)} {tr : Option (β × TS)} {kk : α → CM → Option ((γ ⊕ Nat) × CM)} {kt : β → TS → Option (δ × TS)}
theorem EvV.ft (E : EvV x2 V U K1 K2 N D M σ) (f : Ft [170, 171] σ s) : EvV x2 V U K1 K2 N D M s := by
  obtain ⟨⟨h0, ht, hx⟩, eu, ev, er, hc, ek, V96, U180, h7⟩ := E
  have ta : ∀ k, ([170, 171] : List Nat).contains k = false → ∀ j, tA s k j = tA σ k j := fun k hk => (f k hk).2.2.1
  refine ⟨⟨(f 0 rfl).1.trans h0, ht.trans (f 165 rfl).1.symm, hx⟩, fun u hu => ?_, fun v hv => ?_, fun r hr z => ?_, hc, ek, V96, U180, h7⟩
  · rw [ta 166 rfl, ta 167 rfl, ta 189 rfl]; exact eu u hu
  · rw [ta 94 rfl, ta 104 rfl, ta 160 rfl, ta 168 rfl, ta 169 rfl]; exact ev v hv
  · rw [(f 154 rfl).1] at z
    rw [ta 163 rfl]; exact er r hr z
theorem LvB.ft (f : Ft [170, 171] σ s) : ∀ (h n : Nat), LvB U σ h n → LvB U s h n
  | 0, _, _ => trivial
  | h + 1, n, z => by
    have ih := fun n z => LvB.ft f h n z
    have ta : ∀ k, ([170, 171] : List Nat).contains k = false → ∀ j, tA s k j = tA σ k j := fun k hk => (f k hk).2.2.1
    obtain ⟨⟨b1, b2, b3⟩, c1, c2, c3, c4⟩ := z
    have lu : ∀ {v u x}, LfU s v u x → LfU σ v u x := fun {v u x} h => by
      unfold LfU at *
      rw [ta 94 rfl, ta 178 rfl] at h
      obtain ⟨a1, ⟨w, w1, w2, w3⟩, a2⟩ := h
      exact ⟨a1, ⟨w, w1, (ta 177 rfl v).symm.trans w2, (ta 179 rfl w).symm.trans w3⟩, a2⟩
    have rk : RqOk σ n → RqOk s n := fun ⟨r, r1, r2, r3⟩ => ⟨r, r1, by rw [ta 162 rfl]; exact r2, by rw [(f 154 rfl).1]; exact r3⟩
    unfold LvB
    rw [ta 121 rfl, ta 122 rfl, ta 123 rfl, ta 124 rfl]
    exact ⟨⟨fun v u x k e l => b1 v u x k e (lu l), b2, fun k => rk (b3 k)⟩, fun k => ih _ (c1 k), fun k => ⟨ih _ (c2 k).1, ih _ (c2 k).2⟩, fun k => ⟨ih _ (c3 k).1, ih _ (c3 k).2.1, ih _ (c3 k).2.2⟩, fun k => ⟨ih _ (c4 k).1, ih _ (c4 k).2⟩⟩
theorem SxE.ft (z : SxE U V K1 K2 N D M σ h st a n) (f : Ft [170, 171] σ s) (h7 : N ≤ 70000) : SxE U V K1 K2 N D M s h st a n := by
  have nx : NdX σ s N := NdX.ft f rfl
  exact ⟨z.1.imp (SxR.mv SnK.rf nx (Nat.le_refl _) (Nat.le_refl _) h7 _ _ _ _ _ (Nat.le_refl _)) (SxR.mv SnK.rf nx (Nat.le_refl _) (Nat.le_refl _) h7 _ _ _ _ _ (Nat.le_refl _)), LvB.ft f _ _ z.2⟩
/-- a value first, then the rest -/
theorem NvO.seq (h : NvO M σ R kr tr) (hb : ∀ y s, tI s 0 ≠ 0 → ∃ y2, kt y s = some (y2, s)) (hg : ∀ v w s, R v w → Ft [170, 171] σ s → tI s 171 = nI 0 → NvO M s R' (kk v M) (kt w s)) : NvO M σ R' (obS kr (fun w M => some (.inr w, M)) kk) (ob tr kt) := by
  rcases h with ⟨r, y, σ', h1, h2, h3, ⟨h4, h5, h6⟩, h7⟩ | ⟨v, w, σ', h0, h1, h2, h3, h4⟩
  · obtain ⟨y2, e⟩ := hb y σ' (by rw [h4]; exact h1)
    exact Or.inl ⟨r, y2, σ', h1, by rw [h2, obS_inr], by rw [h3, ob_some]; exact e, ⟨h4, h5, h6⟩, h7⟩
  · rw [h1, h2, obS_inl, ob_some]
    rcases hg v w σ' h0 h4 h3 with ⟨r, y, s, g1, g2, g3, g4, g5⟩ | ⟨v2, w2, s, g0, g1, g2, g3, g4⟩
    · exact Or.inl ⟨r, y, s, g1, g2, g3, g4, (h4.mono (by decide)).tr g5⟩
    · exact Or.inr ⟨v2, w2, s, g0, g1, g2, g3, h4.tr g4⟩
theorem NuO.nv {kr' : Option ((Int32 ⊕ Nat) × CM)} {tr' : Option (Int32 × TS)} (h : NuO M σ kr' tr') (h171 : tI σ 171 = nI 0) : NvE M σ kr' tr' := by
  rcases h with ⟨r, h1, h2, h3⟩ | ⟨v, h1, h2⟩
  · exact Or.inl ⟨r, 0, _, h1, h2, h3, ⟨rfl, rfl, h171⟩, badT_f.mono (by decide)⟩
  · exact Or.inr ⟨v, v, σ, rfl, h1, h2, h171, Ft.rf _ σ⟩
theorem NvO.ret {v : γ} {w : δ} {k2 : Option ((γ ⊕ Nat) × CM)} {t2 : Option (δ × TS)} (hR : R' v w) (h171 : tI σ 171 = nI 0) (e1 : k2 = some (.inl v, M)) (e2 : t2 = some (w, σ)) : NvO M σ R' k2 t2 := Or.inr ⟨v, w, σ, hR, e1, e2, h171, Ft.rf _ σ⟩
/-- after a fault -/
theorem t_pF (h : tI σ 0 ≠ 0) : tP (d + 1) x y σ = some (0, σ) := by
  show B_partial (tP d) x y σ = _
  unfold B_partial
  rw [t_isBad1 h, ob_some, ifF (show ¬ (1 : Int32) = 0 by decide)]
theorem t_worthF (h : tI σ 0 ≠ 0) : F_worth x y σ = some (0, σ) := t_wF (d := 1899) h
theorem t_holdsF (h : tI σ 0 ≠ 0) : F_holds x y σ = some (0, σ) := t_hF (d := 1899) h
theorem t_fitB {x : Int64} (h : tI σ 0 ≠ 0) : ∃ y2, F_fit x σ = some (y2, σ) := by
  unfold F_fit
  rw [t_bad2 h]
  by_cases z2 : 0 < lg_cmp x 2147483647
  · rw [ifT z2, ob_some]; exact ⟨_, rfl⟩
  · rw [ifF z2]
    by_cases z3 : 0 ≤ lg_cmp x (-2147483647)
    · rw [ifT z3]; exact ⟨_, rfl⟩
    · rw [ifF z3, ob_some]; exact ⟨_, rfl⟩
theorem t_rootB (c1 : tI σ 0 ≠ 0) : ∃ y2, F_root y σ = some (y2, σ) := by
  unfold F_root
  by_cases z : 0 ≤ y
  · have fu : 16777217 ≤ FU := by unfold FU; decide
    have h1 := Int32.le_iff_toInt_le.mp z
    have h2 : (0 : Int32).toInt = 0 := rfl
    have hlt := Int32.toInt_lt y
    obtain ⟨A, hA, hA2⟩ : ∃ A, y = nI A ∧ A < 2147483648 := ⟨y.toInt.toNat, by
      apply Int32.toInt_inj.mp
      rw [bI_toInt (by omega)]; omega, by omega⟩
    obtain ⟨r', e1, e2, e3, e4⟩ := t_rootL (σ := σ) (A * 65536) (by omega) 16777216 0 16777216 FU (by decide) (by omega) (by decide) (by decide) (by omega) (by omega)
    rw [ifT z, hA, nI_i64 hA2, n64_shl (by omega), nm_eq, show (0 : Int64) = n64 0 from rfl, show (16777216 : Int64) = n64 16777216 from rfl, e1, ob_some]
    obtain ⟨y2, e⟩ := t_fitB (x := n64 r') c1
    rw [e, ob_some]; exact ⟨_, rfl⟩
  · rw [ifF z, t_bad2 c1, ob_some]; exact ⟨_, rfl⟩
/-- a solved tree's value -/
theorem z_val (E : EvV x2 V U K1 K2 N D M σ) (h171 : tI σ 171 = nI 0) (hh : h ≤ 200) (r0 : SxE U V K1 K2 N D M σ h 0 a n) : NvE M σ (K_X0_val a M) (F_worth (nI n) x2 σ) := by
  have e := (rv_all E h).1 300 1900 0 (fun _ => 0) M σ a n (by unfold kn; omega) (by omega) r0 ⟨rfl, Ft.rf _ σ, h171, fun j hj => absurd hj (Nat.not_lt_zero _)⟩ (by omega)
  rcases e with ⟨M', σ', w, y, e1, e2, r, b1, b2, b3, b4, b5, b6, b7⟩ | ⟨v, M', σ', e1, e2, b1, b2, b3, -⟩
  · subst b2; subst b3
    exact Or.inl ⟨r, y, σ', b1, e1, e2, ⟨b4, b5, b6⟩, b7⟩
  · subst b1
    exact Or.inr ⟨v, v, σ', rfl, e1, e2, b3, b2⟩
theorem z_is (E : EvV x2 V U K1 K2 N D M σ) (h171 : tI σ 171 = nI 0) (hh : h ≤ 199) (r0 : SxE U V K1 K2 N D M σ h 1 a n) : NvE M σ (K_X0_is a M) (F_holds (nI n) x2 σ) := by
  have e := (rv_all E h).2 300 1900 0 (fun _ => 0) M σ a n (by unfold kc; omega) (by omega) r0 ⟨rfl, Ft.rf _ σ, h171, fun j hj => absurd hj (Nat.not_lt_zero _)⟩ (by omega)
  rcases e with ⟨M', σ', w, y, e1, e2, r, b1, b2, b3, b4, b5, b6, b7⟩ | ⟨v, M', σ', e1, e2, b1, b2, b3, -⟩
  · subst b2; subst b3
    exact Or.inl ⟨r, y, σ', b1, e1, e2, ⟨b4, b5, b6⟩, b7⟩
  · subst b1
    exact Or.inr ⟨v, v, σ', rfl, e1, e2, b3, b2⟩
/-- a relation, as the values are -/
theorem z_live {p q : Nat} (E : EvV x2 V U K1 K2 N D M σ) (h171 : tI σ 171 = nI 0) (hh : h ≤ 198) (r0 : SxE U V K1 K2 N D M σ (h + 1) 1 a n) (hop : (mI M 3400 a, tA σ 122 n) ∈ rlF) (e1 : tA σ 123 n = nI p) (r1 : SxE U V K1 K2 N D M σ h 0 (mR M 3405 a) p) (e2 : tA σ 124 n = nI q) (r2 : SxE U V K1 K2 N D M σ h 0 (mR M 3406 a) q) : NvE M σ (K_X0_live a M) (F_finds (nI n) x2 σ) := by
  obtain ⟨ka, -⟩ := sxe_k E r0 (by omega)
  have e := ev_live (tf := 1900) (kf := 299) (rv_sk E) (by decide) (rv_all E h).1 r0 hop e1 r1 e2 r2 (by unfold kn; omega) (by omega) (s := 0) (t := fun _ => 0) (M := M) (σ := σ) ⟨rfl, Ft.rf _ σ, h171, fun j hj => absurd hj (Nat.not_lt_zero _)⟩ (by omega)
  rw [← is_live ka] at e
  rcases e with ⟨M', σ', w, y, e1, e2, r, b1, b2, b3, b4, b5, b6, b7⟩ | ⟨v, M', σ', e1, e2, b1, b2, b3, -⟩
  · subst b2; subst b3
    exact Or.inl ⟨r, y, σ', b1, e1, e2, ⟨b4, b5, b6⟩, b7⟩
  · subst b1
    exact Or.inr ⟨v, v, σ', rfl, e1, e2, b3, b2⟩
end OUT
