/-! Layer B: names in boxes; paths of modifications -/
set_option maxRecDepth 100000
/-- fields of the twin that no expression needs -/
abbrev txK : List Nat := [41, 44, 45, 46, 47, 49, 50, 51, 52, 53, 54, 55, 56, 57, 58, 59, 60, 61, 62, 63, 64, 65]
section PATH
variable {C : PC} {M M' M0 Mb : CM} {σ σ' σ0 σb s1 : TS} {i dep c s n so ib depb cb' sb' nb' i0 v l p w m Q Q' N : Nat} {bs qs bs' : List Nat} {α β : Type}
theorem Fz.lt {X : Nat → Prop} (h : Fz X M M') : Fz (fun o => o < mn M ∧ X o) M M' := h.mono (fun o ho z => ⟨ho, z⟩)
theorem tx_sub {S : List Nat} (hS : S.all txK.contains = true) (k : Nat) (hk : txK.contains k = false) : S.contains k = false := by
  cases e : S.contains k with
  | false => rfl
  | true =>
    have e3 := List.all_eq_true.mp hS k (by simpa using e)
    rw [e3] at hk; cases hk
theorem tx_txt {S : List Nat} (hS : S.all txK.contains = true) : S.all sF_txt.contains = true := by
  rw [List.all_eq_true] at hS ⊢
  intro k hk
  have h := hS k hk
  have e : ∀ k, k ∈ txK → sF_txt.contains k = true := by decide
  exact e k (by simpa using h)
theorem Tz.tx {S : List Nat} (f : Ft S σ σ') (hS : S.all txK.contains = true) : Tz σ σ' := by
  have g := fun k (hk : txK.contains k = false) => f k (tx_sub hS k hk)
  refine ⟨⟨by unfold tN; rw [(g 28 (by decide)).1]; exact Nat.le_refl _, by unfold tQ; rw [(g 34 (by decide)).1]; exact Nat.le_refl _⟩, fun k hk n _ => ?_, fun k hk n _ => ?_, fun k hk n _ => ?_⟩
  · exact (g k (by rcases hk with rfl | rfl | rfl | rfl <;> decide)).2.2.1 n
  · exact (g k (by rcases hk with rfl | rfl | rfl <;> decide)).2.2.1 n
  · exact (g k (by rcases hk with rfl | rfl <;> decide)).2.2.2 n
theorem Pe.tx {S : List Nat} (P : Pe C M σ i dep c s n) (f : Ft S σ σ') (hS : S.all txK.contains = true) : Pe C M σ' i dep c s n := by
  obtain ⟨a1, a2, a3, a4, N, Q, ⟨a8, a9, a10⟩, a11, a12, a13⟩ := P
  have g := fun k (hk : txK.contains k = false) => f k (tx_sub hS k hk)
  refine ⟨a1.go (X := none_) Fz.rf (fun o z => absurd z (fun q => q)) rfl a1.2.2.1.2.1 a1.2.2.1.2.2 (a1.2.2.2.1.1.kp f (tx_sub hS 8 (by decide)) (tx_sub hS 5 (by decide))) (a1.2.2.2.1.2.1.kp f (tx_sub hS 22 (by decide)) (tx_sub hS 23 (by decide))) (by rw [(g 0 (by decide)).1]; exact a1.2.2.2.1.2.2.1) (by rw [(g 18 (by decide)).1]; exact a1.2.2.2.1.2.2.2) ?_ ?_, a2.fz (X := none_) Fz.rf (fun o z => absurd z (fun q => q)) rfl (fun w _ => rfl) (f.mono (tx_txt hS)) (by decide), ⟨a3.1, by rw [(g 20 (by decide)).1]; exact a3.2.1, a3.2.2⟩, a4, N, Q, ⟨by rw [(g 28 (by decide)).1]; exact a8, a9, a10⟩, by rw [(g 34 (by decide)).1]; exact a11, a12, a13⟩
  · obtain ⟨kd, s, b1, b2⟩ := a1.2.2.2.2.1
    refine ⟨kd, s, by rw [(g 11 (by decide)).1, (g 12 (by decide)).1]; exact b1, ?_⟩
    rw [(g 14 (by decide)).1, (g 15 (by decide)).1, (g 17 (by decide)).1, (g 16 (by decide)).2.1]; exact b2
  · rw [(g 10 (by decide)).1]; exact a1.2.2.2.2.2
theorem Es.tx {S : List Nat} (E : Es Mb σb M σ) (f : Ft S σ σ') (hS : S.all txK.contains = true) : Es Mb σb M σ' := ⟨E.1, E.2.1, E.2.2.1, E.2.2.2.1.tr (Tz.tx f hS), E.2.2.2.2.tr (f.mono (tx_txt hS))⟩
theorem Br.tx {S : List Nat} (h : Br C σ s1) (f : Ft S s1 σ') (hS : S.all txK.contains = true) : Br C σ σ' := by
  obtain ⟨h1, h2, ⟨b1, b2, b3, b4, b5⟩, h3, h4⟩ := h
  have g := fun k (hk : txK.contains k = false) => f k (tx_sub hS k hk)
  exact ⟨by rw [(g 0 (by decide)).1]; exact h1, by rw [(g 1 (by decide)).1]; exact h2, ⟨by rw [(g 0 (by decide)).1]; exact b1, b2.kp f (tx_sub hS 8 (by decide)) (tx_sub hS 5 (by decide)), by rw [(g 10 (by decide)).1]; exact b3, by rw [(g 28 (by decide)).1]; exact b4, by rw [(g 34 (by decide)).1]; exact b5⟩, h3.tr (Tz.tx f hS), h4.tr (f.mono (tx_txt hS))⟩
theorem BW.nmA {k j : Nat} {u : Int32} {f : TS → Option (β × TS)} (h : Br C σ s1) (hk : txK.contains k = true) (g : ∀ s', Br C σ s' → BW C σ (f s')) : BW C σ (nm (tsA s1 k j u) f) := g _ (h.tx (S := [k]) ((Ft.rf _ _).p_tsA (by simp)) (by simp only [List.all_cons, List.all_nil, hk, Bool.and_self]))
theorem BW.nmB {k j : Nat} {u : Int64} {f : TS → Option (β × TS)} (h : Br C σ s1) (hk : txK.contains k = true) (g : ∀ s', Br C σ s' → BW C σ (f s')) : BW C σ (nm (tsB s1 k j u) f) := g _ (h.tx (S := [k]) ((Ft.rf _ _).p_tsB (by simp)) (by simp only [List.all_cons, List.all_nil, hk, Bool.and_self]))
theorem BW.nmI {k : Nat} {u : Int32} {f : TS → Option (β × TS)} (h : Br C σ s1) (hk : txK.contains k = true) (g : ∀ s', Br C σ s' → BW C σ (f s')) : BW C σ (nm (tsI s1 k u) f) := g _ (h.tx (S := [k]) ((Ft.rf _ _).p_tsI (by simp)) (by simp only [List.all_cons, List.all_nil, hk, Bool.and_self]))
theorem BW.itT {c : Prop} [Decidable c] {a b : Option (α × TS)} (hc : c) (h1 : BW C σ a) : BW C σ (if c then a else b) := by
  rw [ifT hc]; exact h1
theorem bw_Fexpression (h : Br C σ s1) : BW C σ (F_expression s1) := bw_expression h 799
theorem bw_Fcondition (h : Br C σ s1) : BW C σ (F_condition s1) := bw_condition h 797
theorem bw_path (h : Br C σ s1) : BW C σ (F_path s1) := by
  unfold F_path
  rw [FUs, L_path_4, t_isBad1 h.b, ob_some, ifF (by decide), obS_inl]
  exact BW.sm h
/-- a box of a word -/
theorem z_box (P : Pe C M σ i dep c s n) (hw : 38 ≤ w ∧ w < 38 + cm C) (h1 : 1 ≤ c) (h2 : 8 ≤ s) : ∃ b M', K_J16_valueOf (nI w) M = some (b, M') ∧ BxR M' (cm C) b w ∧ gR M' b ∧ Fz none_ M M' ∧ mn M' ≤ mn M + 1 ∧ ms M' ≤ ms M + 1 := by
  obtain ⟨L, W, h1280⟩ := P.wb
  have cap := P.cap (k := 1) (by omega)
  have h167 := P.n167
  unfold K_J16_valueOf
  rw [ifF (show ¬ nI w < -128 from by rw [Int32.lt_iff_toInt_lt, bI_toInt (by omega)]; show ¬ ((w : Int) < -128); omega)]
  by_cases h : 127 < w
  · rw [ifT (show (127 : Int32) < nI w from by rw [show (127 : Int32) = nI 127 from rfl, bI_lt (by decide) (by omega)]; exact h), ifT cap, nm_eq, nm_eq, ifT (by omega)]
    have hk : mk (mnew M 23 0 1) (mn M) = 23 := by rw [mk_mnew, ifT rfl]
    unfold K_J16_init K_J15_init
    rw [ifT (by omega), ifT (by omega), ob_some, ifT hk, nm_eq, ob_some]
    refine ⟨mn M, _, rfl, ⟨Or.inl ⟨hk, Nat.lt_succ_self _, by omega, by rw [mI_msI, ifT ⟨rfl, rfl⟩]⟩, hw⟩, Or.inl ⟨Nat.lt_succ_self _, ?_, ?_⟩, Fz.rf.mnew.msI (fun z => absurd z (Nat.lt_irrefl _)), Nat.le_refl _, Nat.le_refl _⟩
    · show mk (mnew M 23 0 1) (mn M) ≠ 0; rw [hk]; decide
    · show mk (mnew M 23 0 1) (mn M) ≤ 24; rw [hk]; decide
  · have e : ∀ d : Nat, 1099511627776 + d - 1099511627776 = d := fun d => by omega
    rw [ifF (show ¬ (127 : Int32) < nI w from by rw [show (127 : Int32) = nI 127 from rfl, bI_lt (by decide) (by omega)]; exact h), nI_addL, ifT (show inb (nI (w + 128)) 256 from inb_nI' (by omega) (by decide)), ix_nI (by omega)]
    refine ⟨_, M, rfl, ⟨Or.inr ⟨by omega, by omega, ?_⟩, hw⟩, Or.inr ⟨by omega, by omega⟩, Fz.rf, by omega, by omega⟩
    rw [e, show (128 : Int32) = nI 128 from rfl, nI_sub (by omega), show w + 128 - 128 = w by omega]
/-- a name stands at i: the component reads it -/
theorem k_name1 (P : Pe C M σ i dep c s n) (h : K_X2_isName M = some (1, M)) (h92 : mA M 92 i = nI w) : K_X2_name M = some (.inl (nI w), msI M 405 90 (nI (i + 1))) := by
  have ht := P.it
  have e : mI (msI M 405 90 (nI (i + 1))) 405 90 - 1 = nI i := by
    rw [mI_msI, ifT ⟨rfl, rfl⟩, show (1 : Int32) = nI 1 from rfl, nI_sub (by omega)]; congr 1
  unfold K_X2_name
  rw [h, ob_some, ifF (show ¬ (1 : Int32) = 0 from by decide), nm_eq, P.i5, nI_addL, e, ifT (inb_nI' (by omega) (by decide)), ix_nI (by omega), mA_msI, h92]
/-- the parts of a path: names, and start at its end -/
def PaC (Q m : Nat) (M : CM) (σ : TS) (st : Int32) (bs qs : List Nat) : Prop := (st = 0 ∧ qs.length = bs.length ∨ st = 1 ∧ qs.length = bs.length + 1 ∧ tB σ 29 (qs.getD bs.length 0) = kco 37) ∧ (∀ k, k < bs.length → ∃ w, BxR M m (bs.getD k 0) w ∧ tB σ 29 (qs.getD k 0) = wc M w) ∧ ∀ k, k < qs.length → (1 ≤ qs.getD k 0 ∧ qs.getD k 0 < Q) ∧ tA σ 33 (qs.getD k 0) = nI (qs.getD (k + 1) 0) ∧ ∀ j, j < k → qs.getD j 0 < qs.getD k 0
theorem PaC.snoc {X : Nat → Prop} {st' : Int32} {b : Nat} (h : PaC Q m M σ 0 bs qs) (F : Fz X M M') (hX : ∀ o, X o → mk M o ≠ 23) (hw : ∀ w, wc M' w = wc M w) (hN : Q ≤ N ∧ N < Q' ∧ 1 ≤ N) (h29 : ∀ j, j < Q → tB σ' 29 j = tB σ 29 j) (h33 : ∀ j, j < Q → ¬ (qs.length ≠ 0 ∧ j = qs.getD (qs.length - 1) 0) → tA σ' 33 j = tA σ 33 j) (hl : qs.length ≠ 0 → tA σ' 33 (qs.getD (qs.length - 1) 0) = nI N) (hn : tA σ' 33 N = 0) (hb : (st' = 0 ∧ bs' = bs ++ [b] ∧ ∃ w, BxR M' m b w ∧ tB σ' 29 N = wc M' w) ∨ (st' = 1 ∧ bs' = bs ∧ tB σ' 29 N = kco 37)) : PaC Q' m M' σ' st' bs' (qs ++ [N]) := by
  obtain ⟨h1, h2, h3⟩ := h
  have h1 : qs.length = bs.length := by
    rcases h1 with ⟨_, q⟩ | ⟨q, _⟩
    · exact q
    · exact absurd q (by decide)
  have gN : (qs ++ [N]).getD qs.length 0 = N := by rw [show qs.length = qs.length + 0 from rfl, getD_app_r]; rfl
  have old : ∀ k, k < bs.length → ∃ w, BxR M' m (bs.getD k 0) w ∧ tB σ' 29 ((qs ++ [N]).getD k 0) = wc M' w := fun k hk => by
    obtain ⟨w, a1, a2⟩ := h2 k hk
    exact ⟨w, a1.fz F hX, by rw [getD_app_l (by omega), h29 _ (h3 k (by omega)).1.2, hw]; exact a2⟩
  refine ⟨?_, ?_, fun k hk => ?_⟩
  · rcases hb with ⟨e1, e2, _⟩ | ⟨e1, e2, e3⟩
    · exact Or.inl ⟨e1, by rw [e2]; simp [h1]⟩
    · exact Or.inr ⟨e1, by rw [e2]; simp [h1], by rw [e2, ← h1, gN]; exact e3⟩
  · rcases hb with ⟨e1, e2, w, e3, e4⟩ | ⟨e1, e2, e3⟩
    · subst e2
      intro k hk
      have hk : k < bs.length + 1 := by simpa using hk
      rcases Nat.lt_or_ge k bs.length with g | g
      · obtain ⟨w', a1, a2⟩ := old k g
        exact ⟨w', by rw [getD_app_l g]; exact a1, a2⟩
      · have ek : k = bs.length := by omega
        subst ek
        exact ⟨w, by rw [show bs.length = bs.length + 0 from rfl, getD_app_r]; exact e3, by rw [← h1, gN]; exact e4⟩
    · subst e2; exact old
  · have hk : k < qs.length + 1 := by simpa using hk
    rcases Nat.lt_or_ge k qs.length with g | g
    · obtain ⟨⟨a1, a2⟩, a3, a4⟩ := h3 k g
      have g1 : (qs ++ [N]).getD k 0 = qs.getD k 0 := getD_app_l g
      rw [g1]
      refine ⟨⟨a1, by omega⟩, ?_, fun j hj => by rw [getD_app_l (by omega)]; exact a4 j hj⟩
      rcases Nat.lt_or_ge (k + 1) qs.length with g3 | g3
      · have l3 : qs.getD k 0 < qs.getD (qs.length - 1) 0 := (h3 (qs.length - 1) (by omega)).2.2 k (by omega)
        rw [getD_app_l g3, h33 _ a2 (by omega)]; exact a3
      · have e3 : k = qs.length - 1 := by omega
        rw [show k + 1 = qs.length by omega, gN, e3]; exact hl (by omega)
    · have ek : k = qs.length := by omega
      subst ek
      rw [gN]
      refine ⟨⟨hN.2.2, hN.2.1⟩, ?_, fun j hj => by rw [getD_app_l hj]; have := (h3 j hj).1.2; omega⟩
      rw [hn, show qs.length + 1 = qs.length + 1 from rfl, getD_app_r]; rfl
theorem PaC.mv {X : Nat → Prop} {st : Int32} (h : PaC Q m M σ st bs qs) (F : Fz X M M') (hX : ∀ o, X o → mk M o ≠ 23) (hw : ∀ w, wc M' w = wc M w) (hQ : Q ≤ Q') (h29 : ∀ j, j < Q → tB σ' 29 j = tB σ 29 j) (h33 : ∀ j, j < Q → tA σ' 33 j = tA σ 33 j) : PaC Q' m M' σ' st bs qs := by
  obtain ⟨h1, h2, h3⟩ := h
  refine ⟨?_, fun k hk => ?_, fun k hk => ?_⟩
  · rcases h1 with q | ⟨q1, q2, q3⟩
    · exact Or.inl q
    · exact Or.inr ⟨q1, q2, by rw [h29 _ (h3 _ (by omega)).1.2]; exact q3⟩
  · obtain ⟨w, a1, a2⟩ := h2 k hk
    have hq : k < qs.length := by rcases h1 with ⟨_, q⟩ | ⟨_, q, _⟩ <;> omega
    exact ⟨w, a1.fz F hX, by rw [h29 _ (h3 k hq).1.2, hw]; exact a2⟩
  · obtain ⟨⟨a1, a2⟩, a3, a4⟩ := h3 k hk
    exact ⟨⟨a1, by omega⟩, by rw [h33 _ a2]; exact a3, a4⟩
/-- the component at a step of a path -/
def pK (f v x1 : Nat) (M : CM) : Option ((Unit ⊕ (Unit ⊕ Nat)) × CM) := ob (K_X2_takeKey 37 M) fun r32 M31 => if mk M31 v = 12 then nm (msI M31 2201 v r32) fun M36 => if mk M36 v = 12 then if mI M36 2201 v = 0 then if mk M36 v = 12 then obS (K_X2_name M36) (fun w44 M40 => some (.inr (.inr w44), M40)) fun r41 M40 => ob (K_J16_valueOf r41 M40) fun r46 M45 => if mk M45 (mR M36 2200 v) = 22 then ob (K_J2_add (mR M36 2200 v) r46 M45) fun _ M50 => KL_X2_mods_91 f x1 v M50 else none else none else KL_X2_mods_91 f x1 v M36 else none else none
theorem path_loop {x1 : Nat} (Pb : Pe C Mb σb ib depb cb' sb' nb') :
    ∀ (g : Nat) (M : CM) (σ : TS) (i f f' : Nat) (bs qs : List Nat), ct C - i < g → g < f → g < f' → Es Mb σb M σ → Pe C M σ i dep c s n → 8 ≤ c → 2000 ≤ s → 4 ≤ n → (mn Mb ≤ v ∧ v < mn M) → mk M v = 12 → mR M 2200 v = l → v ≠ l → LsB Mb M l bs → PaC (tQ σ) (cm C) M σ 0 bs qs → bs.length ≤ i → (∀ k, k < qs.length → tQ σb ≤ qs.getD k 0) →
    (∃ M' σ' i' bs' qs', pK f v x1 M = some (.inl (), M') ∧ L_path_4 f' (nI (qs.getD 0 0)) (nI (qs.getD (qs.length - 1) 0)) σ = some (.inl (nI (qs'.getD 0 0)), σ') ∧ Pe C M' σ' i' dep c s n ∧ i < i' ∧ Es Mb σb M' σ' ∧ (mk M' v = 12 ∧ mR M' 2200 v = l ∧ mI M' 2203 v = mI M 2203 v) ∧ LsB Mb M' l bs' ∧ PaC (tQ σ') (cm C) M' σ' (mI M' 2201 v) bs' qs' ∧ qs' ≠ [] ∧ Fz (fun o => o = 90 ∨ o = v ∨ o = l ∨ o = mR M 4201 l) M M') ∨
    (∃ w M' y σ', pK f v x1 M = some (.inr (.inr w), M') ∧ L_path_4 f' (nI (qs.getD 0 0)) (nI (qs.getD (qs.length - 1) 0)) σ = some (y, σ') ∧ FB C Mb σb M' w σ') := by
  have h167 := Pb.n167
  intro g
  induction g with
  | zero => intro M σ i f f' bs qs hg; exact absurd hg (Nat.not_lt_zero _)
  | succ g ih =>
    intro M σ i f f' bs qs hg hf hf' E P hc hs hn hv hk hl hvl hL hA hbi hqs
    obtain ⟨f, rfl⟩ : ∃ g, f = g + 1 := ⟨f - 1, by omega⟩
    obtain ⟨f', rfl⟩ : ∃ g, f' = g + 1 := ⟨f' - 1, by omega⟩
    have hit := P.it
    have t1280 := P.t1280
    have t9 := P.tN9
    have hlen : qs.length = bs.length := by
      rcases hA.1 with ⟨_, q⟩ | ⟨q, _⟩
      · exact q
      · exact absurd q (by decide)
    have hal : mR M 4201 l ≠ 90 := fun z => by
      have := hL.2.2.2 (by rw [z]; decide)
      omega
    have hl90 : l ≠ 90 := by have := hL.2.1.1; omega
    have hv90 : v ≠ 90 := by omega
    have hva : v ≠ mR M 4201 l := fun z => by
      rcases hL.1.2.2.2.2 with ⟨q, _⟩ | ⟨_, q, _⟩
      · rw [q] at z; have := P.2.2.2.1; omega
      · rw [← z, hk] at q; exact absurd q (by decide)
    -- both make the part, the twin links it
    have part : ∀ (M1 : CM), Pe C M1 σ i dep c s n → Es Mb σb M1 σ → i < ct C → ∃ σ2 σ3 : TS, F_newPart (tL σ 16) σ = some (nI (tQ σ), σ2) ∧ F_next σ2 = some ((), σ3) ∧ Pe C (msI M1 405 90 (nI (i + 1))) σ3 (i + 1) dep (c + 16) (s + 2048) (n + 3) ∧ Es Mb σb (msI M1 405 90 (nI (i + 1))) σ3 ∧ Es M1 σ (msI M1 405 90 (nI (i + 1))) σ3 ∧ (tQ σ3 = tQ σ + 1 ∧ tQ σ < 7000 ∧ 1 ≤ tQ σ) ∧ tB σ3 29 (tQ σ) = tL σ 16 ∧ tA σ3 33 (tQ σ) = 0 := by
      intro M1 P1 E1 hi
      obtain ⟨σ2, a1, a2, a3, a4, a5, ⟨a6, a7, a8, a9⟩, P2, E2⟩ := y_newPart (n := n - 1) (P1.wk (n' := n - 1 + 1) (Nat.le_refl _) (Nat.le_refl _) (by omega)) (tL σ 16)
      obtain ⟨σ3, b1, P3, E3⟩ := z_step P2 hi
      have fr := fS_F_next _ _ _ b1
      refine ⟨σ2, σ3, a1, b1, P3.wk (Nat.le_refl _) (Nat.le_refl _) (by omega), (E1.tr E2).tr E3, E2.tr E3, ⟨?_, a4, a5⟩, by rw [(fr 29 rfl).2.2.2]; exact a6, by rw [(fr 33 rfl).2.2.1]; exact a9⟩
      unfold tQ; rw [(fr 34 rfl).1]; exact a2
    -- the end of a round of the twin
    have lnk : ∀ (M3 : CM) (σ3 : TS) (x3 : Int32) (i' c' s' n' : Nat), Pe C M3 σ3 i' dep c' s' n' → Es Mb σb M3 σ3 → tQ σ ≤ tQ σ3 → ∃ σ4 : TS, (if nI (qs.getD 0 0) = 0 then (if x3 = 0 then ob (F_isSign 46 σ3) fun r30 s29 => if r30 = 0 then some ((.inl (nI (tQ σ)) : Int32 ⊕ Int32), s29) else ob (F_next s29) fun _ s33 => L_path_4 f' (nI (tQ σ)) (nI (tQ σ)) s33 else some (.inl (nI (tQ σ)), σ3)) else if inb (nI (qs.getD (qs.length - 1) 0)) 7000 then nm (tsA σ3 33 (ix (nI (qs.getD (qs.length - 1) 0))) (nI (tQ σ))) fun s18 => if x3 = 0 then ob (F_isSign 46 s18) fun r20 s19 => if r20 = 0 then some (.inl (nI (qs.getD 0 0)), s19) else ob (F_next s19) fun _ s23 => L_path_4 f' (nI (qs.getD 0 0)) (nI (tQ σ)) s23 else some (.inl (nI (qs.getD 0 0)), s18) else none) = (if x3 = 0 then ob (F_isSign 46 σ4) fun r20 s19 => if r20 = 0 then some (.inl (nI ((qs ++ [tQ σ]).getD 0 0)), s19) else ob (F_next s19) fun _ s23 => L_path_4 f' (nI ((qs ++ [tQ σ]).getD 0 0)) (nI ((qs ++ [tQ σ]).getD ((qs ++ [tQ σ]).length - 1) 0)) s23 else some (.inl (nI ((qs ++ [tQ σ]).getD 0 0)), σ4)) ∧ Pe C M3 σ4 i' dep c' s' n' ∧ Es Mb σb M3 σ4 ∧ (∀ k, tI σ4 k = tI σ3 k) ∧ (∀ k j, tB σ4 k j = tB σ3 k j) ∧ (∀ k j, ¬ (k = 33 ∧ qs.length ≠ 0 ∧ j = qs.getD (qs.length - 1) 0) → tA σ4 k j = tA σ3 k j) ∧ (qs.length ≠ 0 → tA σ4 33 (qs.getD (qs.length - 1) 0) = nI (tQ σ)) := by
      intro M3 σ3 x3 i' c' s' n' P3 E3 hq3
      have g1 : (qs ++ [tQ σ]).getD ((qs ++ [tQ σ]).length - 1) 0 = tQ σ := by
        rw [show (qs ++ [tQ σ]).length - 1 = qs.length + 0 by simp, getD_app_r]; rfl
      rw [g1]
      by_cases ha : qs.length = 0
      · have e1 : qs = [] := List.eq_nil_of_length_eq_zero ha
        subst e1
        refine ⟨σ3, ?_, P3, E3, fun _ => rfl, fun _ _ => rfl, fun _ _ _ => rfl, fun z => absurd ha z⟩
        rw [ifT (show nI (([] : List Nat).getD 0 0) = 0 from rfl)]
        rfl
      · obtain ⟨⟨d1, d2⟩, d3, d4⟩ := hA.2.2 0 (by omega)
        obtain ⟨⟨e1, e2⟩, e3, e4⟩ := hA.2.2 (qs.length - 1) (by omega)
        have hne : ¬ nI (qs.getD 0 0) = 0 := by
          rw [show (0 : Int32) = nI 0 from rfl, bI_eq (by omega) (by decide)]; omega
        refine ⟨tsA σ3 33 (qs.getD (qs.length - 1) 0) (nI (tQ σ)), ?_, P3.tp ((Ft.rf [33] _).p_tsA rfl) (by decide), E3.sA (Or.inr (Or.inr rfl)) (hqs _ (by omega)), fun _ => rfl, fun _ _ => rfl, fun k j h => by rw [tA_tsA, ifF (by omega)], fun _ => by rw [tA_tsA, ifT ⟨rfl, rfl⟩]⟩
        rw [ifF hne, ifT (inb_nI' (by omega) (by decide)), nm_eq, ix_nI (by omega), getD_app_l (show 0 < qs.length by omega)]
    have hqs' : ∀ k, k < (qs ++ [tQ σ]).length → tQ σb ≤ (qs ++ [tQ σ]).getD k 0 := fun k hk => by
      have hk : k < qs.length + 1 := by simpa using hk
      rcases Nat.lt_or_ge k qs.length with g | g
      · rw [getD_app_l g]; exact hqs k g
      · rw [show k = qs.length + 0 by omega, getD_app_r]
        exact E.2.2.2.1.1.2
    unfold pK
    rw [L_path_4, t_isBad0 P.g0, ob_some, ifT (rfl : (0 : Int32) = 0)]
    rcases y_key P.px (j := 37) (x := 37) (c := 495873782388) rfl (by decide) (by decide) with ⟨q1, q2, hi, q4, q5⟩ | ⟨q1, q2, q3⟩
    · -- start
      have htk : K_X2_takeKey 37 M = some (1, msI M 405 90 (nI (i + 1))) := by
        unfold K_X2_takeKey
        rw [q1, ob_some, ifF (show ¬ (1 : Int32) = 0 from by decide), nm_eq, P.i5, nI_addL]
      have h16 : tL σ 16 = kco 37 := by
        unfold F_isWord at q2
        rw [ifT q4] at q2
        by_cases z : lg_cmp (tL σ 16) 495873782388 = 0
        · rw [lg_eq.mp z]; decide
        · rw [ifF z] at q2; injection q2 with q2; injection q2 with q2 _; exact absurd q2 (by decide)
      obtain ⟨σ2, σ3, a1, a2, P3, E3, E13, ⟨a3, a4, a5⟩, a6, a7⟩ := part M P E hi
      obtain ⟨P4, E4⟩ := Pb.re (M' := msI (msI M 405 90 (nI (i + 1))) 2201 v 1) (X := fun o => o = v) E3 P3 (Fz.rf.msI (fun _ => rfl)) (fun o z => by omega) (c' := c + 16) (s' := s + 2048) (Nat.le_refl _) (Nat.le_refl _)
      obtain ⟨σ4, l1, P5, E5, l4, l5, l6, l7⟩ := lnk _ σ3 1 (i + 1) _ _ _ P4 E4 (by omega)
      have z3 := E13.2.2.2.1
      have F1 : Fz (fun o => o = 90 ∨ o = v) M (msI (msI M 405 90 (nI (i + 1))) 2201 v 1) := (Fz.rf.msI (fun _ => Or.inl rfl)).msI (fun _ => Or.inr rfl)
      have e1 : mI (msI (msI M 405 90 (nI (i + 1))) 2201 v 1) 2201 v = 1 := by rw [mI_msI, ifT ⟨rfl, rfl⟩]
      rw [htk, ob_some, ifT (show mk (msI M 405 90 (nI (i + 1))) v = 12 from hk), nm_eq, ifT (show mk (msI (msI M 405 90 (nI (i + 1))) 2201 v 1) v = 12 from hk), e1, ifF (show ¬ (1 : Int32) = 0 from by decide), KL_X2_mods_91, ifT (show mk (msI (msI M 405 90 (nI (i + 1))) 2201 v 1) v = 12 from hk), e1, ifF (show ¬ (1 : Int32) = 0 from by decide), q2, ob_some, ifF (show ¬ (1 : Int32) = 0 from by decide)]
      unfold J_path_36_4
      rw [a1, ob_some, a2, ob_some, l1, ifF (show ¬ (1 : Int32) = 0 from by decide)]
      refine Or.inl ⟨_, σ4, i + 1, bs, qs ++ [tQ σ], rfl, rfl, P5.wk (by omega) (by omega) (by omega), by omega, E5, ⟨hk, hl, ?_⟩, ?_, ?_, by simp, F1.mono (fun o _ z => by rcases z with z | z; exact Or.inl z; exact Or.inr (Or.inl z))⟩
      · rw [mI_msI, ifF (by omega), mI_msI, ifF (by omega)]
      · exact hL.kp F1 (by omega) (by omega)
      · rw [e1]
        refine hA.snoc (b := 0) F1 (fun o z => by
          rcases z with rfl | rfl
          · rw [P.en.1]; decide
          · rw [hk]; decide) (fun w => Pb.wcs E5.1 (fun o z => by rw [z]; exact Pb.en.1) w |>.trans (Pb.wcs E.1 (fun o z => by rw [z]; exact Pb.en.1) w).symm) ⟨Nat.le_refl _, by unfold tQ at a3 ⊢; rw [l4]; omega, a5⟩ (fun j hj => by rw [l5, z3.2.2.2 29 (by decide) j hj]) (fun j hj hne => by rw [l6 33 j (by omega), z3.2.2.1 33 (by decide) j hj]) l7 ?_ (Or.inr ⟨rfl, rfl, by rw [l5, a6]; exact h16⟩)
        rw [l6 33 _ (fun z => ?_)]
        · exact a7
        · have := (hA.2.2 (qs.length - 1) (by omega)).1.2; omega
    · have htk : K_X2_takeKey 37 M = some (0, M) := by
        unfold K_X2_takeKey
        rw [q1, ob_some, ifT (rfl : (0 : Int32) = 0)]
      have e1 : mI (msI M 2201 v 0) 2201 v = 0 := by rw [mI_msI, ifT ⟨rfl, rfl⟩]
      have F1 : Fz (fun o => o = v) M (msI M 2201 v 0) := Fz.rf.msI (fun _ => rfl)
      obtain ⟨P1, E1⟩ := Pb.re (M' := msI M 2201 v 0) (X := fun o => o = v) E P F1 (fun o z => by omega) (c' := c) (s' := s) (Nat.le_refl _) (Nat.le_refl _)
      rw [htk, ob_some, ifT hk, nm_eq, ifT (show mk (msI M 2201 v 0) v = 12 from hk), e1, ifT (rfl : (0 : Int32) = 0), ifT (show mk (msI M 2201 v 0) v = 12 from hk), show mR (msI M 2201 v 0) 2200 v = l from hl, q2, ob_some, ifT (rfl : (0 : Int32) = 0)]
      rcases y_name0 P1.px with ⟨w, n1, n2, n3, hi, n5, n6, n7, n8, n9, n10⟩ | ⟨n1, n2, n3⟩
      · obtain ⟨σ2, σ3, a1, a2, P3, E3, E13, ⟨a3, a4, a5⟩, a6, a7⟩ := part _ P1 E1 hi
        have z3 := E13.2.2.2.1
        obtain ⟨b, M4, b1, b2, b3, b4, b5, b6⟩ := z_box P3 (w := w) ⟨n8, n9⟩ (by omega) (by omega)
        have P4 := P3.al b4 (c' := c + 15) (s' := s + 2047) (by omega) (by omega)
        have E4 := E3.tr (Es.al (σ := σ3) b4 P3.n167)
        have F2 : Fz (fun o => o = 90 ∨ o = v) M (msI (msI M 2201 v 0) 405 90 (nI (i + 1))) := (Fz.rf.msI (fun _ => Or.inr rfl)).msI (fun _ => Or.inl rfl)
        have F4 : Fz (fun o => o = 90 ∨ o = v) M M4 := F2.tr2 b4 (fun _ _ z => absurd z (fun q => q))
        have hL4 : LsB Mb M4 l bs := hL.kp F4 (by omega) (by omega)
        have sl4 : So M M4 l := F4.so hL.2.1.2 (by omega)
        have sv4 : So (msI (msI M 2201 v 0) 405 90 (nI (i + 1))) M4 v := b4.so hv.2 (fun q => q)
        have hk4 : mk M4 v = 12 := by rw [sv4.k]; exact hk
        obtain ⟨M5, c1, c2, P5, E5, F5, c6, c7⟩ := z_add2 Pb E4 P4 hL4 b3 (by omega) (by omega) (by omega)
        have n45 := F5.1
        have n04 := F4.1
        have sv5 : So M4 M5 v := F5.so (by omega) (by rw [sl4.r]; omega)
        rw [k_name1 P1 n1 n7, obS_inl, b1, ob_some, ifT hL4.1.1, c1, ob_some, n2, ob_some, ifF (show ¬ (1 : Int32) = 0 from by decide)]
        unfold J_path_36_4
        obtain ⟨σ4, l1, P6, E6, l4, l5, l6, l7⟩ := lnk _ σ3 0 (i + 1) _ _ _ P5 E5 (by omega)
        rw [a1, ob_some, a2, ob_some, l1, ifT (rfl : (0 : Int32) = 0)]
        have hk5 : mk M5 v = 12 := by rw [sv5.k]; exact hk4
        have e5 : mI M5 2201 v = 0 := by
          rw [sv5.i, sv4.i, mI_msI, ifF (by omega)]; exact e1
        have e22 : mI M5 2203 v = mI M 2203 v := by
          rw [sv5.i, sv4.i, mI_msI, ifF (by omega), mI_msI, ifF (by omega)]
        have r22 : mR M5 2200 v = l := by rw [sv5.r, sv4.r]; exact hl
        have F05 : Fz (fun o => o = 90 ∨ o = v ∨ o = l ∨ o = mR M 4201 l) M M5 := (F4.mono (fun o _ z => by rcases z with z | z; exact Or.inl z; exact Or.inr (Or.inl z))).tr2 F5 (fun o _ z => by rw [sl4.r] at z; exact Or.inr (Or.inr z))
        rw [KL_X2_mods_91, ifT hk5, e5, ifT (rfl : (0 : Int32) = 0)]
        have wcs : ∀ {M5 : CM} {σ5 : TS}, Es Mb σb M5 σ5 → ∀ w, wc M5 w = wc Mb w := fun E5 w => Pb.wcs E5.1 (fun o z => by rw [z]; exact Pb.en.1) w
        have tq4 : tQ σ4 = tQ σ + 1 := by unfold tQ at a3 ⊢; rw [l4]; exact a3
        have hA5 : ∀ (M6 : CM) (σ6 : TS), Fz (fun o => o = 90) M5 M6 → Es Mb σb M6 σ6 → tQ σ6 = tQ σ4 → (∀ j, tB σ6 29 j = tB σ4 29 j) → (∀ j, tA σ6 33 j = tA σ4 33 j) → PaC (tQ σ6) (cm C) M6 σ6 0 (bs ++ [b]) (qs ++ [tQ σ]) := by
          intro M6 σ6 F6 E06 hq6 h29 h33
          have F06 : Fz (fun o => o = 90 ∨ o = v ∨ o = l ∨ o = mR M 4201 l) M M6 := F05.tr2 F6 (fun o _ z => Or.inl z)
          refine hA.snoc (b := b) F06.lt (fun o z => ?_) (fun w => (wcs E06 w).trans (wcs E w).symm) ⟨Nat.le_refl _, by omega, a5⟩ (fun j hj => by rw [h29, l5, z3.2.2.2 29 (by decide) j hj]) (fun j hj hne => by rw [h33, l6 33 j (by omega), z3.2.2.1 33 (by decide) j hj]) (fun z => by rw [h33]; exact l7 z) ?_ (Or.inl ⟨rfl, rfl, w, ?_, ?_⟩)
          · obtain ⟨hlt, z⟩ := z
            rcases z with rfl | rfl | rfl | rfl
            · rw [P.en.1]; decide
            · rw [hk]; decide
            · rw [hL.1.1]; decide
            · rcases hL.1.2.2.2.2 with ⟨q, _⟩ | ⟨_, q, _⟩
              · rw [q] at hlt; have := P.2.2.2.1; omega
              · rw [q]; decide
          · rw [h33, l6 33 _ (fun z => ?_)]
            · exact a7
            · have := (hA.2.2 (qs.length - 1) (by omega)).1.2; omega
          · refine ((b2.fz F5.lt (fun o z => ?_)).fz F6 (fun o z => ?_))
            · obtain ⟨hlt, z⟩ := z
              rcases z with rfl | rfl
              · rw [hL4.1.1]; decide
              · rcases hL4.1.2.2.2.2 with ⟨q, _⟩ | ⟨_, q, _⟩
                · rw [q] at hlt; have := P4.2.2.2.1; omega
                · rw [q]; decide
            · rw [z, P5.en.1]; decide
          · rw [h29, l5, a6, (wcs E06 w).trans (wcs E1 w).symm, n10]
        rcases z_take P6 (x := 46) (by decide) with ⟨σ5, u1, u2, u3, P7, E7, u6⟩ | ⟨u1, u2⟩
        · rw [u1, ob_some, ifF (show ¬ (1 : Int32) = 0 from by decide), u2, ob_some, ifF (show ¬ (1 : Int32) = 0 from by decide), u3, ob_some]
          have fr := fS_F_next _ _ _ u3
          have hl5 := c2.2.1
          have E07 := E6.tr E7
          have sv7 : So M5 (msI M5 405 90 (nI (i + 1 + 1))) v := E7.1.so (by omega) (by omega)
          have sl7 : So M5 (msI M5 405 90 (nI (i + 1 + 1))) l := E7.1.so hl5.2 (by have := hl5.1; omega)
          have hal5 : mR M5 4201 l ≠ 90 := fun z => by
            have := c2.2.2.2 (by rw [z]; decide)
            omega
          rcases ih (msI M5 405 90 (nI (i + 1 + 1))) σ5 (i + 1 + 1) f f' (bs ++ [b]) (qs ++ [tQ σ]) (by omega) (by omega) (by omega) E07 (P7.wk (c' := c) (s' := s) (n' := n) (by omega) (by omega) (by omega)) hc hs hn ⟨hv.1, by show v < mn M5; omega⟩ (by rw [sv7.k]; exact hk5) (by rw [sv7.r]; exact r22) hvl (c2.kp E7.1 (by omega) hal5) (hA5 _ σ5 E7.1 E07 (by unfold tQ; rw [(fr 34 rfl).1]) (fun j => (fr 29 rfl).2.2.2 j) (fun j => (fr 33 rfl).2.2.1 j)) (by rw [show (bs ++ [b]).length = bs.length + 1 by simp]; omega) hqs' with ⟨M8, σ8, i8, bs8, qs8, r1, r2, r3, r4, r5, ⟨r6, r7, r8⟩, r9, r10, r11, r12⟩ | q
          · have e : pK f v x1 (msI M5 405 90 (nI (i + 1 + 1))) = some (.inl (), M8) := r1
            refine Or.inl ⟨M8, σ8, i8, bs8, qs8, ?_, r2, r3, by omega, r5, ⟨r6, r7, by rw [r8, sv7.i]; exact e22⟩, r9, r10, r11, ?_⟩
            · rw [← e]; rfl
            · refine (F05.tr2 E7.1 (fun o _ z => Or.inl z)).tr2 r12 (fun o ho z => ?_)
              rcases z with z | z | z | z
              · exact Or.inl z
              · exact Or.inr (Or.inl z)
              · exact Or.inr (Or.inr (Or.inl z))
              · rw [sl7.r] at z
                rcases c7 with q | q
                · rw [q, sl4.r] at z; exact Or.inr (Or.inr (Or.inr z))
                · omega
          · obtain ⟨w', M8, y, σ8, r1, r2, r3⟩ := q
            exact Or.inr ⟨w', M8, y, σ8, by rw [← r1]; rfl, r2, r3⟩
        · rw [u1, ob_some, ifT (rfl : (0 : Int32) = 0), u2, ob_some, ifT (rfl : (0 : Int32) = 0)]
          refine Or.inl ⟨M5, σ4, i + 1, bs ++ [b], qs ++ [tQ σ], rfl, rfl, P6.wk (by omega) (by omega) (by omega), by omega, E6, ⟨hk5, r22, e22⟩, c2, ?_, by simp, F05⟩
          rw [e5]
          exact hA5 M5 σ4 Fz.rf E6 rfl (fun _ => rfl) (fun _ => rfl)
      · -- no name
        obtain ⟨r, p, hr, s1, s2⟩ := y_stop P1.px (P1.cap (by omega))
        have hk0 : K_X2_name (msI M 2201 v 0) = some (.inr (mn (msI M 2201 v 0)), wM (msI M 2201 v 0) r p) := by
          unfold K_X2_name
          rw [n1, ob_some, ifT (rfl : (0 : Int32) = 0), s1, ob_some, ifT (wM_k _ r p)]
        rw [hk0, obS_inr, n2, ob_some, ifT (rfl : (0 : Int32) = 0), s2, ob_some]
        exact Or.inr ⟨_, _, _, _, rfl, rfl, (P1.fb (by omega) (by omega) (by rcases hr with rfl | rfl <;> decide)).tr E1⟩
end PATH
