/-! Layer B: functions: while their heads are read -/
set_option maxRecDepth 100000
/-- both readers while a function's head is read: the component has a function, the twin none yet -/
def Ph (C : PC) (M : CM) (σ : TS) (i c s n : Nat) : Prop := Pe C (msR M 408 90 0) σ i 0 c s n
def Sf (C : PC) (M : CM) (σ : TS) (i c s n : Nat) {α β : Type} (o : Option ((α ⊕ Nat) × CM)) (p : Option (β × TS)) (Q : α → β → Prop) : Prop := (∃ x y σ', o = some (.inl x, msI M 405 90 (nI (i + 1))) ∧ p = some (y, σ') ∧ Ph C (msI M 405 90 (nI (i + 1))) σ' (i + 1) (c + 16) (s + 2048) (n + 4) ∧ Es M σ (msI M 405 90 (nI (i + 1))) σ' ∧ i < ct C ∧ Q x y ∧ F_next σ = some ((), σ')) ∨ ∃ w M' y σ', o = some (.inr w, M') ∧ p = some (y, σ') ∧ FB C M σ M' w σ'
section FHEAD
variable {C : PC} {M M' M1 : CM} {σ σ' σ1 : TS} {i c s n m L w c' s' n' : Nat} {cs mss ns bs : List Nat} {α β γ : Type}
theorem Ph.sf (M : CM) (u : Nat) : Fz (fun o => o = 90) (msR M 408 90 u) M := ⟨Nat.le_refl _, fun _ _ => ⟨rfl, rfl⟩, fun o _ ho => ⟨⟨rfl, rfl⟩, fun _ => rfl, fun g => by rw [mR_msR, ifF (fun z => ho z.2)], fun _ => rfl, fun _ => rfl, fun _ => rfl⟩⟩
theorem Ph.fs (M : CM) (u : Nat) : Fz (fun o => o = 90) M (msR M 408 90 u) := Fz.rf.msR (fun _ => rfl)
theorem Px.s408 {b : Nat → Int32} {len t : Nat} {pos : Nat → Nat} {u : Nat} (P : Px (msR M 408 90 u) σ b len m t pos i) : Px M σ b len m t pos i := P.go (Ph.sf M u) (fun o z => Or.inl z) rfl P.2.2.1.2.1 P.2.2.1.2.2 P.2.2.2.1.1 P.2.2.2.1.2.1 P.2.2.2.1.2.2.1 P.2.2.2.1.2.2.2 P.2.2.2.2.1 P.2.2.2.2.2
theorem Px.r408 {b : Nat → Int32} {len t : Nat} {pos : Nat → Nat} {u : Nat} (P : Px M σ b len m t pos i) : Px (msR M 408 90 u) σ b len m t pos i := P.go (Ph.fs M u) (fun o z => Or.inl z) rfl P.2.2.1.2.1 P.2.2.1.2.2 P.2.2.2.1.1 P.2.2.2.1.2.1 P.2.2.2.1.2.2.1 P.2.2.2.1.2.2.2 P.2.2.2.2.1 P.2.2.2.2.2
theorem Ph.px (P : Ph C M σ i c s n) : Px M σ (cb C) (cl C) (cm C) (ct C) (cp C) i := P.1.s408
theorem Ph.k90 (P : Ph C M σ i c s n) : mk M 90 = 3 := Pe.en P |>.1
theorem Ph.n167 (P : Ph C M σ i c s n) : 167 ≤ mn M := Pe.n167 (M := msR M 408 90 0) P
theorem Ph.g0 (P : Ph C M σ i c s n) : tI σ 0 = 0 := Pe.g0 P
theorem Ph.at12 (P : Ph C M σ i c s n) : tI σ 12 = mA M 94 i := Pe.at12 (M := msR M 408 90 0) P
theorem Ph.it (P : Ph C M σ i c s n) : i ≤ ct C ∧ ct C < 2001 := Pe.it P
theorem Ph.i5 (P : Ph C M σ i c s n) : mI M 405 90 = nI i := P.px.2.2.1.2.1
theorem Ph.cap (P : Ph C M σ i c s n) {k : Nat} (h : k ≤ s) : mn M ≤ 601024 ∧ ms M + k ≤ 7293034 := Pe.cap P h
theorem Ph.wb (P : Ph C M σ i c s n) : ∃ L, WN M (cm C) L ∧ cm C ≤ 1280 := by
  obtain ⟨⟨-, ⟨L, W⟩, h, -⟩, -⟩ := P.px
  exact ⟨L, W, h⟩
theorem Ph.fu (P : Ph C M σ i c s n) : FuR C M σ := by
  have hF := P.2.1.2.2.2.1
  have hc : mn M ≤ 601024 := (P.cap (k := 0) (Nat.zero_le _)).1
  have F := Ph.sf M 0
  refine hF.so F (fun o ho hd => F.so ho (fun z => ?_)) P.n167 (fun w => rfl) rfl (fun _ => rfl) (fun _ => rfl)
  have k90 : mk (msR M 408 90 0) o = 3 := by rw [z]; exact P.k90
  obtain ⟨fs, nfs, a1, a2, a3, a4, a5, a6⟩ := hF
  have ne : ∀ k, mk (msR M 408 90 0) o = k → k ≠ 3 → False := fun k h1 h2 => h2 (h1.symm.trans k90)
  rcases hd with q | q | q | q | ⟨k, hk, q⟩
  · omega
  · omega
  · exact ne 55 (by rw [q]; exact a1.k55 hc (by rw [← q]; exact ho)) (by decide)
  · exact ne 55 (by rw [q]; exact a2.k55 hc (by rw [← q]; exact ho)) (by decide)
  · obtain ⟨-, ⟨c1, -, -⟩, -, bs, d1, -⟩ := a6 k hk
    rcases q with q | q | q
    · exact ne 6 (by rw [q]; exact c1) (by decide)
    · exact ne 22 (by rw [q]; exact d1.1) (by decide)
    · exact ne 55 (by rw [q]; exact d1.k55 hc (by rw [← q]; exact ho)) (by decide)
theorem Ph.wk (P : Ph C M σ i c s n) (h1 : c' ≤ c) (h2 : s' ≤ s) (h3 : n' ≤ n) : Ph C M σ i c' s' n' := Pe.wk P h1 h2 h3
theorem Ph.nx (P : Ph C M σ i c s n) (h : F_next σ = some ((), σ')) (hp : Px (msI M 405 90 (nI (i + 1))) σ' (cb C) (cl C) (cm C) (ct C) (cp C) (i + 1)) (hi : i < ct C) : Ph C (msI M 405 90 (nI (i + 1))) σ' (i + 1) (c + 16) (s + 2048) (n + 4) ∧ Es M σ (msI M 405 90 (nI (i + 1))) σ' := by
  have hp' : Px (msI (msR M 408 90 0) 405 90 (nI (i + 1))) σ' (cb C) (cl C) (cm C) (ct C) (cp C) (i + 1) := hp.r408 (u := 0)
  obtain ⟨b1, b2⟩ := Pe.nx P h hp' hi
  exact ⟨b1, Fz.rf.msI (fun _ => rfl), fun _ => rfl, fun g h1 h2 => by rw [mI_msI, ifF (fun z => h1 z.1)], b2.2.2.2⟩
theorem Ph.bd (P : Ph C M σ i c s n) (h1 : 1 ≤ c) (h2 : 8 ≤ s) : mn M + 1 ≤ cN C ∧ ms M + 8 ≤ cS C := by
  obtain ⟨-, -, -, ⟨a4, a5, a6, a7⟩, -⟩ := P
  have e1 : mn (msR M 408 90 0) = mn M := rfl
  have e2 : ms (msR M 408 90 0) = ms M := rfl
  exact ⟨by omega, by omega⟩
theorem Ph.fb (P : Ph C M σ i c s n) (h1 : 1 ≤ c) (h2 : 8 ≤ s) {r q : Int32} (hr : r ≠ 0) : FB C M σ (wM M r q) (mn M) (tsI (tsI σ 0 r) 1 q) := by
  obtain ⟨b1, b2⟩ := P.bd h1 h2
  obtain ⟨w1, w2⟩ := wM_n M r q
  have fr : Ft [0, 1] σ (tsI (tsI σ 0 r) 1 q) := ((Ft.rf _ σ).p_tsI rfl).p_tsI rfl
  exact ⟨flt_w hr, (Es.al (wM_f M r q) P.n167).tr (Es.tw fr (by decide) (Tz.ft fr (by decide))), ⟨by omega, by omega⟩, Pe.bd0 P hr⟩
theorem Stq.sf {α β : Type} {o : Option ((α ⊕ Nat) × CM)} {p : Option (β × TS)} {Q : α → β → Prop} (P : Ph C M σ i c s n) (h1 : 1 ≤ c) (h2 : 8 ≤ s) (h : Stq M σ (cb C) (cl C) (cm C) (ct C) (cp C) i o p Q) : Sf C M σ i c s n o p Q := by
  rcases h with ⟨x, y, σ', a1, a2, a3, a4, a5, a6⟩ | ⟨r, q, y, a1, a2, a3⟩
  · obtain ⟨b1, b2⟩ := P.nx a3 a4 a5
    exact Or.inl ⟨x, y, σ', a1, a2, b1, b2, a5, a6, a3⟩
  · exact Or.inr ⟨mn M, wM M r q, y, _, a2, a3, P.fb h1 h2 (by rcases a1 with rfl | rfl <;> decide)⟩
theorem z_nameH (P : Ph C M σ i c s n) (h1 : 1 ≤ c) (h2 : 8 ≤ s) : Sf C M σ i c s n (K_X2_name M) (F_passName σ) (fun x y => ∃ w, x = nI w ∧ 38 ≤ w ∧ w < 38 + cm C ∧ y = wc M w) := Stq.sf P h1 h2 (y_name P.px (P.cap h2))
theorem z_passH (P : Ph C M σ i c s n) (h1 : 1 ≤ c) (h2 : 8 ≤ s) {x : Int32} (h : x ≠ 1 ∧ x ≠ 2 ∧ x ≠ 3 ∧ x ≠ 4) : Sf C M σ i c s n (K_X2_sign x M) (F_pass x σ) (fun _ _ => True) := Stq.sf P h1 h2 (y_pass P.px (P.cap h2) h)
theorem z_takeH (P : Ph C M σ i c s n) {x : Int32} (h : x ≠ 1 ∧ x ≠ 2 ∧ x ≠ 3 ∧ x ≠ 4) : (∃ σ', K_X2_take x M = some (1, msI M 405 90 (nI (i + 1))) ∧ F_isSign x σ = some (1, σ) ∧ F_next σ = some ((), σ') ∧ Ph C (msI M 405 90 (nI (i + 1))) σ' (i + 1) (c + 16) (s + 2048) (n + 4) ∧ Es M σ (msI M 405 90 (nI (i + 1))) σ' ∧ i < ct C) ∨ (K_X2_take x M = some (0, M) ∧ F_isSign x σ = some (0, σ)) := by
  rcases y_take P.px h with ⟨σ', a1, a2, a3, a4, a5⟩ | h
  · obtain ⟨b1, b2⟩ := P.nx a3 a4 a5
    exact Or.inl ⟨σ', a1, a2, a3, b1, b2, a5⟩
  · exact Or.inr h
/-- the twin's arguments are none of this -/
theorem Ph.ta (P : Ph C M σ i c s n) (hcr : car C = 0) (f : Ft [36, 38] σ σ') : Ph C M σ' i c s n := by
  obtain ⟨a1, ⟨b1, b2, b3, b4, b5⟩, a3, a4, N, Q, ⟨a8, a9, a10⟩, a11, a12, a13⟩ := P
  refine ⟨a1.go (X := none_) Fz.rf (fun o z => absurd z (fun q => q)) rfl a1.2.2.1.2.1 a1.2.2.1.2.2 (a1.2.2.2.1.1.kp f rfl rfl) (a1.2.2.2.1.2.1.kp f rfl rfl) (by rw [(f 0 rfl).1]; exact a1.2.2.2.1.2.2.1) (by rw [(f 18 rfl).1]; exact a1.2.2.2.1.2.2.2) ?_ ?_, ⟨b1, b2, ?_, b4.so (X := none_) Fz.rf (fun o _ _ => So.rf _ o) b2 (fun _ => rfl) (f 48 rfl).1 (fun j => (f 42 rfl).2.2.1 j) (fun j => (f 40 rfl).2.2.2 j), ?_⟩, ⟨a3.1, by rw [(f 20 rfl).1]; exact a3.2.1, a3.2.2⟩, a4, N, Q, ⟨by rw [(f 28 rfl).1]; exact a8, a9, a10⟩, by rw [(f 34 rfl).1]; exact a11, a12, a13⟩
  · obtain ⟨kd, s, b1, b2⟩ := a1.2.2.2.2.1
    refine ⟨kd, s, by rw [(f 11 rfl).1, (f 12 rfl).1]; exact b1, ?_⟩
    rw [(f 14 rfl).1, (f 15 rfl).1, (f 17 rfl).1, (f 16 rfl).2.1]; exact b2
  · rw [(f 10 rfl).1]; exact a1.2.2.2.2.2
  · obtain ⟨bs, c1, c2, c3, c4, c5⟩ := b3
    exact ⟨bs, c1, c2, c3, by rw [(f 37 rfl).1]; exact c4, fun k hk => ⟨(c5 k hk).1, by rw [(f 35 rfl).2.2.2]; exact (c5 k hk).2⟩⟩
  · rcases b5 with ⟨q1, q2, q3⟩ | ⟨q, _⟩
    · exact Or.inl ⟨q1, q2, by rw [(f 39 rfl).1]; exact q3⟩
    · omega
theorem y_functionOf (W : WN M (cm C) L) (h1280 : cm C ≤ 1280) (hF : FuR C M σ) {w : Nat} (hw : w < 38 + cm C) : (∃ k, k < cnf C ∧ cnf C ≤ 12 ∧ K_X2_functionOf (nI w) M = some (cfn C k, M) ∧ F_function (wc M w) σ = some (nI k, σ) ∧ cfn C k ≠ 0 ∧ FnR C M σ k) ∨ (K_X2_functionOf (nI w) M = some (0, M) ∧ F_function (wc M w) σ = some (-1, σ)) := by
  obtain ⟨fs, nfs, a1, a2, a3, a4, a5, a6⟩ := hF
  have hfn : ∀ k, k < cnf C → ∃ w', mI M 1000 (cfn C k) = nI w' ∧ w' < 38 + cm C ∧ tB σ 40 k = wc M w' ∧ mk M (cfn C k) = 6 := fun k hk => by
    obtain ⟨-, ⟨c1, -, -⟩, ⟨w', d1, d2, d3, d4⟩, -⟩ := a6 k hk
    exact ⟨w', d1, d3, d4, c1⟩
  have loop2 : ∀ (d j f f' : Nat), j + d = nfs.length → d < f → d < f' → (∃ k, k < cnf C ∧ KL_X2_functionOf_60 f (nI w) (nI j) M = some (.inr (cfn C k), M) ∧ L_function_2 f' (wc M w) (nI (fs.length + j)) σ = some (.inr (nI k), σ)) ∨ (KL_X2_functionOf_60 f (nI w) (nI j) M = some (.inl (), M) ∧ L_function_2 f' (wc M w) (nI (fs.length + j)) σ = some (.inl (), σ)) := by
    intro d
    induction d with
    | zero =>
      intro k f f' hk hf hf'
      obtain ⟨f, rfl⟩ : ∃ g, f = g + 1 := ⟨f - 1, by omega⟩
      obtain ⟨f', rfl⟩ : ∃ g, f' = g + 1 := ⟨f' - 1, by omega⟩
      right
      rw [KL_X2_functionOf_60, ls_size a2, ob_some, ifT ((bI_le (by omega) (by omega)).mpr (by omega)), L_function_2, a5, ifT ((bI_le (by omega) (by omega)).mpr (by omega))]
      exact ⟨rfl, rfl⟩
    | succ d ih =>
      intro k f f' hk hf hf'
      obtain ⟨f, rfl⟩ : ∃ g, f = g + 1 := ⟨f - 1, by omega⟩
      obtain ⟨f', rfl⟩ : ∃ g, f' = g + 1 := ⟨f' - 1, by omega⟩
      obtain ⟨w', c1, c2, c3, c4⟩ := hfn (fs.length + k) (by omega)
      have e0 : nfs.getD k 0 = cfn C (fs.length + k) := by rw [(a6 (fs.length + k) (by omega)).1, getD_app_r]
      have hltK : ¬ nI nfs.length ≤ nI k := by rw [bI_le (by omega) (by omega)]; omega
      have hltF : ¬ nI (cnf C) ≤ nI (fs.length + k) := by rw [bI_le (by omega) (by omega)]; omega
      rw [KL_X2_functionOf_60, ls_size a2, ob_some, ifF hltK, ls_get a2 (by omega), ob_some, e0, ifT (Or.inr c4), ifT c4, c1, L_function_2, a5, ifF hltF, ifT (inb_nI' (by omega) (by decide)), ix_nI (by omega), c3]
      by_cases e : w' = w
      · left
        rw [ifT (show nI (w') = nI w from by rw [e]), ls_get a2 (by omega), ob_some, e0, ifT (Or.inr c4), ifT (lg_eq.mpr (show wc M (w') = wc M w from by rw [e]))]
        exact ⟨fs.length + k, by omega, rfl, rfl⟩
      · rw [ifF (show ¬ nI (w') = nI w from fun z => e ((bI_eq (by omega) (by omega)).mp z)), ifF (fun z => e ((wc_inj W c2 hw).mp (lg_eq.mp z))), nm_eq, nm_eq, nI_addL, nI_addL]
        exact ih (k + 1) f f' (by omega) (by omega) (by omega)
  have loop1 : ∀ (d k f f' : Nat), k + d = fs.length → d < f → d + nfs.length < f' → (∃ j, j < cnf C ∧ KL_X2_functionOf_2 f (nI w) (nI k) M = some (.inr (cfn C j), M) ∧ L_function_2 f' (wc M w) (nI k) σ = some (.inr (nI j), σ)) ∨ (KL_X2_functionOf_2 f (nI w) (nI k) M = some (.inl (), M) ∧ ∃ f'', nfs.length < f'' ∧ L_function_2 f' (wc M w) (nI k) σ = L_function_2 f'' (wc M w) (nI fs.length) σ) := by
    intro d
    induction d with
    | zero =>
      intro k f f' hk hf hf'
      obtain ⟨f, rfl⟩ : ∃ g, f = g + 1 := ⟨f - 1, by omega⟩
      right
      rw [KL_X2_functionOf_2, ls_size a1, ob_some, ifT ((bI_le (by omega) (by omega)).mpr (by omega))]
      exact ⟨rfl, f', by omega, by rw [show k = fs.length by omega]⟩
    | succ d ih =>
      intro k f f' hk hf hf'
      obtain ⟨f, rfl⟩ : ∃ g, f = g + 1 := ⟨f - 1, by omega⟩
      obtain ⟨f', rfl⟩ : ∃ g, f' = g + 1 := ⟨f' - 1, by omega⟩
      obtain ⟨w', c1, c2, c3, c4⟩ := hfn k (by omega)
      have e0 : fs.getD k 0 = cfn C k := by rw [(a6 k (by omega)).1, getD_app_l (by omega)]
      have hltK : ¬ nI fs.length ≤ nI k := by rw [bI_le (by omega) (by omega)]; omega
      have hltF : ¬ nI (cnf C) ≤ nI k := by rw [bI_le (by omega) (by omega)]; omega
      rw [KL_X2_functionOf_2, ls_size a1, ob_some, ifF hltK, ls_get a1 (by omega), ob_some, e0, ifT (Or.inr c4), ifT c4, c1, L_function_2, a5, ifF hltF, ifT (inb_nI' (by omega) (by decide)), ix_nI (by omega), c3]
      by_cases e : w' = w
      · left
        rw [ifT (show nI (w') = nI w from by rw [e]), ls_get a1 (by omega), ob_some, e0, ifT (Or.inr c4), ifT (lg_eq.mpr (show wc M (w') = wc M w from by rw [e]))]
        exact ⟨k, by omega, rfl, rfl⟩
      · rw [ifF (show ¬ nI (w') = nI w from fun z => e ((bI_eq (by omega) (by omega)).mp z)), ifF (fun z => e ((wc_inj W c2 hw).mp (lg_eq.mp z))), nm_eq, nm_eq, nI_addL]
        exact ih (k + 1) f f' (by omega) (by omega) (by omega)
  have fin : ∀ k, k < cnf C → cfn C k ≠ 0 ∧ FnR C M σ k := fun k hk => ⟨(a6 k hk).2.1.2.2, (a6 k hk).2⟩
  unfold K_X2_functionOf F_function
  rw [show (0 : Int32) = nI 0 from rfl]
  rcases loop1 fs.length 0 FU FU (by omega) (by show fs.length < 4611686018427387904; omega) (by show fs.length + nfs.length < 4611686018427387904; omega) with ⟨j, e0, e1, e2⟩ | ⟨e1, f'', e2, e3⟩
  · left
    rw [e1, e2, obS_inr, obS_inr]
    exact ⟨j, e0, a4, rfl, rfl, fin j e0⟩
  · rw [e1, obS_inl, e3]
    rcases loop2 nfs.length 0 FU f'' (by omega) (by show nfs.length < 4611686018427387904; omega) (by omega) with ⟨j, g0, g1, g2⟩ | ⟨g1, g2⟩
    · left
      rw [g1, show nI fs.length = nI (fs.length + 0) from rfl, g2, obS_inr, obS_inr]
      exact ⟨j, g0, a4, rfl, rfl, fin j g0⟩
    · right
      rw [g1, show nI fs.length = nI (fs.length + 0) from rfl, g2, obS_inl, obS_inl]
      exact ⟨rfl, rfl⟩
theorem y_argument (W : WN M m L) (h1280 : m ≤ 1280) (a3 : mR M 408 90 ≠ 0) (a5 : mk M (mR M 408 90) = 6) (b1 : Ls M (mR M 1001 (mR M 408 90)) bs) (a2 : bs.length ≤ 4) (a7 : tI σ 38 = nI bs.length) (b4 : ∀ k, k < bs.length → ∃ w, BxR M m (bs.getD k 0) w ∧ tB σ 36 k = wc M w) {w : Nat} (hw : w < 38 + m) : (∃ k, k < bs.length ∧ K_X2_argument (nI w) M = some (nI k, M) ∧ F_formal (wc M w) σ = some (nI k, σ)) ∨ (K_X2_argument (nI w) M = some (-1, M) ∧ F_formal (wc M w) σ = some (-1, σ)) := by
  have loop : ∀ (d k f f' : Nat), k + d = bs.length → d < f → d < f' → (∃ j, j < bs.length ∧ KL_X2_argument_2 f (nI w) (nI k) M = some (.inr (nI j), M) ∧ L_formal_2 f' (wc M w) (nI k) σ = some (.inr (nI j), σ)) ∨ (KL_X2_argument_2 f (nI w) (nI k) M = some (.inl (), M) ∧ L_formal_2 f' (wc M w) (nI k) σ = some (.inl (), σ)) := by
    intro d
    induction d with
    | zero =>
      intro k f f' hk hf hf'
      obtain ⟨f, rfl⟩ : ∃ g, f = g + 1 := ⟨f - 1, by omega⟩
      obtain ⟨f', rfl⟩ : ∃ g, f' = g + 1 := ⟨f' - 1, by omega⟩
      right
      rw [KL_X2_argument_2, ifF a3, ifT a5, ifT b1.1, ls_size b1, ob_some, ifT ((bI_le (by omega) (by omega)).mpr (by omega)), L_formal_2, a7, ifT ((bI_le (by omega) (by omega)).mpr (by omega))]
      exact ⟨rfl, rfl⟩
    | succ d ih =>
      intro k f f' hk hf hf'
      obtain ⟨f, rfl⟩ : ∃ g, f = g + 1 := ⟨f - 1, by omega⟩
      obtain ⟨f', rfl⟩ : ∃ g, f' = g + 1 := ⟨f' - 1, by omega⟩
      obtain ⟨w', c1, c2⟩ := b4 k (by omega)
      obtain ⟨v1, v2, v3⟩ := c1.val
      have hlw := c1.2.2
      have hlt : ¬ nI bs.length ≤ nI k := by rw [bI_le (by omega) (by omega)]; omega
      rw [KL_X2_argument_2, ifF a3, ifT a5, ifT b1.1, ls_size b1, ob_some, ifF hlt, ifT a5, ifT b1.1, ls_get b1 (by omega), ob_some, ifT v3, ifT v1, v2, ob_some, L_formal_2, a7, ifF hlt, ifT (inb_nI' (by omega) (by decide)), ix_nI (by omega), c2]
      by_cases e : w' = w
      · left
        rw [ifT (show nI (w') = nI w from by rw [e]), ifT (lg_eq.mpr (show wc M (w') = wc M w from by rw [e]))]
        exact ⟨k, by omega, rfl, rfl⟩
      · rw [ifF (show ¬ nI (w') = nI w from fun z => e ((bI_eq (by omega) (by omega)).mp z)), ifF (fun z => e ((wc_inj W hlw hw).mp (lg_eq.mp z))), nm_eq, nm_eq, nI_addL]
        exact ih (k + 1) f f' (by omega) (by omega) (by omega)
  unfold K_X2_argument F_formal
  have fu : bs.length < FU := by have := FUb; omega
  rcases loop bs.length 0 FU FU (by omega) fu fu with ⟨j, e0, e1, e2⟩ | ⟨e1, e2⟩
  · left
    rw [show (0 : Int32) = nI 0 from rfl, e1, e2, obS_inr, obS_inr]
    exact ⟨j, e0, rfl, rfl⟩
  · right
    rw [show (0 : Int32) = nI 0 from rfl, e1, e2, obS_inl, obS_inl]
    exact ⟨rfl, rfl⟩
/-- the name of something new: good, or both have the same fault -/
theorem z_newFn {K lim : Nat} {kT : Int64 → TS → Option (β × TS)} (P : Ph C M σ i c s n) (h1 : 1 ≤ c) (h2 : 8 ≤ s) (H : CnR (cm C) M σ (mss ++ ns)) (hm : Ls M 88 mss) (hn : Ls M 97 ns) (hK : K = 48 ∧ lim = 12 ∨ K = 49 ∧ lim = 24) {full : Nat} (hf : full = 0 ∨ full = 1) (hfull : full = 1 ↔ tI σ K = nI lim) : (∃ w σ', K_X2_newName (nI full) M = some (.inl (nI w), msI M 405 90 (nI (i + 1))) ∧ (nm (tI σ 12) fun v6 => ob (F_newName σ) fun r8 s7 => ob (F_isBad s7) fun r12 s11 => if r12 = 0 then if tI s11 K = nI lim then ob (F_bad 7 v6 s11) fun _ s101 => kT r8 s101 else kT r8 s11 else kT r8 s11) = kT (wc M w) σ' ∧ 38 ≤ w ∧ w < 38 + cm C ∧ tI σ K ≠ nI lim ∧ Ph C (msI M 405 90 (nI (i + 1))) σ' (i + 1) (c + 16) (s + 2048) (n + 4) ∧ Es M σ (msI M 405 90 (nI (i + 1))) σ' ∧ i < ct C ∧ F_next σ = some ((), σ') ∧ ∀ k, k < (mss ++ ns).length → mI M 1800 ((mss ++ ns).getD k 0) ≠ nI w) ∨ (∃ w M' r σ', K_X2_newName (nI full) M = some (.inr w, M') ∧ (nm (tI σ 12) fun v6 => ob (F_newName σ) fun r8 s7 => ob (F_isBad s7) fun r12 s11 => if r12 = 0 then if tI s11 K = nI lim then ob (F_bad 7 v6 s11) fun _ s101 => kT r8 s101 else kT r8 s11 else kT r8 s11) = kT r σ' ∧ FB C M σ M' w σ' ∧ Ft fs19 σ σ') := by
  obtain ⟨g1, g2⟩ := P.px.in1
  have h12 := P.at12
  have cap := P.cap h2
  obtain ⟨L, W, h1280⟩ := P.wb
  unfold K_X2_newName F_newName
  rw [ifT g1, nm_eq, g2, nm_eq, nm_eq, nm_eq]
  rcases z_nameH P h1 h2 with ⟨x, y, σ1, a1, a2, P1, E1, hi, ⟨w, hx, hw1, hw2, hy⟩, n1⟩ | ⟨w, M', y, σ1, a1, a2, fb⟩
  rotate_left
  · right
    refine ⟨w, M', 0, σ1, by rw [a1, obS_inr], ?_, fb, fS_F_passName _ _ _ a2⟩
    have hb := fb.2.2.2.1
    rw [a2, ob_some, t_isBad1 hb, ob_some, ifF (show ¬ (1 : Int32) = 0 from by decide), ob_some, t_isBad1 hb, ob_some, ifF (show ¬ (1 : Int32) = 0 from by decide)]
  rw [a1, obS_inl, a2, ob_some, t_isBad0 P1.g0, ob_some, ifT (rfl : (0 : Int32) = 0), hx, hy]
  obtain ⟨M1, hM1⟩ : ∃ M1, M1 = msI M 405 90 (nI (i + 1)) := ⟨_, rfl⟩
  rw [← hM1] at P1 E1 ⊢
  have n1' : mn M1 = mn M := by rw [hM1]; rfl
  have w1 : ∀ w, wc M1 w = wc M w := fun w => by rw [hM1]; rfl
  have i1 : ∀ o, mI M1 1800 o = mI M 1800 o := fun o => by rw [hM1, mI_msI, ifF (by omega)]
  have k1 : ∀ o, mk M1 o = mk M o := fun o => by rw [hM1]; rfl
  have fr := fS_F_next _ _ _ n1
  have Hn : ∀ l xs, Ls M l xs → l < mn M → Ls M1 l xs := fun l xs h hl => h.fz E1.1 hl (fun o z => by rw [z, P.k90]; exact ⟨by decide, by decide⟩)
  have h167 := P.n167
  have mkt : ∀ r q : Int32, Ft fs19 σ (tsI (tsI σ1 0 r) 1 q) := fun r q => ((fr.mono (by decide)).p_tsI rfl).p_tsI rfl
  have hm1 := Hn 88 mss hm (by omega)
  have hn1 := Hn 97 ns hn (by omega)
  have H1 : CnR (cm C) M1 σ1 (mss ++ ns) := ⟨by rw [(fr 49 rfl).1]; exact H.1, H.2.1, fun k hk => by
    obtain ⟨b1, b2, w', b3, b4, b5, b6⟩ := H.2.2 k hk
    exact ⟨by rw [k1]; exact b1, b2, w', by rw [i1]; exact b3, b4, b5, by rw [(fr 41 rfl).2.2.2, w1]; exact b6⟩⟩
  have hkm : ∀ k, k < mss.length → mk M1 (mss.getD k 0) = 10 ∧ mss.getD k 0 ≠ 0 := fun k hk => by
    have := H1.2.2 k (by rw [List.length_append]; omega)
    rw [getD_app_l hk] at this
    exact ⟨this.1, this.2.1⟩
  have hkn : ∀ k, k < ns.length → mk M1 (ns.getD k 0) = 10 := fun k hk => by
    have := H1.2.2 (mss.length + k) (by rw [List.length_append]; omega)
    rw [getD_app_r] at this
    exact this.1
  have KF : tI σ1 K = tI σ K := by rcases hK with ⟨rfl, _⟩ | ⟨rfl, _⟩ <;> exact (fr _ rfl).1
  have e405 : tI σ 12 = mA M 94 i := h12
  -- a fault with rule r at the name's place
  have mkf : ∀ r : Int32, r ≠ 0 → FB C M σ (wM M1 r (mA M 94 i)) (mn M1) (tsI (tsI σ1 0 r) 1 (mA M 94 i)) := fun r hr => by
    have fb := P1.fb (by omega) (by omega) (r := r) (q := mA M 94 i) hr
    exact fb.tr E1
  have kw : ∀ r, K_X0_wrong r (mA M 94 i) M1 = some (mn M1, wM M1 r (mA M 94 i)) := fun r => k_wrong (M := M1) (by rw [hM1]; exact cap) (by omega) r (mA M 94 i)
  have kk : ∀ r, mk (wM M1 r (mA M 94 i)) (mn M1) = 7 := fun r => wM_k M1 r (mA M 94 i)
  -- what the component does when the name is had, or not
  have had : ∀ acc : Int32, acc = 1 → KJ_X2_newName_39 (nI full) (mA M 94 i) (nI w) acc M1 = some (.inr (mn M1), wM M1 3 (mA M 94 i)) := fun acc ha => by
    obtain ⟨r, r1, r2, r3⟩ := k_newm hn1 hkn (nI full) (mA M 94 i) (nI w) ns.length 0 FU acc (by omega) (by have := FUb; have := hn1.2.2.1; omega) (Or.inr ha)
    have hr : ¬ r = 0 := fun z => by have := (r3.mp z).1; rw [ha] at this; exact absurd this (by decide)
    unfold KJ_X2_newName_39
    rw [show KL_X2_newName_44 FU (nI full) (mA M 94 i) (nI w) acc 0 M1 = some (r, M1) from r1, ob_some, ifF hr, ifF hr, kw, ob_some, ifT (kk 3)]
  obtain ⟨L1, W1, _⟩ := P1.wb
  rcases y_functionOf W1 h1280 P1.fu (w := w) hw2 with ⟨k, f1, f2, f3, f4, f5, f6⟩ | ⟨f3, f4⟩
  · right
    refine ⟨mn M1, _, wc M w, _, ?_, ?_, mkf 3 (by decide), mkt 3 _⟩
    · rw [f3, ob_some, ifF f5]
      exact had 1 rfl
    · rw [w1] at f4
      rw [f4, ob_some, ifT (show (0 : Int32) ≤ nI k from by rw [show (0 : Int32) = nI 0 from rfl, bI_le (by omega) (by omega)]; omega), e405, t_bad P1.g0, ob_some, ob_some, t_isBad1 (mkf 3 (by decide)).2.2.2.1, ob_some, ifF (show ¬ (1 : Int32) = 0 from by decide)]
  rw [w1] at f4
  rw [f3, ob_some, ifT (rfl : (0 : Nat) = 0), f4, ob_some, ifF (show ¬ (0 : Int32) ≤ -1 from by decide)]
  rcases t_classOf W1 h1280 H1 hw2 with ⟨k, c1, c2, c3, c4⟩ | ⟨c3, c4⟩ <;> rw [w1] at c4
  · -- had
    right
    refine ⟨mn M1, _, wc M w, _, ?_, ?_, mkf 3 (by decide), mkt 3 _⟩
    · rcases k_model hm1 (fun k hk => (hkm k hk).1) (nI w) with ⟨k', d1, d2, d3, d4⟩ | ⟨d3, d4⟩
      · rw [d4, ob_some, ifF (hkm k' d1).2]
        exact had 1 rfl
      · rw [d4, ob_some, ifT (rfl : (0 : Nat) = 0)]
        obtain ⟨r, r1, r2, r3⟩ := k_newm hn1 hkn (nI full) (mA M 94 i) (nI w) ns.length 0 FU 0 (by omega) (by have := FUb; have := hn1.2.2.1; omega) (Or.inl rfl)
        have hr : ¬ r = 0 := fun z => by
          have h := (r3.mp z).2
          rcases Nat.lt_or_ge k mss.length with q | q
          · rw [getD_app_l q] at c2; exact d3 k q c2
          · rw [show k = mss.length + (k - mss.length) by omega, getD_app_r] at c2
            rw [List.length_append] at c1
            exact h (k - mss.length) (Nat.zero_le _) (by omega) c2
        unfold KJ_X2_newName_39
        rw [show KL_X2_newName_44 FU (nI full) (mA M 94 i) (nI w) 0 0 M1 = some (r, M1) from r1, ob_some, ifF hr, ifF hr, kw, ob_some, ifT (kk 3)]
    · rw [c4, ob_some, ifF (show ¬ nI k < 0 from by rw [nI_ltL (by have := H1.2.1; omega) (by decide)]; exact Nat.not_lt_zero _), e405, t_bad P1.g0, ob_some, ob_some, t_isBad1 (mkf 3 (by decide)).2.2.2.1, ob_some, ifF (show ¬ (1 : Int32) = 0 from by decide)]
  -- new
  have hnew : ∃ r, KL_X2_newName_44 FU (nI full) (mA M 94 i) (nI w) 0 0 M1 = some (r, M1) ∧ r = 0 := by
    obtain ⟨r, r1, r2, r3⟩ := k_newm hn1 hkn (nI full) (mA M 94 i) (nI w) ns.length 0 FU 0 (by omega) (by have := FUb; have := hn1.2.2.1; omega) (Or.inl rfl)
    refine ⟨r, r1, r3.mpr ⟨rfl, fun j _ hj => ?_⟩⟩
    have := c3 (mss.length + j) (by rw [List.length_append]; omega)
    rw [getD_app_r] at this
    exact this
  obtain ⟨r, r1, r0⟩ := hnew
  have hmod : K_X0_model (nI w) M1 = some (0, M1) := by
    rcases k_model hm1 (fun k hk => (hkm k hk).1) (nI w) with ⟨k', d1, d2, d3, d4⟩ | ⟨d3, d4⟩
    · have := c3 k' (by rw [List.length_append]; omega)
      rw [getD_app_l d1] at this
      exact absurd d2 this
    · exact d4
  rw [hmod, ob_some, ifT (rfl : (0 : Nat) = 0), c4, ob_some, ifT (show (-1 : Int32) < 0 from by decide), ob_some, t_isBad0 P1.g0, ob_some, ifT (rfl : (0 : Int32) = 0), KF]
  unfold KJ_X2_newName_39
  rw [r1, ob_some, ifT r0]
  by_cases hfl : tI σ K = nI lim
  · right
    have h1 : full = 1 := hfull.mpr hfl
    rw [ifF (show ¬ nI full = 0 from by rw [h1]; decide), ifT r0, kw, ob_some, ifT (kk 7), ifT hfl, e405, t_bad P1.g0, ob_some]
    exact ⟨mn M1, _, _, _, rfl, rfl, mkf 7 (by decide), mkt 7 _⟩
  · left
    have h0 : full = 0 := by rcases hf with q | q; exact q; exact absurd (hfull.mp q) hfl
    rw [ifT (show nI full = 0 from by rw [h0]; rfl), ifF hfl]
    exact ⟨w, σ1, rfl, rfl, hw1, hw2, hfl, P1, E1, hi, n1, fun k hk => by rw [← i1]; exact c3 k hk⟩
theorem y_box (h1280 : m ≤ 1280) (cap : mn M ≤ 601024 ∧ ms M + 1 ≤ 7293034) (h167 : 167 ≤ mn M) (hw : 38 ≤ w ∧ w < 38 + m) : ∃ b M', K_J16_valueOf (nI w) M = some (b, M') ∧ BxR M' m b w ∧ gR M' b ∧ Fz none_ M M' ∧ mn M' ≤ mn M + 1 ∧ ms M' ≤ ms M + 1 := by
  unfold K_J16_valueOf
  rw [ifF (show ¬ nI w < -128 from by rw [Int32.lt_iff_toInt_lt, bI_toInt (by omega)]; show ¬ ((w : Int) < -128); omega)]
  by_cases h : 127 < w
  · rw [ifT (show (127 : Int32) < nI w from by rw [show (127 : Int32) = nI 127 from rfl, bI_lt (by decide) (by omega)]; exact h), ifT cap, nm_eq, nm_eq, ifT (by omega)]
    have hk : mk (mnew M 23 0 1) (mn M) = 23 := by rw [mk_mnew, ifT rfl]
    unfold K_J16_init K_J15_init
    rw [ifT (by omega), ifT (by omega), ob_some, ifT hk, nm_eq, ob_some]
    refine ⟨mn M, _, rfl, ⟨Or.inl ⟨hk, Nat.lt_succ_self _, by omega, by rw [mI_msI, ifT ⟨rfl, rfl⟩]⟩, hw⟩, Or.inl ⟨Nat.lt_succ_self _, ?_, ?_⟩, Fz.rf.mnew.msI (fun z => absurd z (Nat.lt_irrefl _)), Nat.le_refl _, Nat.le_refl _⟩
    · show mk (mnew M 23 0 1) (mn M) ≠ 0; rw [hk]; decide
    · show mk (mnew M 23 0 1) (mn M) ≤ 24; rw [hk]; decide
  · have e : ∀ d : Nat, 1099511627776 + d - 1099511627776 = d := fun d => by omega
    rw [ifF (show ¬ (127 : Int32) < nI w from by rw [show (127 : Int32) = nI 127 from rfl, bI_lt (by decide) (by omega)]; exact h), nI_addL, ifT (show inb (nI (w + 128)) 256 from inb_nI' (by omega) (by decide)), ix_nI (by omega)]
    refine ⟨_, M, rfl, ⟨Or.inr ⟨by omega, by omega, ?_⟩, hw⟩, Or.inr ⟨by omega, by omega⟩, Fz.rf, by omega, by omega⟩
    rw [e, show (128 : Int32) = nI 128 from rfl, nI_sub (by omega), show w + 128 - 128 = w by omega]
end FHEAD
