/-! Layer B: the flat model: an instance's variables by number, both sides -/
set_option maxRecDepth 100000
/-- v is instance n's variable number k -/
def OwV (σ : TS) (V n k v : Nat) : Prop := v < V ∧ tA σ 96 v = nI n ∧ cnt σ n 0 v = k
section VARIN
variable {zb : Nat} {C : PC} {D : FQ} {M M' : CM} {σ σ' : TS} {mss fss : List Nat} {B V I Bm K N E A Wn v l w d s i n k b b1 b2 Lp : Nat} {P : Nat → Prop} {x3 x y r : Int32} {z7 fv : Nat → Nat}
theorem cnt_s : cnt σ n 0 (v + 1) = cnt σ n 0 v + (if tA σ 96 v = nI n then 1 else 0) := by
  rw [cnt_add v 0 1]
  show _ + ((if tA σ 96 (0 + v) = nI n then 1 else 0) + 0) = _
  rw [Nat.zero_add, Nat.add_zero]
theorem cnt_le : ∀ (d v : Nat), cnt σ n v d ≤ d := by
  intro d
  induction d with
  | zero => intro v; exact Nat.le_refl _
  | succ d ih =>
    intro v
    have := ih (v + 1)
    show (if tA σ 96 v = nI n then 1 else 0) + cnt σ n (v + 1) d ≤ d + 1
    by_cases q : tA σ 96 v = nI n
    · rw [ifT q]; omega
    · rw [ifF q]; omega
theorem OwV.uq {u : Nat} (h : OwV σ V n k v) (g : OwV σ V n k u) : v = u := by
  have : ∀ a b, a < b → tA σ 96 a = nI n → cnt σ n 0 a < cnt σ n 0 b := fun a b hab e => by
    have h1 := cnt_cut (σ := σ) (n := n) (V := 0) (V1 := a + 1) (V2 := b) (by omega) (by omega)
    rw [Nat.sub_zero, Nat.sub_zero, cnt_s, ifT e] at h1
    omega
  rcases Nat.lt_trichotomy v u with q | q | q
  · have := this v u q h.2.1; rw [h.2.2, g.2.2] at this; omega
  · exact q
  · have := this u v q g.2.1; rw [h.2.2, g.2.2] at this; omega
/-- the twin -/
theorem t_memV (h107 : tI σ 107 = nI V) (hV : V ≤ 96) (hk : k ≤ 1000) : (∃ v, OwV σ V n k v ∧ F_memberVariable (nI n) (nI k) σ = some (nI v, σ)) ∨ (cnt σ n 0 V ≤ k ∧ F_memberVariable (nI n) (nI k) σ = some (-1, σ)) := by
  have loop : ∀ (d v f : Nat), v + d = V → d < f → cnt σ n 0 v ≤ k → (∃ u, OwV σ V n k u ∧ L_memberVariable_5 f (nI n) (nI k) (nI (cnt σ n 0 v)) (nI v) σ = some (.inr (nI u), σ)) ∨ (cnt σ n 0 V ≤ k ∧ L_memberVariable_5 f (nI n) (nI k) (nI (cnt σ n 0 v)) (nI v) σ = some (.inl (), σ)) := by
    intro d
    induction d with
    | zero =>
      intro v f hv hf hc
      obtain ⟨f, rfl⟩ : ∃ g, f = g + 1 := ⟨f - 1, by omega⟩
      have e : v = V := by omega
      refine Or.inr ⟨by rw [← e]; exact hc, ?_⟩
      unfold L_memberVariable_5
      rw [h107, ifT ((bI_le (by omega) (by omega)).mpr (by omega))]
    | succ d ih =>
      intro v f hv hf hc
      obtain ⟨f, rfl⟩ : ∃ g, f = g + 1 := ⟨f - 1, by omega⟩
      have c1 := cnt_s (σ := σ) (n := n) (v := v)
      unfold L_memberVariable_5
      rw [h107, ifF (fun z => by have := (bI_le (by omega) (by omega)).mp z; omega), ifT (inb_nI' (by omega) (by decide)), ix_nI (by omega)]
      by_cases q : tA σ 96 v = nI n
      · rw [ifT q]
        rw [ifT q] at c1
        by_cases y : cnt σ n 0 v = k
        · rw [ifT (show nI (cnt σ n 0 v) = nI k by rw [y])]
          exact Or.inl ⟨v, ⟨by omega, q, y⟩, rfl⟩
        · rw [ifF (fun z => y ((bI_eq (by omega) (by omega)).mp z)), nm_eq, nm_eq, nI_addL, nI_addL, ← c1]
          exact ih (v + 1) f (by omega) (by omega) (by omega)
      · rw [ifF q]
        have c1 : cnt σ n 0 v = cnt σ n 0 (v + 1) := by rw [c1, ifF q]; rfl
        rw [nm_eq, nI_addL, c1]
        exact ih (v + 1) f (by omega) (by omega) (by omega)
  have hFU : 100 < FU := by unfold FU; decide
  unfold F_memberVariable
  rcases loop V 0 FU (Nat.zero_add _) (by omega) (Nat.zero_le _) with ⟨u, u1, u2⟩ | ⟨u1, u2⟩
  · refine Or.inl ⟨u, u1, ?_⟩
    rw [show L_memberVariable_5 FU (nI n) (nI k) 0 0 σ = some (.inr (nI u), σ) from u2, obS_inr]
  · refine Or.inr ⟨u1, ?_⟩
    rw [show L_memberVariable_5 FU (nI n) (nI k) 0 0 σ = some (.inl (), σ) from u2, obS_inl]
theorem vo_gap (h3 : ∀ b, 0 ≤ b → b < Bm → VoB σ b (fv b) (fv (b + 1)) ∨ (¬ VrE σ b ∧ fv (b + 1) = fv b)) (hb : b1 ≤ b2) (h2 : b2 ≤ Bm) (hg : ∀ b', b1 ≤ b' → b' < b2 → ¬ tA σ 83 b' = nI n) : cnt σ n 0 (fv b2) = cnt σ n 0 (fv b1) := by
  have vs : VoS σ (fv b1) (fv b2) b1 b2 := ⟨fv, rfl, rfl, fun c c1 c2 => h3 c (Nat.zero_le _) (by omega)⟩
  have le := vs.le hb
  have := cnt_cut (σ := σ) (n := n) (V := 0) (V1 := fv b1) (V2 := fv b2) (Nat.zero_le _) le
  rw [Nat.sub_zero, Nat.sub_zero] at this
  have e0 : cnt σ n (fv b1) (fv b2 - fv b1) = 0 := cnt_0 _ _ (fun u u1 u2 z => by
    obtain ⟨c, c1, c2, -, c4⟩ := vs.own hb u u1 (by omega)
    rw [c4] at z
    exact hg c c1 c2 z)
  omega
/-- the component -/
theorem k_varIn (h : BS zb z7 C B P mss fss V I Bm Lp x3 D M σ K N E A Wn) (hn : n < I) (hk : k ≤ 1000) : (∃ v, OwV σ V n k v ∧ K_X0_varIn ((pl D 99).getD n 0) (nI k) M = some (nI v, M)) ∨ (cnt σ n 0 V ≤ k ∧ K_X0_varIn ((pl D 99).getD n 0) (nI k) M = some (-1, M)) := by
  obtain ⟨bs, m, l⟩ := h.mbs hn
  obtain ⟨fv, f0, fV, h3⟩ := h.fx.2.1.2.2.2.2.2.2.1
  have V96 := h.hV.2
  have Bm2 := h.fx.2.1.2.2.1
  have l100 := h.fx.1.1.2.2
  obtain ⟨⟨o1, o2, o3⟩, -⟩ := h.inst hn
  have up : ∀ b1 b2, b1 ≤ b2 → b2 ≤ Bm → fv b1 ≤ fv b2 := fun b1 b2 h1 h2 => VoS.le (σ := σ) (Bm := b1) (Bm' := b2) ⟨fv, rfl, rfl, fun c c1 c2 => h3 c (by omega) (by omega)⟩ h1
  have loop : ∀ (t pre : List Nat) (f : Nat), bs = pre ++ t → t.length < f → cnt σ n 0 (fv (t.headD Bm)) ≤ k → (∃ v, OwV σ V n k v ∧ KL_X0_varIn_5 f ((pl D 99).getD n 0) (nI k) (nI (cnt σ n 0 (fv (t.headD Bm)))) (nI pre.length) M = some (.inr (nI v), M)) ∨ (cnt σ n 0 V ≤ k ∧ KL_X0_varIn_5 f ((pl D 99).getD n 0) (nI k) (nI (cnt σ n 0 (fv (t.headD Bm)))) (nI pre.length) M = some (.inl (), M)) := by
    intro t
    induction t with
    | nil =>
      intro pre f hbs hf hc
      obtain ⟨f, rfl⟩ : ∃ g, f = g + 1 := ⟨f - 1, by omega⟩
      have hlen : (bs.map fun b => (pl D 100).getD b 0).length = pre.length := by rw [List.length_map, hbs, List.append_nil]
      have ll := l.2.2.1
      have hc : cnt σ n 0 (fv Bm) ≤ k := hc
      refine Or.inr ⟨by rw [← fV]; exact hc, ?_⟩
      unfold KL_X0_varIn_5
      rw [ifT o3, ifT l.1, ls_size l, ob_some, hlen, ifT (show nI pre.length ≤ nI pre.length from (bI_le (by omega) (by omega)).mpr (Nat.le_refl _))]
    | cons b t iht =>
      intro pre f hbs hf hc
      obtain ⟨f, rfl⟩ : ∃ g, f = g + 1 := ⟨f - 1, by omega⟩
      have hf : t.length + 1 < f + 1 := hf
      have hlen : (bs.map fun b => (pl D 100).getD b 0).length = pre.length + (t.length + 1) := by rw [List.length_map, hbs, List.length_append]; rfl
      have ll := l.2.2.1
      rw [hlen] at ll
      have get := ls_get l (i := pre.length) (by omega)
      have eg : (bs.map fun b => (pl D 100).getD b 0).getD pre.length 0 = (pl D 100).getD b 0 := by
        rw [hbs, List.map_append]
        have : pre.length = (pre.map fun b => (pl D 100).getD b 0).length + 0 := by rw [List.length_map]; rfl
        rw [this, getD_app_r]; rfl
      rw [eg] at get
      obtain ⟨g1, g2, g3, g4⟩ := Mbs.gap (by rw [← hbs]; exact m)
      obtain ⟨⟨k1, k2⟩, e, ⟨e1, e2⟩, e3, e4, -⟩ := h.mb g1
      have e15 : mR M 3007 ((pl D 100).getD b 0) = z7 b := by
        obtain ⟨_, _, _, _, -, -, -, -, -, -, a15⟩ := h.fx.1.2.2.1 b g1
        exact a15
      obtain ⟨q1, q2, q3⟩ := h.fx.2.2.2.2 b g1
      have hc : cnt σ n 0 (fv b) ≤ k := hc
      show (∃ v, OwV σ V n k v ∧ KL_X0_varIn_5 (f + 1) ((pl D 99).getD n 0) (nI k) (nI (cnt σ n 0 (fv b))) (nI pre.length) M = _) ∨ (_ ∧ KL_X0_varIn_5 (f + 1) ((pl D 99).getD n 0) (nI k) (nI (cnt σ n 0 (fv b))) (nI pre.length) M = _)
      have fb1 := up b (b + 1) (by omega) (by omega)
      have fb2 := up (b + 1) Bm (by omega) (Nat.le_refl _)
      have cl := cnt_le (σ := σ) (n := n) (fv b) 0
      have hpre : (pre ++ [b]).length = pre.length + 1 := by rw [List.length_append]; rfl
      have gap : cnt σ n 0 (fv (t.headD Bm)) = cnt σ n 0 (fv (b + 1)) := vo_gap h3 (by omega) g3.2 (fun b' h1 h2 => g4 b' (by omega) h2 (by omega))
      have nxt : cnt σ n 0 (fv (b + 1)) ≤ k → (∃ v, OwV σ V n k v ∧ KL_X0_varIn_5 f ((pl D 99).getD n 0) (nI k) (nI (cnt σ n 0 (fv (b + 1)))) (nI (pre.length + 1)) M = some (.inr (nI v), M)) ∨ (cnt σ n 0 V ≤ k ∧ KL_X0_varIn_5 f ((pl D 99).getD n 0) (nI k) (nI (cnt σ n 0 (fv (b + 1)))) (nI (pre.length + 1)) M = some (.inl (), M)) := fun hk => by
        have := iht (pre ++ [b]) f (by rw [hbs, List.append_assoc]; rfl) (by omega) (by rw [gap]; exact hk)
        rw [hpre, gap] at this
        exact this
      unfold KL_X0_varIn_5
      rw [ifT o3, ifT l.1, ls_size l, ob_some, hlen, ifF (show ¬ nI (pre.length + (t.length + 1)) ≤ nI pre.length from fun z => by have := (bI_le (by omega) (by omega)).mp z; omega), ifT o3, ifT l.1, get, ob_some, ifT (Or.inr k1), ifT k1, e3]
      have eq1 : ∀ e', tA σ 84 b = nI e' → e' < ix (tI σ 58) → e' = e := fun e' h1 h2 => by
        have e480 := h.fw.e480 h2
        rw [e1] at h1
        exact ((bI_eq (by omega) (by omega)).mp h1).symm
      by_cases h51 : tB σ 51 e = 0
      · rw [ifT h51, ifF (show ¬ (1 : Int32) = 0 by decide), ifT k1, e15]
        by_cases h52 : tA σ 52 e &&& 16 = 0
        · have no : ¬ outT σ b := by
            rintro ⟨e', ⟨y1, y2⟩, y3⟩
            rw [e1] at y1
            have := (bI_eq (by omega) (by omega)).mp y1
            rw [← this] at y3
            exact y3 h52
          have vb : VoB σ b (fv b) (fv (b + 1)) := by
            rcases h3 b (Nat.zero_le _) g1 with g | ⟨g, -⟩
            · exact g
            · obtain ⟨e', ⟨r1, r2⟩, -⟩ := q1
              have := eq1 e' r1 r2
              rw [this] at r2
              exact absurd ⟨e, e1, r2, h51, h52⟩ g
          obtain ⟨e', z, ⟨v1, v2, v3, v4⟩, v5, v6, v7, v8, v9⟩ := vb
          have ee := eq1 e' v1 v2
          rw [ee] at v5
          have e30 : mI M 3002 ((pl D 100).getD b 0) = nI z := by
            obtain ⟨_, e5, _, _, -, ⟨a4, a5, -⟩, -, -, a13, -⟩ := h.fx.1.2.2.1 b g1
            rw [a13, eq1 e5 a4 a5]; exact v5
          have e35 : mI M 3005 ((pl D 100).getD b 0) = nI (fv b) := by
            obtain ⟨e5, ⟨r1, r2⟩, r3⟩ := q1
            rw [eq1 e5 r1 r2] at r3
            rcases r3 with ⟨r3, -⟩ | ⟨-, f', z', ⟨r4, r5⟩, -⟩
            · exact absurd h52 r3
            · rw [r4, ← r5, v7]
          have cc : cnt σ n 0 (fv (b + 1)) = cnt σ n 0 (fv b) + many z := by
            have := cnt_cut (σ := σ) (n := n) (V := 0) (V1 := fv b) (V2 := fv (b + 1)) (Nat.zero_le _) fb1
            rw [Nat.sub_zero, Nat.sub_zero] at this
            have e0 : cnt σ n (fv b) (fv (b + 1) - fv b) = fv (b + 1) - fv b := cnt_d _ _ (fun u u1 u2 => by rw [v9 u u1 (by omega)]; exact g2)
            omega
          have hm := k_many k1 e30 v6
          have k2' := k2
          rw [ifT (q2 no), ifT k1, ifT k2, e4, ob_some, ifF (show ¬ ¬ tA σ 52 e &&& 16 = 0 from fun z => z h52), ifT (rfl : (0 : Int32) = 0), ifT k1, hm, ob_some, bI_add, ← cc]
          have c2 := cnt_le (σ := σ) (n := n) (fv (b + 1)) 0
          by_cases y : cnt σ n 0 (fv (b + 1)) ≤ k
          · rw [ifT ((bI_le (by omega) (by omega)).mpr y), ifT k1, hm, ob_some, nm_eq, nm_eq, nI_addL, bI_add, ← cc]
            exact nxt y
          · rw [ifF (fun z => y ((bI_le (by omega) (by omega)).mp z)), ifT k1, e35, bI_add, nI_sub (by omega)]
            refine Or.inl ⟨fv b + k - cnt σ n 0 (fv b), ⟨by omega, by rw [v9 _ (by omega) (by omega)]; exact g2, ?_⟩, rfl⟩
            have c3 := cnt_cut (σ := σ) (n := n) (V := 0) (V1 := fv b) (V2 := fv b + k - cnt σ n 0 (fv b)) (Nat.zero_le _) (by omega)
            rw [Nat.sub_zero, Nat.sub_zero] at c3
            have e0 : cnt σ n (fv b) (fv b + k - cnt σ n 0 (fv b) - fv b) = fv b + k - cnt σ n 0 (fv b) - fv b := cnt_d _ _ (fun u u1 u2 => by rw [v9 u u1 (by omega)]; exact g2)
            omega
        · have ot : outT σ b := ⟨e, ⟨e1, e2⟩, h52⟩
          obtain ⟨c, e', i1, i2, i3, i4, i5, i6⟩ := q3 ot
          have nz : ¬ z7 b = 0 := by
            have := (h.fw.2.1.2.1 100 (by decide) c (by omega)).2.1.1
            omega
          have nv1 : fv (b + 1) = fv b := by
            rcases h3 b (Nat.zero_le _) g1 with ⟨e', z, ⟨v1, v2, v3, v4⟩, -⟩ | ⟨-, g⟩
            · rw [eq1 e' v1 v2] at v4; exact absurd v4 h52
            · exact g
          rw [ifF nz, nm_eq, nI_addL, ← nv1]
          exact nxt (by rw [nv1]; exact hc)
      · have nv1 : fv (b + 1) = fv b := by
          rcases h3 b (Nat.zero_le _) g1 with ⟨e', z, ⟨v1, v2, v3, v4⟩, -⟩ | ⟨-, g⟩
          · rw [eq1 e' v1 v2] at v3; exact absurd v3 h51
          · exact g
        rw [ifF h51, ifT (rfl : (0 : Int32) = 0), nm_eq, nI_addL, ← nv1]
        exact nxt (by rw [nv1]; exact hc)
  have hl2 := l.2.2.1
  have hbl : bs.length = (bs.map fun b => (pl D 100).getD b 0).length := (List.length_map _).symm
  have hh : bs.headD Bm ≤ Bm := by
    cases hb : bs with
    | nil => exact Nat.le_refl _
    | cons b t => exact Nat.le_of_lt (m.1 b (by rw [hb]; exact List.mem_cons_self)).1
  have c0 : cnt σ n 0 (fv (bs.headD Bm)) = 0 := by
    rw [vo_gap h3 (Nat.zero_le _) hh (fun b' _ h2 z => ?_), f0]
    · rfl
    · have mem := m.2.2.1 b' (by omega) z
      have pw := m.2.2.2
      cases hb : bs with
      | nil => rw [hb] at mem; exact absurd mem List.not_mem_nil
      | cons b t =>
        rw [hb] at mem h2 pw
        have h2 : b' < b := h2
        rcases List.mem_cons.mp mem with g | g
        · omega
        · have := (List.pairwise_cons.mp pw).1 b' g; omega
  obtain ⟨G, hG, hGl⟩ := FUg
  have hG : FU = G + 1 := hG
  unfold K_X0_varIn
  have := loop bs [] FU rfl (by omega) (by rw [c0]; exact Nat.zero_le _)
  rw [c0] at this
  rcases this with ⟨u, u1, u2⟩ | ⟨u1, u2⟩
  · refine Or.inl ⟨u, u1, ?_⟩
    rw [show KL_X0_varIn_5 FU ((pl D 99).getD n 0) (nI k) 0 0 M = some (.inr (nI u), M) from u2, obS_inr]
  · refine Or.inr ⟨u1, ?_⟩
    rw [show KL_X0_varIn_5 FU ((pl D 99).getD n 0) (nI k) 0 0 M = some (.inl (), M) from u2, obS_inl]
/-- both -/
theorem z_varIn (h : BS zb z7 C B P mss fss V I Bm Lp x3 D M σ K N E A Wn) (hn : n < I) (hk : k ≤ 1000) : (∃ v, OwV σ V n k v ∧ K_X0_varIn ((pl D 99).getD n 0) (nI k) M = some (nI v, M) ∧ F_memberVariable (nI n) (nI k) σ = some (nI v, σ)) ∨ (cnt σ n 0 V ≤ k ∧ K_X0_varIn ((pl D 99).getD n 0) (nI k) M = some (-1, M) ∧ F_memberVariable (nI n) (nI k) σ = some (-1, σ)) := by
  have no : ∀ v, OwV σ V n k v → ¬ cnt σ n 0 V ≤ k := fun v hv z => by
    have h1 := cnt_cut (σ := σ) (n := n) (V := 0) (V1 := v + 1) (V2 := V) (Nat.zero_le _) hv.1
    rw [Nat.sub_zero, Nat.sub_zero, cnt_s, ifT hv.2.1, hv.2.2] at h1
    omega
  rcases k_varIn h hn hk with ⟨v, a1, a2⟩ | ⟨a1, a2⟩ <;> rcases t_memV (n := n) h.fx.2.2.1.1 h.hV.2 hk with ⟨u, b1, b2⟩ | ⟨b1, b2⟩
  · exact Or.inl ⟨v, a1, a2, by rw [a1.uq b1]; exact b2⟩
  · exact absurd b1 (no v a1)
  · exact absurd a1 (no u b1)
  · exact Or.inr ⟨a1, a2, b2⟩
end VARIN
