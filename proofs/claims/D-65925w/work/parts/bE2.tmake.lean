/-! Layer B: the flat model: the twin makes a variable -/
set_option maxRecDepth 100000
section TMAKE
variable {C C' : PC} {D D' D2 : FQ} {M M' M2 : CM} {σ σ' σ0 σ2 : TS} {B l k n o m u w E E' I i k0 fr e cb v V env fl : Nat} {P : Nat → Prop} {S S' : List Nat} {a : Nat × Nat × Nat} {W W1 W2 : List (Nat × Nat × Nat)} {x : Int64} {x1 x2 x3 x4 x5 x6 x7 x8 x9 x10 : Int32}
theorem EnB.ft (h : EnB σ a) (f : Ft S σ σ') (hS : S.all fiS.contains = true) : EnB σ' a := by
  have f2 := f.mono (S' := fiS) hS
  refine ⟨h.1, h.2.1, ?_⟩
  rw [(f2 62 rfl).2.2.1, pth_ft f2 rfl rfl]
  exact h.2.2
theorem EnC.ft (h : EnC σ a) (f : Ft S σ σ') (hS : S.all fiS.contains = true) : EnC σ' a := by
  have f2 := f.mono (S' := fiS) hS
  unfold EnC
  rw [(f2 60 rfl).2.2.1, pth_ft f2 rfl rfl, (f2 29 rfl).2.2.2, (f2 33 rfl).2.2.1]
  exact h
theorem vbad_ft (f : Ft S σ σ') (hS : S.all fiS.contains = true) : vbad σ' a ↔ vbad σ a := by
  have f2 := f.mono (S' := fiS) hS
  unfold vbad
  rw [(f2 62 rfl).2.2.1, pth_ft f2 rfl rfl, (f2 29 rfl).2.2.2]
theorem sE_ft (f : Ft S σ σ') (hS : S.all fiS.contains = true) : ∀ (W : List (Nat × Nat × Nat)), sE σ' W = sE σ W
  | [] => rfl
  | a :: W => by
    have f2 := f.mono (S' := fiS) hS
    show (if pth σ' a.1 a.2.1 = 0 then sE σ' W else (tA σ' 60 a.1, nI a.2.2)) = (if pth σ a.1 a.2.1 = 0 then sE σ W else (tA σ 60 a.1, nI a.2.2))
    rw [pth_ft f2 rfl rfl, (f2 60 rfl).2.2.1, sE_ft f hS W]
theorem vE_ft (f : Ft S σ σ') (hS : S.all fiS.contains = true) : ∀ (W : List (Nat × Nat × Nat)), vE σ' W = vE σ W
  | [] => rfl
  | a :: W => by
    have f2 := f.mono (S' := fiS) hS
    show (if pth σ' a.1 a.2.1 = 0 then (tA σ' 60 a.1, nI a.2.2) else vE σ' W) = (if pth σ a.1 a.2.1 = 0 then (tA σ 60 a.1, nI a.2.2) else vE σ W)
    rw [pth_ft f2 rfl rfl, (f2 60 rfl).2.2.1, vE_ft f hS W]
/-- what an entry must be here -/
def EnV (σ : TS) (a : Nat × Nat × Nat) : Prop := EnB σ a ∧ tA σ 62 a.1 = 0 ∧ EnC σ a ∧ ¬ vbad σ a
theorem EnV.ft (h : EnV σ a) (f : Ft S σ σ') (hS : S.all fiS.contains = true) : EnV σ' a := ⟨h.1.ft f hS, by rw [((f.mono (S' := fiS) hS) 62 rfl).2.2.1]; exact h.2.1, h.2.2.1.ft f hS, fun z => h.2.2.2 ((vbad_ft f hS).mp z)⟩
theorem t_mv345 (hv : v < 96) (hE : tI σ 93 = nI E) (hE4 : E ≤ 40000) : ∀ (W : List (Nat × Nat × Nat)) (j f : Nat), j + W.length = E → W.length + 1 < f → EsR σ j W → (∀ a, a ∈ W → EnV σ a) → L_makeVariable_345 f x1 x2 x4 (nI v) 0 (nI j) σ = some ((), if (vE σ W).1 = 0 then σ else tsA (tsA σ 100 v (vE σ W).1) 101 v (vE σ W).2)
  | [], j, f, hj, hf, _, _ => by
    obtain ⟨f, rfl⟩ : ∃ g, f = g + 1 := ⟨f - 1, by omega⟩
    have hj : j = E := hj
    rw [L_makeVariable_345, hE, ifT ((bI_le (by omega) (by omega)).mpr (by omega)), ifT (show (vE σ []).1 = 0 from rfl)]
  | a :: W, j, f, hj, hf, hs, hB => by
    obtain ⟨f, rfl⟩ : ∃ g, f = g + 1 := ⟨f - 1, by omega⟩
    have hlen : (a :: W).length = W.length + 1 := rfl
    rw [hlen] at hj hf
    obtain ⟨e1, e2, e3⟩ : EvR σ j a := by have := hs 0 (by rw [hlen]; omega); exact this
    obtain ⟨⟨b1, b2, b3⟩, r62, ⟨c1, c2⟩, c3⟩ := hB a List.mem_cons_self
    have hin : inb (nI j) 40000 := inb_nI' (by omega) (by decide)
    have vin : inb (nI v) 96 := inb_nI' hv (by decide)
    have next := t_mv345 hv hE hE4 W (j + 1) f (by omega) (by omega) (fun c hc => by
      have := hs (c + 1) (by rw [hlen]; omega)
      rw [show j + (c + 1) = j + 1 + c by omega] at this
      exact this) (fun a ha => hB a (List.mem_cons_of_mem _ ha))
    have jj : ix (nI j) = j := ix_nI (by omega)
    have vv : ix (nI v) = v := ix_nI (by omega)
    rw [L_makeVariable_345, hE, ifF (fun z => by have := (bI_le (by omega) (by omega)).mp z; omega), ifT (rfl : (0 : Int32) = 0), ifT hin, jj, e3, ifT r62, nI_addL]
    by_cases z : pth σ a.1 a.2.1 = 0
    · have ev : vE σ (a :: W) = (tA σ 60 a.1, nI a.2.2) := ifT z
      have kin : inb (tA σ 90 j) 2500 := by rw [e1]; exact inb_nI' (by omega) (by decide)
      have e92 : tA (tsA σ 100 v (tA σ 60 a.1)) 92 j = nI a.2.2 := e2
      rw [ifT z, ifT hin, ifT kin, ifT vin, e1, vv, (show ix (nI a.1) = a.1 from ix_nI (by omega)), nm_eq, ifT hin, ifT vin, e92, nm_eq, nm_eq, ev, ifF c2]
      obtain ⟨f, rfl⟩ : ∃ g, f = g + 1 := ⟨f - 1, by omega⟩
      rw [L_makeVariable_345]
      by_cases y : tI (tsA (tsA σ 100 v (tA σ 60 a.1)) 101 v (nI a.2.2)) 93 ≤ nI (j + 1)
      · rw [ifT y]
      · rw [ifF y, ifF (by decide)]
    · have ev : vE σ (a :: W) = vE σ W := ifF z
      rw [ifF z, nm_eq, ev]
      exact next
theorem t_mv418n (hv : v < 96) (hE : tI σ 93 = nI E) (hE4 : E ≤ 40000) (h102 : tA σ 102 v ≠ 0) : ∀ (W : List (Nat × Nat × Nat)) (j f : Nat), j + W.length = E → W.length + 1 < f → EsR σ j W → (∀ a, a ∈ W → EnV σ a) → L_makeVariable_418 f x1 x2 x4 (nI v) (nI j) σ = some (.inl (), σ)
  | [], j, f, hj, hf, _, _ => by
    obtain ⟨f, rfl⟩ : ∃ g, f = g + 1 := ⟨f - 1, by omega⟩
    have hj : j = E := hj
    rw [L_makeVariable_418, hE, ifT ((bI_le (by omega) (by omega)).mpr (by omega))]
  | a :: W, j, f, hj, hf, hs, hB => by
    obtain ⟨f, rfl⟩ : ∃ g, f = g + 1 := ⟨f - 1, by omega⟩
    have hlen : (a :: W).length = W.length + 1 := rfl
    rw [hlen] at hj hf
    obtain ⟨e1, e2, e3⟩ : EvR σ j a := by have := hs 0 (by rw [hlen]; omega); exact this
    obtain ⟨⟨b1, b2, b3⟩, r62, ⟨c1, c2⟩, c3⟩ := hB a List.mem_cons_self
    obtain ⟨q, q1, q2⟩ := b3 r62
    have hin : inb (nI j) 40000 := inb_nI' (by omega) (by decide)
    have vin : inb (nI v) 96 := inb_nI' hv (by decide)
    have qin : inb (nI q) 7000 := inb_nI' q1 (by decide)
    have qix : ix (nI q) = q := ix_nI (by omega)
    have next := t_mv418n hv hE hE4 h102 W (j + 1) f (by omega) (by omega) (fun c hc => by
      have := hs (c + 1) (by rw [hlen]; omega)
      rw [show j + (c + 1) = j + 1 + c by omega] at this
      exact this) (fun a ha => hB a (List.mem_cons_of_mem _ ha))
    have jj : ix (nI j) = j := ix_nI (by omega)
    have vv : ix (nI v) = v := ix_nI (by omega)
    rw [L_makeVariable_418, hE, ifF (fun z => by have := (bI_le (by omega) (by omega)).mp z; omega), ifT hin, jj, e3, ifT r62, q2, nI_addL]
    by_cases z : 0 < nI q
    · have h29 : tB σ 29 q = kco 37 := by
        by_cases y : tB σ 29 q = kco 37
        · exact y
        · exact absurd (Or.inr ⟨by rw [q2]; exact z, by rw [q2, qix]; exact y⟩) c3
      have h33 : tA σ 33 q = 0 := by rw [q2, qix] at c1; exact c1 z h29
      rw [ifT z, ifT hin, ifT qin, qix, ifT (lg37.mpr h29), ifT hin, ifT qin, ifT h33, ifT vin, vv, ifF h102, nm_eq]
      exact next
    · rw [ifF z, nm_eq]
      exact next
theorem t_mv418 (hv : v < 96) (hE : tI σ 93 = nI E) (hE4 : E ≤ 40000) (h102 : tA σ 102 v = 0) : ∀ (W : List (Nat × Nat × Nat)) (j f : Nat), j + W.length = E → W.length + 1 < f → EsR σ j W → (∀ a, a ∈ W → EnV σ a) → L_makeVariable_418 f x1 x2 x4 (nI v) (nI j) σ = some (.inl (), if (sE σ W).1 = 0 then σ else tsA (tsA σ 102 v (sE σ W).1) 103 v (sE σ W).2)
  | [], j, f, hj, hf, _, _ => by
    obtain ⟨f, rfl⟩ : ∃ g, f = g + 1 := ⟨f - 1, by omega⟩
    have hj : j = E := hj
    rw [L_makeVariable_418, hE, ifT ((bI_le (by omega) (by omega)).mpr (by omega)), ifT (show (sE σ []).1 = 0 from rfl)]
  | a :: W, j, f, hj, hf, hs, hB => by
    obtain ⟨f, rfl⟩ : ∃ g, f = g + 1 := ⟨f - 1, by omega⟩
    have hlen : (a :: W).length = W.length + 1 := rfl
    rw [hlen] at hj hf
    obtain ⟨e1, e2, e3⟩ : EvR σ j a := by have := hs 0 (by rw [hlen]; omega); exact this
    obtain ⟨⟨b1, b2, b3⟩, r62, ⟨c1, c2⟩, c3⟩ := hB a List.mem_cons_self
    obtain ⟨q, q1, q2⟩ := b3 r62
    have hin : inb (nI j) 40000 := inb_nI' (by omega) (by decide)
    have vin : inb (nI v) 96 := inb_nI' hv (by decide)
    have qin : inb (nI q) 7000 := inb_nI' q1 (by decide)
    have qix : ix (nI q) = q := ix_nI (by omega)
    have hs' : EsR σ (j + 1) W := fun c hc => by
      have := hs (c + 1) (by rw [hlen]; omega)
      rw [show j + (c + 1) = j + 1 + c by omega] at this
      exact this
    have hB' : ∀ a, a ∈ W → EnV σ a := fun a ha => hB a (List.mem_cons_of_mem _ ha)
    have next := t_mv418 hv hE hE4 h102 W (j + 1) f (by omega) (by omega) hs' hB'
    have jj : ix (nI j) = j := ix_nI (by omega)
    have vv : ix (nI v) = v := ix_nI (by omega)
    rw [L_makeVariable_418, hE, ifF (fun z => by have := (bI_le (by omega) (by omega)).mp z; omega), ifT hin, jj, e3, ifT r62, q2, nI_addL]
    by_cases z : 0 < nI q
    · have h29 : tB σ 29 q = kco 37 := by
        by_cases y : tB σ 29 q = kco 37
        · exact y
        · exact absurd (Or.inr ⟨by rw [q2]; exact z, by rw [q2, qix]; exact y⟩) c3
      have h33 : tA σ 33 q = 0 := by rw [q2, qix] at c1; exact c1 z h29
      have kin : inb (tA σ 90 j) 2500 := by rw [e1]; exact inb_nI' (by omega) (by decide)
      have pz : ¬ pth σ a.1 a.2.1 = 0 := by rw [q2]; exact fun y => by rw [y] at z; exact absurd z (by decide)
      have ev : sE σ (a :: W) = (tA σ 60 a.1, nI a.2.2) := ifF pz
      have e92 : tA (tsA σ 102 v (tA σ 60 a.1)) 92 j = nI a.2.2 := e2
      rw [ifT z, ifT hin, ifT qin, qix, ifT (lg37.mpr h29), ifT hin, ifT qin, ifT h33, ifT vin, vv, ifT h102, ifT hin, ifT kin, ifT vin, e1, ix_nI (by omega), nm_eq, ifT hin, ifT vin, e92, nm_eq, nm_eq, ev, ifF c2]
      have ff : Ft [102, 103] σ (tsA (tsA σ 102 v (tA σ 60 a.1)) 103 v (nI a.2.2)) := ((Ft.rf _ σ).p_tsA rfl).p_tsA rfl
      exact t_mv418n hv (by rw [(ff 93 rfl).1]; exact hE) hE4 (by
        show tA (tsA (tsA σ 102 v (tA σ 60 a.1)) 103 v (nI a.2.2)) 102 v ≠ 0
        rw [tA_tsA, ifF (by omega), tA_tsA, ifT ⟨rfl, rfl⟩]; exact c2) W (j + 1) f (by omega) (by omega) (hs'.mv (ff.fi (by decide)) (fun _ _ _ => ⟨rfl, rfl, rfl⟩)) (fun a ha => (hB' a ha).ft ff (by decide))
    · have pz : pth σ a.1 a.2.1 = 0 := by
        rw [q2]
        by_cases y : q = 0
        · rw [y]; rfl
        · exact absurd (by rw [show (0 : Int32) = nI 0 from rfl, bI_lt (by decide) (by omega)]; omega) z
      have ev : sE σ (a :: W) = sE σ W := ifT pz
      rw [ifF z, nm_eq, ev]
      exact next
theorem t_mv548n (hv : v < 96) (h0 : tI σ 0 = 0) (hM : MlR σ k0 n) (h102 : tA σ 102 v ≠ 0) : ∀ (d t f : Nat), t + d = n → d < f → (∀ a, a ∈ msE (k0 + t) d i → ¬ vbad σ a) → L_makeVariable_548 f x1 (nI v) (ptr k0 n t) σ = some ((), σ) := by
  intro d
  induction d with
  | zero =>
    intro t f hd hf _
    obtain ⟨f, rfl⟩ : ∃ g, f = g + 1 := ⟨f - 1, by omega⟩
    rw [L_makeVariable_548, ifT (show ptr k0 n t = 0 from ifF (by omega))]
  | succ d ih =>
    intro t f hd hf hb
    obtain ⟨f, rfl⟩ : ∃ g, f = g + 1 := ⟨f - 1, by omega⟩
    rw [msE_succ] at hb
    have hk := hM.1
    obtain ⟨pe, n0, hin, hix⟩ := ptr_ne (k := t) (n := n) (k0 := k0) (by omega) hM.1
    have m1' := ptr_next hM (k := t) (by omega)
    obtain ⟨_, m2, m3⟩ := hM.2 t (by omega)
    have nb := hb _ List.mem_cons_self
    have next := ih (t + 1) f (by omega) (by omega) (fun a ha => hb a (List.mem_cons_of_mem _ ha))
    have r62 : tA σ 62 (k0 + t) = 0 := by
      by_cases z : tA σ 62 (k0 + t) = 0
      · exact z
      · exact absurd (Or.inl z) nb
    obtain ⟨q, q0, q1, q2⟩ := m2 r62
    have qin : inb (nI q) 7000 := inb_nI' q1 (by decide)
    have qix : ix (nI q) = q := ix_nI (by omega)
    have h29 : tB σ 29 q = kco 37 := by
      by_cases y : tB σ 29 q = kco 37
      · exact y
      · refine absurd (Or.inr ⟨?_, ?_⟩) nb
        · show 0 < tA σ 59 (k0 + t)
          rw [q2, show (0 : Int32) = nI 0 from rfl, bI_lt (by decide) (by omega)]; omega
        · show tB σ 29 (ix (tA σ 59 (k0 + t))) ≠ kco 37
          rw [q2, qix]; exact y
    have vin : inb (nI v) 96 := inb_nI' hv (by decide)
    rw [L_makeVariable_548, ifF n0, t_isBad0 h0, ob_some, ifT (rfl : (0 : Int32) = 0), ifT hin, hix, ifT r62, ifT hin, q2, ifT qin, qix, ifT (lg37.mpr h29), ifT vin, ix_nI (by omega), ifF h102, ifT hin, m1', nm_eq]
    exact next
/-- own starts: what is there counts first -/
theorem t_mv548 (hv : v < 96) (h0 : tI σ 0 = 0) (hM : MlR σ k0 n) (h60 : ∀ t, t < n → tA σ 62 (k0 + t) = 0 → tA σ 60 (k0 + t) ≠ 0) (hb : ∀ a, a ∈ msE k0 n i → ¬ vbad σ a) : L_makeVariable_548 FU (nI i) (nI v) (ptr k0 n 0) σ = some ((), if tA σ 102 v ≠ 0 ∨ (sE σ (msE k0 n i)).1 = 0 then σ else tsA (tsA σ 102 v (sE σ (msE k0 n i)).1) 103 v (sE σ (msE k0 n i)).2) := by
  have fu := FUb
  have hk := hM.1
  by_cases h102 : tA σ 102 v = 0
  · cases n with
    | zero =>
      rw [ifT (show tA σ 102 v ≠ 0 ∨ (sE σ (msE k0 0 i)).1 = 0 from Or.inr rfl), FUs, L_makeVariable_548, ifT (show ptr k0 0 0 = 0 from ifF (by omega))]
    | succ n =>
      have hb' := hb
      rw [msE_succ] at hb
      obtain ⟨pe, n0, hin, hix⟩ := ptr_ne (k := 0) (n := n + 1) (k0 := k0) (by omega) hM.1
      have m1' := ptr_next hM (k := 0) (by omega)
      obtain ⟨_, m2, m3⟩ := hM.2 0 (by omega)
      rw [Nat.add_zero] at m1' m2 m3
      have hix : ix (ptr k0 (n + 1) 0) = k0 := hix
      have nb := hb _ List.mem_cons_self
      have r62 : tA σ 62 k0 = 0 := by
        by_cases z : tA σ 62 k0 = 0
        · exact z
        · exact absurd (Or.inl z) nb
      have e60 := h60 0 (by omega) r62
      rw [Nat.add_zero] at e60
      obtain ⟨q, q0, q1, q2⟩ := m2 r62
      have qin : inb (nI q) 7000 := inb_nI' q1 (by decide)
      have qix : ix (nI q) = q := ix_nI (by omega)
      have qpos : (0 : Int32) < nI q := by rw [show (0 : Int32) = nI 0 from rfl, bI_lt (by decide) (by omega)]; omega
      have h29 : tB σ 29 q = kco 37 := by
        by_cases y : tB σ 29 q = kco 37
        · exact y
        · refine absurd (Or.inr ⟨?_, ?_⟩) nb
          · show 0 < tA σ 59 k0
            rw [q2]; exact qpos
          · show tB σ 29 (ix (tA σ 59 k0)) ≠ kco 37
            rw [q2, qix]; exact y
      have vin : inb (nI v) 96 := inb_nI' hv (by decide)
      have es : sE σ (msE k0 (n + 1) i) = (tA σ 60 k0, nI i) := by
        rw [msE_succ]
        exact ifF (show ¬ tA σ 59 k0 = 0 from fun z => by rw [q2] at z; rw [z] at qpos; exact absurd qpos (by decide))
      have ff : Ft [102, 103] σ (tsA (tsA σ 102 v (tA σ 60 k0)) 103 v (nI i)) := ((Ft.rf _ σ).p_tsA rfl).p_tsA rfl
      have e61 : tA (tsA (tsA σ 102 v (tA σ 60 k0)) 103 v (nI i)) 61 k0 = ptr k0 (n + 1) (0 + 1) := m1'
      rw [es, ifF (fun z => by rcases z with z | z; exact z h102; exact e60 z), FUs, L_makeVariable_548, ifF n0, t_isBad0 h0, ob_some, ifT (rfl : (0 : Int32) = 0), ifT hin, hix, ifT r62, ifT hin, q2, ifT qin, qix, ifT (lg37.mpr h29), ifT vin, ix_nI (by omega), ifT h102, ifT hin, ifT vin, nm_eq, ifT vin, nm_eq, ifT hin, e61, nm_eq]
      exact t_mv548n (i := i) hv (by rw [(ff 0 rfl).1]; exact h0) (hM.ft ff (by decide)) (by
        rw [tA_tsA, ifF (by omega), tA_tsA, ifT ⟨rfl, rfl⟩]; exact e60) n 1 _ (by omega) (by omega) (fun a ha z => hb' a (by rw [msE_succ]; exact List.mem_cons_of_mem _ ha) ((vbad_ft ff (by decide)).mp z))
  · rw [ifT (Or.inl h102)]
    exact t_mv548n (i := i) hv h0 hM h102 n 0 FU (by omega) (by omega) hb
end TMAKE
