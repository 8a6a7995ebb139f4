/-! Layer B: the flat model: an instance is made, both sides -/
set_option maxRecDepth 100000
/-- what the twin notes of a new instance -/
def niT (σ : TS) (I i e k E len : Nat) (idx : Int32) : TS := tsA (tsA (tsA (tsA (tsA (tsA (tsA (tsI σ 82 (nI (I + 1))) 75 I (nI i)) 76 I (nI e)) 77 I idx) 74 I (nI k)) 78 I (nI E)) 79 I (nI len)) 88 I (-1)
section NEWINST
variable {C C' : PC} {D D' D2 : FQ} {M M' M1 M2 : CM} {σ σ' σ0 σ2 : TS} {mss fss xs bs qs os : List Nat} {B l k n o m u w Q I I' L V V' Bm Bm' b v r R R' E E' cr i i' k0 fr e eo fl z env kk tf cb d len : Nat} {P P' X T : Nat → Prop} {S S' : List Nat} {a : Nat × Nat × Nat} {A W W1 W2 : List (Nat × Nat × Nat)} {ks : List (Nat × Nat)} {x : Int64} {idx : Int32}
theorem niT_f : Ft [74, 75, 76, 77, 78, 79, 82, 88] σ (niT σ I i e k E len idx) := (((((((Ft.rf _ σ).p_tsI rfl).p_tsA rfl).p_tsA rfl).p_tsA rfl).p_tsA rfl).p_tsA rfl).p_tsA rfl |>.p_tsA rfl
theorem niT_v : (tI (niT σ I i e k E len idx) 82 = nI (I + 1) ∧ tA (niT σ I i e k E len idx) 75 I = nI i ∧ tA (niT σ I i e k E len idx) 76 I = nI e ∧ tA (niT σ I i e k E len idx) 77 I = idx ∧ tA (niT σ I i e k E len idx) 74 I = nI k ∧ tA (niT σ I i e k E len idx) 78 I = nI E ∧ tA (niT σ I i e k E len idx) 79 I = nI len ∧ tA (niT σ I i e k E len idx) 88 I = -1) ∧ ∀ f, f ∈ [74, 75, 76, 77, 78, 79, 88] → ∀ j, j ≠ I → tA (niT σ I i e k E len idx) f j = tA σ f j := by
  unfold niT
  refine ⟨⟨rfl, ?_, ?_, ?_, ?_, ?_, ?_, ?_⟩, fun f hf j hj => ?_⟩
  all_goals simp [tA_tsA, tA_tsI]
  simp only [List.mem_cons, List.not_mem_nil, or_false] at hf
  rcases hf with rfl | rfl | rfl | rfl | rfl | rfl | rfl <;> simp [hj]
theorem t_newInst (h82 : tI σ 82 = nI I) (hI : I < 200) (h93 : tI σ 93 = nI (E + len)) (hl : E + len < 100000) : F_newInstance (nI i) (nI e) idx (nI k) (nI E) σ = some (nI I, niT σ I i e k E len idx) := by
  have ii : inb (nI I) 200 := inb_nI' hI (by decide)
  have xi : ix (nI I) = I := ix_nI (by omega)
  unfold F_newInstance
  rw [h82, ifF (show ¬ nI I = 200 from by rw [show (200 : Int32) = nI 200 from rfl, bI_eq (by omega) (by decide)]; omega), nm_eq, nI_addL, nm_eq, ifT ii, nm_eq, ifT ii, nm_eq, ifT ii, nm_eq, ifT ii, nm_eq, ifT ii, nm_eq, ifT ii, xi]
  rw [show tI (tsA (tsA (tsA (tsA (tsA (tsI σ 82 (nI (I + 1))) 75 I (nI i)) 76 I (nI e)) 77 I idx) 74 I (nI k)) 78 I (nI E)) 93 = nI (E + len) from h93, nI_sub (by omega), nm_eq, ifT ii, nm_eq, show E + len - E = len by omega]
  rfl
theorem VrR.up {zf : Nat} (h : VrR zf C P D M σ I v) (hI : I ≤ I') (hl : I ≤ (pl D 99).length) (hnf : cnf C ≤ 12) : VrR zf C P D M σ I' v := by
  obtain ⟨⟨n, e, w, ⟨a1, a2⟩, a3⟩, b, c, d, f, g1, g2, g3⟩ := h
  exact ⟨⟨n, e, w, ⟨by omega, a2⟩, a3⟩, b, c, d, f, g1.mv (Wz.rf hnf) (fun _ z => z) (Dx.rf D M) hl hI, g2.mv (Wz.rf hnf) (fun _ z => z) (Dx.rf D M) hl hI, g3⟩
/-- an instance more, both sides -/
theorem z_newInst {idx : Nat} (F : FiS C B P mss fss D M σ V I Bm cr R (E + len)) (hi : i < I) (hI : I < 200) (hb : b < Bm ∧ tA σ 83 b = nI i ∧ tA σ 84 b = nI e) (hk : k < mss.length) (hidx : idx ≤ 9) (hE : E + len < 100000) (hA : ∀ n', n' < I → tA σ 75 n' = nI i → tA σ 76 n' = nI e → ∃ x', x' < idx ∧ tA σ 77 n' = nI x') (hT : ∀ c, c < Bm → tA σ 83 c = nI i → c ≤ b) (hX : EXr σ e idx) :
    ∃ D' M', K_X0_newInst ((pl D 99).getD i 0) (mss.getD k 0) (mI M 3000 ((pl D 100).getD b 0)) (nI idx) M = some (.inl ((pl D' 99).getD I 0), M') ∧ F_newInstance (nI i) (nI e) (nI idx) (nI k) (nI E) σ = some (nI I, niT σ I i e k E len (nI idx)) ∧ FiS C B P mss fss D' M' (niT σ I i e k E len (nI idx)) V (I + 1) Bm cr R (E + len) ∧ Wz C C P M M' σ (niT σ I i e k E len (nI idx)) ∧ Dx D D' M ∧ (∀ r, r < R → RwS D M D' M' r ∧ hit D' M' r = hit D M r) ∧ Fq D (fun t => t = 1 ∨ t = 99 ∨ t = tg 99 I ∨ t = tg 201 I ∨ t = tg 202 I) M M' ∧ O1 [16] M M' ∧ mI M' 2600 ((pl D' 99).getD I 0) = nI I := by
  have W := F.1
  have h167 := W.n167
  have hm := W.rm
  obtain ⟨⟨l1, l2, l3, l4⟩, l98, l99, l100, l101⟩ := F.lens
  have s16 := F.2.2.1.2.1
  obtain ⟨D', M', a1, a2, a3, a4, a5, a6, a7, a8, ⟨⟨b1, b2, b3, b4, b5⟩, b6⟩, a9⟩ := k_newInst W.2.1 h167 s16.1 l99 hI W.rN W.rS ((pl D 99).getD i 0) (mss.getD k 0) (mI M 3000 ((pl D 100).getD b 0)) (nI idx)
  obtain ⟨vv, vo⟩ := niT_v (σ := σ) (I := I) (i := i) (e := e) (k := k) (E := E) (len := len) (idx := nI idx)
  have ff := niT_f (σ := σ) (I := I) (i := i) (e := e) (k := k) (E := E) (len := len) (idx := nI idx)
  obtain ⟨W', v⟩ := W.mv (a6.mono (fun t y => by unfold TFf tg at *; omega)) a7 (by decide) a2 a4 a9 ff (by decide)
  have hnf : cnf C ≤ 12 := by have := F.1.1.2.2.2.2.1; omega
  have tk : Tk σ (niT σ I i e k E len (nI idx)) V I Bm := ⟨fun f hf n hn => vo f (by simp only [List.mem_cons, List.not_mem_nil, or_false] at hf ⊢; omega) n (by omega), fun f hf n hn => by
    simp only [List.mem_cons, List.not_mem_nil, or_false] at hf
    rcases hf with rfl | rfl | rfl <;> exact (ff _ rfl).2.2.1 n, fun f hf n hn => by
    simp only [List.mem_cons, List.not_mem_nil, or_false] at hf
    rcases hf with rfl | rfl | rfl | rfl | rfl | rfl | rfl | rfl | rfl | rfl <;> exact (ff _ rfl).2.2.1 n⟩
  have N := F.2.1.kp W.2.1 a6 (fun t y => by
    refine ⟨fun v hv => ?_, fun n hn => ?_, fun b hb => ?_⟩ <;> unfold tg at * <;> omega) v a4 tk
  have e99 : ∀ n, n < I → (pl D' 99).getD n 0 = (pl D 99).getD n 0 := fun n hn => (a4.1 99 n (by omega)).2
  have e100 : ∀ n, n < Bm → (pl D' 100).getD n 0 = (pl D 100).getD n 0 := fun n hn => (a4.1 100 n (by omega)).2
  have sb : So M M' ((pl D 100).getD b 0) := W.2.1.so3 (by decide) (by omega) a6 (fun z => by unfold tg at z; omega)
  have new : InR C P D' mss M' (niT σ I i e k E len (nI idx)) Bm I := by
    refine ⟨b1, Or.inr ⟨by omega, i, b, e, ⟨hi, by rw [b2, e99 i hi], vv.2.1⟩, ⟨hb.1, by rw [(ff 83 rfl).2.2.1]; exact hb.2.1, by rw [(ff 84 rfl).2.2.1]; exact hb.2.2, vv.2.2.1, by rw [b4, e100 b hb.1, sb.i]⟩, idx, ⟨hidx, by
      obtain ⟨⟨u1, z, u2, u3⟩, u4, u5⟩ := hX
      exact ⟨⟨by rw [(ff 58 rfl).1]; exact u1, z, by rw [(ff 53 rfl).2.2.1]; exact u2, u3⟩, by rw [(ff 51 rfl).2.2.2]; exact u4, by rw [(ff 52 rfl).2.2.1]; exact u5⟩⟩, b5, vv.2.2.2.1, fun n' h1 h2 => by
      rw [vo 75 (by decide) n' (by omega)] at h2
      rw [vo 76 (by decide) n' (by omega), vo 77 (by decide) n' (by omega)]
      refine ⟨hA n' h1 h2, ?_⟩
      obtain ⟨-, q | ⟨-, p, b', e', ⟨r1, r2, r3⟩, ⟨r4, r5, r6, r7, r8⟩, -⟩, -⟩ := F.2.1.2.1 n' h1
      · rw [q.2.2] at h2
        exact absurd h2 (by
          intro z
          have := congrArg Int32.toInt z
          rw [bI_toInt (show i < 2147483648 by omega)] at this
          have e1 : Int32.toInt (-1) = -1 := by decide
          rw [e1] at this
          omega)
      · rw [r3] at h2
        have ep := (bI_eq (a := p) (b := i) (by omega) (by omega)).mp h2
        rw [ep] at r5
        exact ⟨b', hT b' r4 r5, by rw [(ff 83 rfl).2.2.1]; exact r5, by rw [(ff 84 rfl).2.2.1, r6, r7]⟩⟩, ⟨k, hk, b3, vv.2.2.2.2.1⟩, [], b6, fun b hb => absurd hb List.not_mem_nil, vv.2.2.2.2.2.2.2, fun b c hb => absurd hb List.not_mem_nil, fun c hc z => ?_, List.Pairwise.nil⟩
    obtain ⟨n, e', eo', w', ⟨q1, q2, q3⟩, -⟩ := F.2.1.2.2.1 c hc
    rw [(ff 83 rfl).2.2.1, q3] at z
    have := (bI_eq (a := n) (b := I) (by omega) (by omega)).mp z
    omega
  have N2 : FIn C P D' mss M' (niT σ I i e k E len (nI idx)) V (I + 1) Bm := ⟨⟨N.1.1, by omega, N.1.2.2⟩, fun n hn => by
    rcases Nat.lt_succ_iff_lt_or_eq.mp hn with q | q
    · exact N.2.1 n q
    · rw [q]; exact new, fun b hb => by
    obtain ⟨n, e, eo, w, ⟨q1, q2⟩, q3⟩ := N.2.2.1 b hb
    exact ⟨n, e, eo, w, ⟨by omega, q2⟩, q3⟩, fun v hv => (N.2.2.2 v hv).up (Nat.le_succ I) (by omega) hnf⟩
  obtain ⟨-, -, ⟨⟨u1, u2, u3⟩, ⟨u4, u5, u6⟩, u7, u8⟩, ⟨g, g1, g2, g3, g4⟩, ⟨r1, r2⟩, ⟨x1, x2⟩, os, o1, o2, o3, o4⟩ := F
  have mp : (os.map fun b => (pl D' 100).getD b 0) = os.map fun b => (pl D 100).getD b 0 := List.map_congr_left (fun b hb => e100 b (o4 b hb).1)
  have L102 : pl D' 102 = pl D 102 := a5 102 (by decide)
  refine ⟨D', M', a1, t_newInst u5 hI x1 hE, ⟨W', N2, ⟨⟨by rw [a7.1 15 rfl]; exact u1, by rw [(ff 107 rfl).1]; exact u2, u3⟩, ⟨a8, vv.1, by omega⟩, by rw [a7.1 17 rfl]; exact u7, by rw [(ff 89 rfl).1]; exact u8⟩, ⟨g, by rw [a7.1 31 rfl]; exact g1, by rw [(ff 132 rfl).1]; exact g2, g3, g4⟩, ⟨by rw [a7.1 18 rfl]; exact r1, by rw [a5 101 (by decide)]; exact r2⟩, ⟨by rw [(ff 93 rfl).1]; exact x1, by rw [(ff 0 rfl).1]; exact x2⟩, os, ?_, ?_, o3, fun b hb => ⟨(o4 b hb).1, (o4 b hb).2.mv ((ff 84 rfl).2.2.1 b) (ff 52 rfl).2.2.1⟩⟩, v, a4, fun r hr => RwS.fq W.2.1 (by omega) a4 a6 (fun y => by unfold tg at y; omega), a6, a7, b1⟩
  · rw [mp, ← o2, ← L102]
    exact (W'.2.1.1 102 (by decide)).1
  · rw [mp, L102]; exact o2
end NEWINST
