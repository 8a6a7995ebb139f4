/-! Layer B: the flat model: an outer member is noted -/
set_option maxRecDepth 100000
section OUTER2
variable {C C' : PC} {D D' D2 : FQ} {M M' M1 M2 : CM} {σ σ' σ0 σ1 σ2 σ4 : TS} {mss fss xs bs qs : List Nat} {B l k n o m u w Q I I' L V V' Bm Bm' b v r R R' R2 E E' cr i i' k0 fr e eo fl z env kk tf cb d len to : Nat} {P P' X T : Nat → Prop} {S S' O : List Nat}
theorem z_outer (F : FiS C B P mss fss D M σ V I (b + 1) cr R E) (h : ∃ os : List Nat, pl D 102 = (os.map fun b => (pl D 100).getD b 0) ∧ os.Pairwise (· < ·) ∧ ∀ c, c ∈ os → c < b ∧ outT σ c) (ho : outT σ b) : ∃ D' M', K_J2_add 102 ((pl D 100).getD b 0) M = some (1, M') ∧ FiS C B P mss fss D' M' σ V I (b + 1) cr R E ∧ Wz C C P M M' σ σ ∧ Dx D D' M ∧ (∀ r, r < R → RwS D M D' M' r ∧ hit D' M' r = hit D M r) ∧ Fq D (fun t => t = 102) M M' ∧ O1 [] M M' ∧ (pl D 100).getD b 0 ∈ pl D' 102 := by
  have W := F.1
  have h167 := W.n167
  have hm := W.rm
  obtain ⟨⟨l1, l2, l3, l4⟩, l98, l99, l100, l101⟩ := F.lens
  obtain ⟨os, p1, p2, p3⟩ := h
  obtain ⟨k1, k2, k3⟩ := W.2.1.2.1 100 (by decide) b (by omega)
  have k1 : mk M ((pl D 100).getD b 0) = 16 := k1
  have len : os.length ≤ b := pig b os (p2.imp (fun {a c} h => by omega)) (fun x hx => (p3 x hx).1)
  obtain ⟨D', M', a1, a2, a3, a4, a5, a6, a7⟩ := row_add (l := 102) (x := (pl D 100).getD b 0) W.2.1 h167 (Or.inl rfl) (by rw [p1, List.length_map]; show os.length < 20000; omega) (Or.inl ⟨k2.2, by rw [k1]; decide, by rw [k1]; decide⟩) W.rN W.rS
  have fq : Fq D (fun t => t = 102) M M' := a6.mono (fun o ho y => by
    rcases y with y | y
    · rw [y, tgo_s (by decide)]
    · exact (W.2.1.1 102 (by decide)).2.1.tg (by omega) ho y)
  have s1 : So M M' 1 := Fz.so fq (by omega) (fun z => by rw [tgo_s (by decide)] at z; exact absurd z (by decide))
  obtain ⟨W', v⟩ := W.mv (fq.mono (fun t y => by unfold TFf; omega)) (O1.so (S := []) s1) (by decide) a2 a5 a7 (Ft.rf [] σ) (by decide)
  have N := F.2.1.kp W.2.1 fq (fun t y => by
    rw [y]
    refine ⟨fun v hv => ?_, fun n hn => ?_, fun b hb => ?_⟩ <;> unfold tg <;> omega) v a5 Tk.rf
  obtain ⟨-, -, ⟨⟨u1, u2, u3⟩, ⟨u4, u5, u6⟩, u7, u8⟩, ⟨g, g1, g2, g3, g4⟩, ⟨r1, r2⟩, x, -⟩ := F
  have e100 : pl D' 100 = pl D 100 := a4 100 (by decide)
  have e102 : pl D' 102 = ((os ++ [b]).map fun b => (pl D' 100).getD b 0) := by rw [a3, p1, e100, List.map_append]; rfl
  refine ⟨D', M', a1, ⟨W', N, ⟨⟨by rw [s1.i]; exact u1, u2, u3⟩, ⟨by rw [s1.i]; exact u4, u5, u6⟩, by rw [s1.i]; exact u7, u8⟩, ⟨g, by rw [s1.i]; exact g1, g2, g3, g4⟩, ⟨by rw [s1.i]; exact r1, by rw [a4 101 (by decide)]; exact r2⟩, x, os ++ [b], by rw [← e102]; exact (a2.1 102 (by decide)).1, e102, ?_, fun c hc => ?_⟩, v, a5, fun r hr => RwS.fq W.2.1 (by omega) a5 fq (fun y => by unfold tg at y; omega), fq, O1.so s1, by rw [a3]; exact List.mem_append_right _ List.mem_cons_self⟩
  · refine List.pairwise_append.mpr ⟨p2, List.pairwise_singleton _ _, fun a ha c hc => ?_⟩
    rw [List.mem_singleton.mp hc]; exact (p3 a ha).1
  · rcases List.mem_append.mp hc with q | q
    · exact ⟨Nat.lt_succ_of_lt (p3 c q).1, (p3 c q).2⟩
    · rw [List.mem_singleton.mp q]; exact ⟨Nat.lt_succ_self b, ho⟩
end OUTER2
