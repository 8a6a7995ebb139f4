/-! Layer B: a class is read -/
set_option maxRecDepth 100000
section ZCLASS
variable {C C' : PC} {T P P' X : Nat → Prop} {Mt Mb M M' M1 M2 M7 : CM} {σt σ σ' σ1 σ2 σ7 σb : TS} {i i' dep c s n w l cc v E0 : Nat} {mss ns cs xs : List Nat} {x1 : Int32}
theorem Ft.sy {S : List Nat} (f : Ft S σ σ') : Ft S σ' σ := fun k hk => ⟨(f k hk).1.symm, (f k hk).2.1.symm, fun i => ((f k hk).2.2.1 i).symm, fun i => ((f k hk).2.2.2 i).symm⟩
/-- the twin's entry of a new class -/
def clT (σ : TS) (cc : Nat) (n : Int64) (x1 : Int32) : TS := tsI (tsI (tsA (tsA (tsA (tsA (tsB σ 41 cc n) 44 cc x1) 45 cc (tI σ 58)) 46 cc 0) 47 cc 0) 73 0) 49 (nI (cc + 1))
theorem clT_v (σ : TS) (cc : Nat) (n : Int64) (x1 : Int32) : Ft [41, 44, 45, 46, 47, 73, 49] σ (clT σ cc n x1) ∧ (tB (clT σ cc n x1) 41 cc = n ∧ tA (clT σ cc n x1) 44 cc = x1 ∧ tA (clT σ cc n x1) 45 cc = tI σ 58 ∧ tA (clT σ cc n x1) 46 cc = 0 ∧ tA (clT σ cc n x1) 47 cc = 0 ∧ tI (clT σ cc n x1) 73 = 0 ∧ tI (clT σ cc n x1) 49 = nI (cc + 1)) ∧ ∀ k, k ≠ cc → (∀ f, tA (clT σ cc n x1) f k = tA σ f k) ∧ tB (clT σ cc n x1) 41 k = tB σ 41 k := by
  have hA : ∀ f k, tA (clT σ cc n x1) f k = tA (tsA (tsA (tsA (tsA (tsB σ 41 cc n) 44 cc x1) 45 cc (tI σ 58)) 46 cc 0) 47 cc 0) f k := fun _ _ => rfl
  have hB : ∀ f k, tB (clT σ cc n x1) f k = tB (tsB σ 41 cc n) f k := fun _ _ => rfl
  refine ⟨((((((((Ft.rf [41, 44, 45, 46, 47, 73, 49] σ).p_tsB rfl).p_tsA rfl).p_tsA rfl).p_tsA rfl).p_tsA rfl).p_tsI rfl).p_tsI rfl), ⟨?_, ?_, ?_, ?_, ?_, rfl, rfl⟩, fun k hk => ⟨fun f => ?_, ?_⟩⟩
  · rw [hB, tB_tsB, ifT ⟨rfl, rfl⟩]
  · rw [hA, tA_tsA, ifF (by omega), tA_tsA, ifF (by omega), tA_tsA, ifF (by omega), tA_tsA, ifT ⟨rfl, rfl⟩]
  · rw [hA, tA_tsA, ifF (by omega), tA_tsA, ifF (by omega), tA_tsA, ifT ⟨rfl, rfl⟩]
  · rw [hA, tA_tsA, ifF (by omega), tA_tsA, ifT ⟨rfl, rfl⟩]
  · rw [hA, tA_tsA, ifT ⟨rfl, rfl⟩]
  · rw [hA, tA_tsA, ifF (by omega), tA_tsA, ifF (by omega), tA_tsA, ifF (by omega), tA_tsA, ifF (by omega)]
    rfl
  · rw [hB, tB_tsB, ifF (by omega)]
/-- the twin's entry of a class is none of the reader's -/
theorem Pe.clt (P : Pe C M σ i dep c s n) (f : Ft [41, 44, 45, 46, 47, 73, 49] σ σ') : Pe C M σ' i dep c s n := by
  obtain ⟨a1, a2, a3, a4, N, Q, ⟨a8, a9, a10⟩, a11, a12, a13⟩ := P
  refine ⟨a1.go (X := none_) Fz.rf (fun o z => absurd z (fun q => q)) rfl a1.2.2.1.2.1 a1.2.2.1.2.2 (a1.2.2.2.1.1.kp f rfl rfl) (a1.2.2.2.1.2.1.kp f rfl rfl) (by rw [(f 0 rfl).1]; exact a1.2.2.2.1.2.2.1) (by rw [(f 18 rfl).1]; exact a1.2.2.2.1.2.2.2) ?_ ?_, a2.fz (X := none_) Fz.rf (fun o z => absurd z (fun q => q)) rfl (fun w _ => rfl) f (by decide), ⟨a3.1, by rw [(f 20 rfl).1]; exact a3.2.1, a3.2.2⟩, a4, N, Q, ⟨by rw [(f 28 rfl).1]; exact a8, a9, a10⟩, by rw [(f 34 rfl).1]; exact a11, a12, a13⟩
  · obtain ⟨kd, s, b1, b2⟩ := a1.2.2.2.2.1
    refine ⟨kd, s, by rw [(f 11 rfl).1, (f 12 rfl).1]; exact b1, ?_⟩
    rw [(f 14 rfl).1, (f 15 rfl).1, (f 17 rfl).1, (f 16 rfl).2.1]; exact b2
  · rw [(f 10 rfl).1]; exact a1.2.2.2.2.2
theorem Tc.w47 {u : Int32} : Tc cc σ (tsA σ 47 cc u) := by
  have f : Ft [47] σ (tsA σ 47 cc u) := (Ft.rf _ σ).p_tsA rfl
  refine ⟨⟨(Qz.ft f (by decide)).b, Mz.ft f (by decide), Ez.ft f (by decide)⟩, fun k hk => ⟨fun g hg => ?_, rfl⟩, fun k => ⟨fun g hg => ?_, rfl⟩⟩
  · rcases hg with rfl | rfl | rfl | rfl <;> rw [tA_tsA, ifF (by omega)]
  · rcases hg with rfl | rfl <;> rw [tA_tsA, ifF (by omega)]
theorem t_class53 (h0 : tI σ 0 = 0) (h49 : tI σ 49 = nI cc) (hcc : cc < 24) (n : Int64) (x1 : Int32) : J_readClass_53 x1 n σ = ob (L_readClass_125 FU x1 (nI cc) (clT σ cc n x1)) fun _ s60 => J_readClass_165 (nI cc) s60 := by
  have hin : inb (nI cc) 24 := inb_nI' hcc (by decide)
  have hix : ix (nI cc) = cc := ix_nI (by omega)
  unfold J_readClass_53
  rw [t_isBad0 h0, ob_some, ifT (rfl : (0 : Int32) = 0), nm_eq, h49]
  simp only [ifT hin, hix, nm_eq]
  rw [show tI (tsI (tsA (tsA (tsA (tsA (tsB σ 41 cc n) 44 cc x1) 45 cc (tI (tsA (tsB σ 41 cc n) 44 cc x1) 58)) 46 cc 0) 47 cc 0) 73 0) 49 = nI cc from h49, nI_addL]
  rfl
theorem t_class53b (h0 : tI σ 0 ≠ 0) (n : Int64) (x1 : Int32) : J_readClass_53 x1 n σ = some ((), σ) := by
  unfold J_readClass_53
  rw [t_isBad1 h0, ob_some, ifF (show ¬ (1 : Int32) = 0 from by decide)]
theorem t_class165b (h0 : tI σ 0 ≠ 0) (x : Int32) : J_readClass_165 x σ = some ((), σ) := by
  have hb : F_isBad σ = some (1, σ) := t_isBad1 h0
  have h1 : F_passWord 6647396 σ = some ((), σ) := by
    unfold F_passWord
    rw [hb, ob_some, ifF (show ¬ (1 : Int32) = 0 from by decide)]
  have h2 : F_pass 59 σ = some ((), σ) := by
    unfold F_pass
    rw [hb, ob_some, ifF (show ¬ (1 : Int32) = 0 from by decide)]
  unfold J_readClass_165
  rw [hb, ob_some, ifF (show ¬ (1 : Int32) = 0 from by decide), h1, ob_some, h2, ob_some]
theorem t_endb (h0 : tI σ 0 ≠ 0) : (ob (F_passWord 6647396 σ) fun _ s78 => ob (F_pass 59 s78) fun _ s82 => some ((), s82)) = some ((), σ) := by
  have hb : F_isBad σ = some (1, σ) := t_isBad1 h0
  have h1 : F_passWord 6647396 σ = some ((), σ) := by
    unfold F_passWord
    rw [hb, ob_some, ifF (show ¬ (1 : Int32) = 0 from by decide)]
  have h2 : F_pass 59 σ = some ((), σ) := by
    unfold F_pass
    rw [hb, ob_some, ifF (show ¬ (1 : Int32) = 0 from by decide)]
  rw [h1, ob_some, h2, ob_some]
/-- memory with fewer objects -/
def mlo (M : CM) (k : Nat) : CM := (M.1, M.2.1, M.2.2.1, M.2.2.2.1, M.2.2.2.2.1, M.2.2.2.2.2.1, M.2.2.2.2.2.2.1, k, M.2.2.2.2.2.2.2.2)
theorem mlo_fz {k : Nat} (F : Fz X M M') (h1 : mn M ≤ k) (h2 : k ≤ mn M') : Fz X M (mlo M' k) := ⟨h1, fun o ho => F.2.1 o ho, fun o ho hx => F.2.2 o ho hx⟩
theorem mlo_ek {k : Nat} (hk : k ≤ mn M) : Ek (mlo M k) M := ⟨⟨hk, fun _ _ => ⟨rfl, rfl⟩, fun o _ _ => ⟨⟨rfl, rfl⟩, fun _ => rfl, fun _ => rfl, fun _ => rfl, fun _ => rfl, fun _ => rfl⟩⟩, Or.inl rfl, fun _ => rfl, fun _ _ => ⟨fun _ => rfl, fun _ _ => rfl⟩⟩
/-- both readers, in a memory with fewer objects: those of a base -/
theorem mlo_pe {ib depb cb' sb' nb' : Nat} (Pb : Pe C Mb σb ib depb cb' sb' nb') (E : Es Mb σb M σ) (P0 : PE C M σ i dep c s n) {k : Nat} (hk : mn Mb ≤ k ∧ k ≤ mn M) (hcur : mR M 411 90 < k) : PE C (mlo M k) σ i dep c s n := by
  have h167 := Pb.n167
  have F : Fz (fun o => o = 90) Mb (mlo M k) := ⟨hk.1, fun o ho => E.1.2.1 o ho, fun o ho hx => E.1.2.2 o ho hx⟩
  obtain ⟨⟨a1, a2, a3, ⟨a4, a5, a6⟩, a8⟩, ⟨⟨m1, m2⟩, m3⟩, m4⟩ := P0
  obtain ⟨⟨p1, ⟨L, w1, w2, w3, w4, w5, w6, w7, w8, w9⟩, p3, p4⟩, p5⟩ := a1
  obtain ⟨L', W', _⟩ := Pb.wb
  have hnm : mR M 201 4 = mR Mb 201 4 := (E.1.so (by omega) (by decide)).r 201
  have hlt : mR M 201 4 < k := by rw [hnm]; have := W'.2.2.2.2.2.2.2.1; omega
  have hm : mn (mlo M k) = k := rfl
  have hs : ms (mlo M k) = ms M := rfl
  refine ⟨⟨⟨⟨p1, ⟨L, w1, w2, w3, w4, w5, w6, w7, hlt, w9⟩, p3, by omega⟩, p5⟩, ?_, a3, ⟨by rw [hm]; omega, a5, a6⟩, a8⟩, ⟨⟨m1, m2⟩, hcur⟩, m4⟩
  have := Pb.en.fz (σ' := σ) F (fun o z => by rw [z]; exact Pb.en.1) (E.2.1 408) (fun w _ => Pb.wcs F (fun o z => by rw [z]; exact Pb.en.1) w) E.2.2.2.2 (by decide)
  exact this
end ZCLASS
