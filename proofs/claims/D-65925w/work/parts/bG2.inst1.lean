/-! Layer B: the flat model: instances of an element: the twin's step -/
set_option maxRecDepth 100000
section INST1
variable {C C' : PC} {D D' D2 : FQ} {M M' M1 M2 : CM} {σ σ' σ0 σ2 : TS} {mss fss xs bs qs os : List Nat} {B l k n o m u w Q I I' L V V' Bm Bm' b v r R R' E E' cr i i' k0 fr e eo fl z env kk tf cb d len to : Nat} {P P' X T : Nat → Prop} {S S' : List Nat} {a : Nat × Nat × Nat} {A W W1 W2 : List (Nat × Nat × Nat)} {ks : List (Nat × Nat)} {x : Int64} {cf' : Int32 → Int32 → Int32 → TS → Option (Unit × TS)}
theorem t_istep {f j : Nat} (h : CvT σ E i tf cb W ks) (hx : tB σ 50 e = x) (h0 : tI σ 0 = 0) (h93 : tI σ 93 = nI E) (hA : A = adv σ x (W ++ wcE i ks)) (hM : MxT σ e k0 n) (he : e < 481) (hj : j < m) (hm : m ≤ 9) (hd : d ≤ 12) (hE : E + (A ++ msE k0 n i).length ≤ 40000) :
    ∃ σ2, PutS σ E (A ++ msE k0 n i) σ2 ∧ L_makeMember_240 cf' (f + 1) (nI i) (nI e) (nI d) (nI b) 0 (nI m) (nI k) (nI j) σ = (if d < 12 then J_makeMember_464_240 cf' (L_makeMember_240 cf' f) (nI i) (nI e) (nI d) (nI b) 0 (nI m) (nI k) (nI j) (nI E) σ2 else some (.inr (), badT σ2 23)) := by
  obtain ⟨σ1, g1, g2⟩ := t_envs (cf := cf') (x3 := nI d) (x4 := nI b) (x5 := 0) (x6 := nI m) (x7 := nI k) (x8 := nI j) h he hx h93
  rw [← hA] at g2
  have fu := FUb
  obtain ⟨⟨a1, a2, a3, a4⟩, -, -, -, h5⟩ := h
  rw [List.length_append, msE_len] at hE
  obtain ⟨σ2, g3, g4⟩ := t_own (cf := cf') (x2 := nI e) (x3 := nI d) (x4 := nI b) (x5 := 0) (x6 := nI m) (x7 := nI k) (x8 := nI j) (x9 := nI E) hM.1 a1 n 0 FU σ1 A (by omega) (by have := hM.1.1; omega) g2 (by omega)
  rw [Nat.add_zero] at g4
  refine ⟨σ2, g4, ?_⟩
  have inI : inb (nI i) 200 := inb_nI' a1 (by decide)
  have inE : inb (nI e) 481 := inb_nI' he (by decide)
  have e55 : tA σ1 55 e = ptr k0 n 0 := by rw [(g2.1 55 rfl).2.2.1]; exact hM.2.1
  rw [L_makeMember_240, ifF (fun q => by have := (bI_le (by omega) (by omega)).mp q; omega), t_isBad0 h0, ob_some, ifT (rfl : (0 : Int32) = 0), nm_eq, h93, ifT inI, ifT inI, ifT inE]
  rw [g1 _ (fun s78 => if (0 : Int32) = 0 then if inb (nI e) 481 then nm (tA s78 55 (ix (nI e))) fun v81 => ob (L_makeMember_406 cf' FU (nI i) (nI e) (nI d) (nI b) 0 (nI m) (nI k) (nI j) (nI E) v81 s78) fun q99 s100 => if nI d < 12 then J_makeMember_464_240 cf' (L_makeMember_240 cf' f) (nI i) (nI e) (nI d) (nI b) 0 (nI m) (nI k) (nI j) (nI E) s100 else ob (F_bad 23 0 s100) fun r143 s142 => J_makeMember_464_240 cf' (L_makeMember_240 cf' f) (nI i) (nI e) (nI d) (nI b) 0 (nI m) (nI k) (nI j) (nI E) s142 else none else ob (F_makeVariable (nI i) (nI e) (nI j) (nI E) s78) fun r149 s148 => nm ((nI j) + 1) fun v152 => L_makeMember_240 cf' f (nI i) (nI e) (nI d) (nI b) 0 (nI m) (nI k) v152 s148)]
  rw [ifT (rfl : (0 : Int32) = 0), ifT inE, ix_nI (by omega), e55, nm_eq, g3, ob_some]
  by_cases q : d < 12
  · rw [ifT q, ifT (show nI d < 12 from by rw [show (12 : Int32) = nI 12 from rfl, bI_lt (by omega) (by decide)]; exact q)]
  · have h02 : tI σ2 0 = 0 := by rw [(g4.1 0 rfl).1]; exact h0
    rw [ifF q, ifF (show ¬ nI d < 12 from by rw [show (12 : Int32) = nI 12 from rfl, bI_lt (by omega) (by decide)]; exact q), t_badT h02, ob_some]
    unfold J_makeMember_464_240
    rw [t_isBad1 (badT_ne (by decide)), ob_some, ifF (show ¬ (1 : Int32) = 0 by decide)]
/-- the rest of the step once there's an instance -/
theorem t_jstep {j : Nat} {rec : Int32 → Int32 → Int32 → Int32 → Int32 → Int32 → Int32 → Int32 → TS → Option ((Unit ⊕ Unit) × TS)} (h0 : tI σ2 0 = 0) (he : e < 481) (hz : tA σ2 53 e = nI z ∧ z ≤ 9) (hb : b < 96001) (hj : j < 9) :
    J_makeMember_464_240 cf' rec (nI i) (nI e) (nI d) (nI b) 0 (nI m) (nI k) (nI j) (nI E) σ2 = ob (F_newInstance (nI i) (nI e) (nI (if z = 0 then 0 else j + 1)) (nI k) (nI E) σ2) fun r s => J_makeMember_515_240 cf' rec (nI i) (nI e) (nI d) (nI b) 0 (nI m) (nI k) (nI j) (nI E) r (if j = 0 then tsA s 85 b r else s) := by
  have inE : inb (nI e) 481 := inb_nI' he (by decide)
  have inB : inb (nI b) 96001 := inb_nI' hb (by decide)
  have j492 : ∀ y : Int32, J_makeMember_492_240 cf' rec (nI i) (nI e) (nI d) (nI b) 0 (nI m) (nI k) (nI j) (nI E) (nI i) (nI e) y σ2 = ob (F_newInstance (nI i) (nI e) y (nI k) (nI E) σ2) fun r s => J_makeMember_515_240 cf' rec (nI i) (nI e) (nI d) (nI b) 0 (nI m) (nI k) (nI j) (nI E) r (if j = 0 then tsA s 85 b r else s) := fun y => by
    unfold J_makeMember_492_240
    congr 1
    funext r s
    by_cases q : j = 0
    · rw [ifT (show nI j = 0 from by rw [q]; rfl), ifT inB, nm_eq, ix_nI (by omega), ifT q]
    · rw [ifF (show ¬ nI j = 0 from fun y => q ((bI_eq (b := 0) (by omega) (by decide)).mp y)), ifF q]
  unfold J_makeMember_464_240
  rw [t_isBad0 h0, ob_some, ifT (rfl : (0 : Int32) = 0), ifT inE, ix_nI (by omega), hz.1]
  by_cases q : z = 0
  · rw [ifT (show nI z = 0 from by rw [q]; rfl), ifT q, j492]; rfl
  · rw [ifF (show ¬ nI z = 0 from fun y => q ((bI_eq (b := 0) (by omega) (by decide)).mp y)), ifF q, nI_addL, j492]
/-- what the twin does with a new instance -/
theorem t_kstep {j : Nat} {rec : Int32 → Int32 → Int32 → Int32 → Int32 → Int32 → Int32 → Int32 → TS → Option ((Unit ⊕ Unit) × TS)} {s3 s4 : TS} (h0 : tI s3 0 = 0) (hI : I < 200) (h113 : tI s3 113 = nI cb) (hf : cf' (nI I) (nI k) (nI (d + 1)) (tsI s3 113 (tI s3 114)) = some ((), s4)) (h79 : tI s4 0 = 0 → tA s4 79 I = nI len) (hj : j < 9) :
    J_makeMember_515_240 cf' rec (nI i) (nI e) (nI d) (nI b) 0 (nI m) (nI k) (nI j) (nI E) (nI I) s3 = if tI s4 0 = 0 then ob (F_leads (nI E) (nI len) (nI k) (tsI s4 113 (nI cb))) fun _ s129 => rec (nI i) (nI e) (nI d) (nI b) 0 (nI m) (nI k) (nI (j + 1)) (tsI s129 93 (nI E)) else rec (nI i) (nI e) (nI d) (nI b) 0 (nI m) (nI k) (nI (j + 1)) (tsI (tsI s4 113 (nI cb)) 93 (nI E)) := by
  have inI : inb (nI I) 200 := inb_nI' hI (by decide)
  unfold J_makeMember_515_240
  rw [t_isBad0 h0, ob_some, ifT (rfl : (0 : Int32) = 0), nm_eq, h113, nm_eq, nI_addL, hf, ob_some, nm_eq]
  by_cases q : tI s4 0 = 0
  · have q2 : tI (tsI s4 113 (nI cb)) 0 = 0 := q
    rw [t_isBad0 q2, ob_some, ifT (rfl : (0 : Int32) = 0), ifT inI, ix_nI (by omega), show tA (tsI s4 113 (nI cb)) 79 I = nI len from h79 q, ifT q]
    simp only [nI_addL, nm_eq]
  · have q2 : tI (tsI s4 113 (nI cb)) 0 ≠ 0 := q
    rw [t_isBad1 q2, ob_some, ifF (show ¬ (1 : Int32) = 0 by decide), ifF q, nm_eq, nI_addL, nm_eq]
end INST1
