/-! Layer B: whether a head is in a tree, both sides -/
set_option maxRecDepth 100000
section THERE0
variable {cf : Int32 → Int32 → Int32 → TS → Option (Int32 × TS)} {s : TS} {n : Nat} {x2 x3 : Int32}
theorem t_hh1 (inn : inb (nI n) 70000) (xn : ix (nI n) = n) (h : tA s 121 n ∈ k1T) : B_hasHead cf (nI n) x2 x3 s = ob (cf (tA s 122 n) x2 x3 s) fun r s => some (r, s) := by
  simp only [List.mem_cons, List.not_mem_nil, or_false] at h
  unfold B_hasHead
  rw [xn]
  rcases h with h | h | h | h | h | h <;> rw [h] <;> simp +decide only [↓reduceIte, ifT inn, nm_eq]
theorem t_hh2 (inn : inb (nI n) 70000) (xn : ix (nI n) = n) (h : tA s 121 n ∈ k2T) : B_hasHead cf (nI n) x2 x3 s = ob (cf (tA s 122 n) x2 x3 s) fun r s => if r = 0 then ob (cf (tA s 123 n) x2 x3 s) fun r s => if r = 0 then some (0, s) else some (1, s) else some (1, s) := by
  simp only [List.mem_cons, List.not_mem_nil, or_false] at h
  unfold B_hasHead
  rw [xn]
  rcases h with h | h | h | h | h | h | h | h <;> rw [h] <;> simp +decide only [↓reduceIte, ifT inn, nm_eq]
theorem t_hh3 (inn : inb (nI n) 70000) (xn : ix (nI n) = n) (h : tA s 121 n = 16) : B_hasHead cf (nI n) x2 x3 s = ob (cf (tA s 122 n) x2 x3 s) fun r s => if r = 0 then ob (cf (tA s 123 n) x2 x3 s) fun r s => if r = 0 then ob (cf (tA s 124 n) x2 x3 s) fun r s => if r = 0 then some (0, s) else some (1, s) else some (1, s) else some (1, s) := by
  unfold B_hasHead
  rw [xn, h]
  simp +decide only [↓reduceIte, ifT inn, nm_eq]
theorem t_hh4 (inn : inb (nI n) 70000) (xn : ix (nI n) = n) (h : tA s 121 n = 20) : B_hasHead cf (nI n) x2 x3 s = ob (cf (tA s 123 n) x2 x3 s) fun r s => if r = 0 then ob (cf (tA s 124 n) x2 x3 s) fun r s => if r = 0 then some (0, s) else some (1, s) else some (1, s) := by
  unfold B_hasHead
  rw [xn, h]
  simp +decide only [↓reduceIte, ifT inn, nm_eq]
end THERE0
section THERE
variable {C : PC} {P : Nat → Prop} {mss fss : List Nat} {D : FQ} {M0 M M' M1 M2 : CM} {σ σ' s s' : TS} {S : List Nat} {B V I Bm K N E A Wn q qs k c w : Nat} {z7 : Nat → Nat} {hd : Nat → Nat} {sg : Nat → Int32} {x3 : Int32} {fx : Int32}
theorem z_there (W : FW C B P mss fss D M0 σ) (X : FlY z7 C P D mss M0 σ V I Bm) (hN : N ≤ 70000) (hK : K ≤ (pl D 106).length) (p : PA D M0 σ M s) (al : AlL V σ hd sg) (am : AlM D V M s hd sg) (hw : w < V) : ∀ (h f sd a n : Nat), h < f → NdR fx D M0 σ 106 V h sd K N a n → ∃ r : Int32, (r = 0 ∨ r = 1) ∧ KG_X0_isThere f a (nI w) x3 M = some (r, M) ∧ G_hasHead f (nI n) (nI w) x3 s = some (r, s) ∧ (r = 0 → ∀ v, v < V → DrL σ h n v → hd v ≠ w) := by
  obtain ⟨k, ft⟩ := p
  intro h
  induction h with
  | zero => intro f sd a n _ z; exact z.elim
  | succ h ih =>
    intro f sd a n hf nd
    obtain ⟨f, rfl⟩ : ∃ g, f = g + 1 := ⟨f - 1, by omega⟩
    obtain ⟨⟨⟨k0, k1, k2⟩, n1, n2⟩, nd⟩ := nd.view
    obtain ⟨u1, ⟨u2, -⟩, -⟩ := W.2.1.2.1 106 (by decide) k0 (by omega)
    rw [← k2] at u1 u2
    have km : mk M a = 18 := by rw [k.k]; exact u1
    have a0 : ¬ a = 0 := by omega
    have inn : inb (nI n) 70000 := inb_nI' (by omega) (by decide)
    have xn : ix (nI n) = n := ix_nI (by omega)
    have e0 : mI M 3400 a = mI M0 3400 a := k.i rfl a
    have e1 : mI M 3401 a = mI M0 3401 a := k.i rfl a
    have r5 : mR M 3405 a = mR M0 3405 a := k.r rfl a
    have r6 : mR M 3406 a = mR M0 3406 a := k.r rfl a
    have r7 : mR M 3407 a = mR M0 3407 a := k.r rfl a
    have t1 : tA s 121 n = tA σ 121 n := (ft 121 rfl).2.2.1 n
    have t2 : tA s 122 n = tA σ 122 n := (ft 122 rfl).2.2.1 n
    have t3 : tA s 123 n = tA σ 123 n := (ft 123 rfl).2.2.1 n
    have t4 : tA s 124 n = tA σ 124 n := (ft 124 rfl).2.2.1 n
    have nul : KG_X0_isThere f 0 (nI w) x3 M = some (0, M) := by
      obtain ⟨g, rfl⟩ : ∃ g, f = g + 1 := ⟨f - 1, by omega⟩
      show KB_X0_isThere (KG_X0_isThere g) 0 (nI w) x3 M = _
      unfold KB_X0_isThere
      rw [ifT rfl]
    show ∃ r : Int32, _ ∧ KB_X0_isThere (KG_X0_isThere f) a (nI w) x3 M = some (r, M) ∧ B_hasHead (G_hasHead f) (nI n) (nI w) x3 s = some (r, s) ∧ _
    rcases nd with ⟨⟨z5, z6, z7'⟩, nd⟩ | ⟨hop, nd⟩
    · have lf : KJ_X0_isThere_70 (KG_X0_isThere f) a (nI w) x3 M = some (0, M) := by
        unfold KJ_X0_isThere_70
        rw [ifT km, r5, z5, nul, ob_some, ifT rfl, ifT km, r6, z6, nul, ob_some, ifT rfl, ifT km, r7, z7', nul, ob_some, ifT rfl]
      have kd : ∀ op, mI M0 3400 a = op → ¬ op = 1 → ¬ op = 15 → KB_X0_isThere (KG_X0_isThere f) a (nI w) x3 M = some (0, M) := fun op h1 h2 h3 => by
        unfold KB_X0_isThere KJ_X0_isThere_18
        rw [ifF a0, ifT km, e0, h1, ifF h2, ifT km, ifF h3, lf]
      have nr : ∀ v, tA σ 121 n ∈ ([0, 1, 24, 2, 4] : List Int32) → DrL σ (h + 1) n v → False := fun v hm z => by
        simp only [List.mem_cons, List.not_mem_nil, or_false] at hm
        rcases z with ⟨z, -⟩ | ⟨z, -⟩ | ⟨z, -⟩ | ⟨z, -⟩ <;> rcases hm with hm | hm | hm | hm | hm <;> rw [hm] at z <;> exact absurd z (by decide)
      rcases nd with ⟨h1, h2, -⟩ | ⟨h1, h2⟩ | ⟨h1, h2, -⟩ | ⟨hv, v, v1, v2, v3, v4⟩
      · refine ⟨0, Or.inl rfl, kd _ h1 (by decide) (by decide), ?_, fun _ v _ z => (nr v (by rw [h2]; decide) z).elim⟩
        unfold B_hasHead; rw [xn, t1, h2]; simp +decide only [↓reduceIte, ifT inn, nm_eq]
      · refine ⟨0, Or.inl rfl, kd _ h1 (by decide) (by decide), ?_, fun _ v _ z => (nr v (by rw [h2]; decide) z).elim⟩
        unfold B_hasHead; rw [xn, t1, h2]; simp +decide only [↓reduceIte, ifT inn, nm_eq]
      · refine ⟨0, Or.inl rfl, kd _ h1 (by decide) (by decide), ?_, fun _ v _ z => (nr v (by rw [h2]; decide) z).elim⟩
        unfold B_hasHead; rw [xn, t1, h2]; simp +decide only [↓reduceIte, ifT inn, nm_eq]
      · obtain ⟨q1, ⟨kd', q2, q3, q4⟩, q5, q6⟩ := X.vr W v1
        have get : K_J2_get 98 (nI v) M = some ((pl D 98).getD v 0, M) := k.get W.2.1 (by decide) q5 rfl rfl rfl
        have e3 : mI M 3203 ((pl D 98).getD v 0) = nI kd' := (k.i rfl _).trans q3
        have k17 : mk M ((pl D 98).getD v 0) = 17 := (k.k _).trans q1
        have iv : inb (nI v) 96 := inb_nI' q6 (by decide)
        have xv : ix (nI v) = v := ix_nI (by omega)
        have t94 : tA s 94 v = nI kd' := ((ft 94 rfl).2.2.1 v).trans q4
        obtain ⟨⟨b1, b2⟩, -⟩ := am v v1
        have hle := (al v v1).1
        have V96 := X.2.1.1
        have k27 : KJ_X0_isThere_27 (KG_X0_isThere f) a (nI w) x3 M = if nI kd' = 0 then (if nI (hd v) = nI w then some (1, M) else some (0, M)) else some (0, M) := by
          unfold KJ_X0_isThere_27
          rw [ifT km, e1, v2, get, ob_some, ifT (Or.inr k17), ifT k17, e3]
          by_cases y : nI kd' = 0
          · rw [ifT y, ifT y, ifT km, e1, v2, get, ob_some, ifT (Or.inr k17), ifT k17, b1, lf]
          · rw [ifF y, ifF y, lf]
        simp only [List.mem_cons, Prod.mk.injEq, List.not_mem_nil, or_false] at hv
        rcases hv with ⟨h1, h2⟩ | ⟨h1, h2⟩ | ⟨h1, h2⟩
        · by_cases x0 : x3 = 0
          · have eK : KB_X0_isThere (KG_X0_isThere f) a (nI w) x3 M = if nI kd' = 0 then (if nI (hd v) = nI w then some (1, M) else some (0, M)) else some (0, M) := by
              unfold KB_X0_isThere
              rw [ifF a0, ifT km, e0, h1, ifT rfl, ifT x0, k27]
            have eT : B_hasHead (G_hasHead f) (nI n) (nI w) x3 s = if nI kd' = 0 then (if nI (hd v) = nI w then some (1, s) else some (0, s)) else some (0, s) := by
              unfold B_hasHead
              rw [xn, t1, h2, t2, v3, xv, t94, b2]
              simp +decide only [↓reduceIte, ifT inn, ifT iv, nm_eq, ifT x0]
            rw [eK, eT]
            by_cases y1 : nI kd' = 0
            · by_cases y2 : nI (hd v) = nI w
              · exact ⟨1, Or.inr rfl, by rw [ifT y1, ifT y2], by rw [ifT y1, ifT y2], fun z => absurd z (by decide)⟩
              · exact ⟨0, Or.inl rfl, by rw [ifT y1, ifF y2], by rw [ifT y1, ifF y2], fun _ v _ z => (nr v (by rw [h2]; decide) z).elim⟩
            · exact ⟨0, Or.inl rfl, by rw [ifF y1], by rw [ifF y1], fun _ v _ z => (nr v (by rw [h2]; decide) z).elim⟩
          · refine ⟨0, Or.inl rfl, ?_, ?_, fun _ v _ z => (nr v (by rw [h2]; decide) z).elim⟩
            · unfold KB_X0_isThere KJ_X0_isThere_18
              rw [ifF a0, ifT km, e0, h1, ifT rfl, ifF x0, ifT km, ifF (by decide), lf]
            · unfold B_hasHead
              rw [xn, t1, h2]
              simp +decide only [↓reduceIte, ifT inn, nm_eq, ifF x0]
        · have z94 := v4.1 h2
          have y1 : nI kd' = 0 := q4.symm.trans z94
          have eK : KB_X0_isThere (KG_X0_isThere f) a (nI w) x3 M = if nI (hd v) = nI w then some (1, M) else some (0, M) := by
            unfold KB_X0_isThere KJ_X0_isThere_18
            rw [ifF a0, ifT km, e0, h1, ifF (by decide), ifT km, ifT rfl, k27, ifT y1]
          have eT : B_hasHead (G_hasHead f) (nI n) (nI w) x3 s = if nI (hd v) = nI w then some (1, s) else some (0, s) := by
            unfold B_hasHead
            rw [xn, t1, h2, t2, v3, xv, b2]
            simp +decide only [↓reduceIte, ifT inn, ifT iv, nm_eq]
          rw [eK, eT]
          by_cases y2 : nI (hd v) = nI w
          · exact ⟨1, Or.inr rfl, by rw [ifT y2], by rw [ifT y2], fun z => absurd z (by decide)⟩
          · refine ⟨0, Or.inl rfl, by rw [ifF y2], by rw [ifF y2], fun _ v' hv' z => ?_⟩
            rcases z with ⟨-, z⟩ | ⟨z, -⟩ | ⟨z, -⟩ | ⟨z, -⟩
            · have : v' = v := (bI_eq (by omega) (by omega)).mp (z.symm.trans v3)
              rw [this]
              exact fun y => y2 (by rw [y])
            · rw [h2] at z; exact absurd z (by decide)
            · rw [h2] at z; exact absurd z (by decide)
            · rw [h2] at z; exact absurd z (by decide)
        · refine ⟨0, Or.inl rfl, kd _ h1 (by decide) (by decide), ?_, fun _ v _ z => (nr v (by rw [h2]; decide) z).elim⟩
          unfold B_hasHead; rw [xn, t1, h2]; simp +decide only [↓reduceIte, ifT inn, nm_eq]
    · have eK : KB_X0_isThere (KG_X0_isThere f) a (nI w) x3 M = KJ_X0_isThere_70 (KG_X0_isThere f) a (nI w) x3 M := by
        have o1 : ¬ mI M0 3400 a = 1 := fun z => by rw [z] at hop; exact absurd hop (by decide)
        have o2 : ¬ mI M0 3400 a = 15 := fun z => by rw [z] at hop; exact absurd hop (by decide)
        unfold KB_X0_isThere KJ_X0_isThere_18
        rw [ifF a0, ifT km, e0, ifF o1, ifT km, ifF o2]
      rw [eK]
      have kj : ∀ ra rb rc : Int32, KG_X0_isThere f (mR M0 3405 a) (nI w) x3 M = some (ra, M) → KG_X0_isThere f (mR M0 3406 a) (nI w) x3 M = some (rb, M) → KG_X0_isThere f (mR M0 3407 a) (nI w) x3 M = some (rc, M) → KJ_X0_isThere_70 (KG_X0_isThere f) a (nI w) x3 M = if ra = 0 then if rb = 0 then if rc = 0 then some (0, M) else some (1, M) else some (1, M) else some (1, M) := fun ra rb rc ha hb hc => by
        unfold KJ_X0_isThere_70
        rw [ifT km, r5, ha, ob_some, ifT km, r6, hb, ob_some, ifT km, r7, hc, ob_some]
      rcases nd with ⟨h1, ⟨s1, x, x1, x2⟩, z6, z7'⟩ | ⟨h1, ⟨s1, x, x1, x2⟩, ⟨s2, y, y1, y2⟩, z7'⟩ | ⟨h1, ⟨s1, x, x1, x2⟩, ⟨s2, y, y1, y2⟩, s3, w', w1, w2⟩ | ⟨h1, ⟨s1, x, x1, x2⟩, ⟨s2, y, y1, y2⟩, z7'⟩
      · obtain ⟨r, c1, c2, c3, c4⟩ := ih f _ _ _ (by omega) x2
        have n3 : ¬ tA σ 121 n = 3 ∧ tA σ 121 n ∉ kd3 ∧ tA σ 121 n ∉ kd4 := by
          simp only [List.mem_cons, List.not_mem_nil, or_false] at h1
          rcases h1 with h1 | h1 | h1 | h1 | h1 | h1 <;> rw [h1] <;> decide
        rw [t_hh1 inn xn (by rw [t1]; exact h1), t2, x1, c3, ob_some, kj r 0 0 c2 (by rw [z6]; exact nul) (by rw [z7']; exact nul)]
        refine ⟨r, c1, ?_, rfl, fun y v hv z => ?_⟩
        · rcases c1 with rfl | rfl <;> rfl
        · rcases z with ⟨z, -⟩ | ⟨-, z⟩ | ⟨z, -⟩ | ⟨z, -⟩
          · exact absurd z n3.1
          · rw [x1, ix_nI (by have := x2.nb; omega)] at z
            exact c4 y v hv z
          · exact absurd z n3.2.1
          · exact absurd z n3.2.2
      · obtain ⟨r, c1, c2, c3, c4⟩ := ih f _ _ _ (by omega) x2
        obtain ⟨r', d1, d2, d3, d4⟩ := ih f _ _ _ (by omega) y2
        have n3 : ¬ tA σ 121 n = 3 ∧ tA σ 121 n ∉ kd4 := by
          simp only [List.mem_cons, List.not_mem_nil, or_false] at h1
          rcases h1 with h1 | h1 | h1 | h1 | h1 | h1 | h1 | h1 <;> rw [h1] <;> decide
        rw [t_hh2 inn xn (by rw [t1]; exact h1), t2, x1, c3, ob_some, t3, y1, d3, ob_some, kj r r' 0 c2 d2 (by rw [z7']; exact nul)]
        refine ⟨if r = 0 then r' else 1, ?_, ?_, ?_, fun y v hv z => ?_⟩
        · rcases c1 with rfl | rfl
          · exact d1
          · exact Or.inr rfl
        · rcases c1 with rfl | rfl <;> rcases d1 with rfl | rfl <;> rfl
        · rcases c1 with rfl | rfl <;> rcases d1 with rfl | rfl <;> rfl
        · rcases c1 with rfl | rfl
          · rcases z with ⟨z, -⟩ | ⟨-, z⟩ | ⟨-, z⟩ | ⟨z, -⟩
            · exact absurd z n3.1
            · rw [x1, ix_nI (by have := x2.nb; omega)] at z
              exact c4 rfl v hv z
            · rw [y1, ix_nI (by have := y2.nb; omega)] at z
              exact d4 y v hv z
            · exact absurd z n3.2
          · exact absurd (show (1 : Int32) = 0 from y) (by decide)
      · obtain ⟨r, c1, c2, c3, c4⟩ := ih f _ _ _ (by omega) x2
        obtain ⟨r', d1, d2, d3, d4⟩ := ih f _ _ _ (by omega) y2
        obtain ⟨r2, e1', e2, e3, e4⟩ := ih f _ _ _ (by omega) w2
        rw [t_hh3 inn xn (by rw [t1]; exact h1), t2, x1, c3, ob_some, t3, y1, d3, ob_some, t4, w1, e3, ob_some, kj r r' r2 c2 d2 e2]
        refine ⟨if r = 0 then if r' = 0 then r2 else 1 else 1, ?_, ?_, ?_, fun y v hv z => ?_⟩
        · rcases c1 with rfl | rfl
          · rcases d1 with rfl | rfl
            · exact e1'
            · exact Or.inr rfl
          · exact Or.inr rfl
        · rcases c1 with rfl | rfl <;> rcases d1 with rfl | rfl <;> rcases e1' with rfl | rfl <;> rfl
        · rcases c1 with rfl | rfl <;> rcases d1 with rfl | rfl <;> rcases e1' with rfl | rfl <;> rfl
        · rcases c1 with rfl | rfl
          · rcases d1 with rfl | rfl
            · rcases z with ⟨z, -⟩ | ⟨-, z⟩ | ⟨-, z⟩ | ⟨-, z⟩
              · rw [h1] at z; exact absurd z (by decide)
              · rw [x1, ix_nI (by have := x2.nb; omega)] at z
                exact c4 rfl v hv z
              · rw [y1, ix_nI (by have := y2.nb; omega)] at z
                exact d4 rfl v hv z
              · rw [w1, ix_nI (by have := w2.nb; omega)] at z
                exact e4 y v hv z
            · exact absurd (show (1 : Int32) = 0 from y) (by decide)
          · exact absurd (show (1 : Int32) = 0 from y) (by decide)
      · obtain ⟨r, c1, c2, c3, c4⟩ := ih f _ _ _ (by omega) x2
        obtain ⟨r', d1, d2, d3, d4⟩ := ih f _ _ _ (by omega) y2
        rw [t_hh4 inn xn (by rw [t1]; exact h1), t3, x1, c3, ob_some, t4, y1, d3, ob_some, kj r r' 0 c2 d2 (by rw [z7']; exact nul)]
        refine ⟨if r = 0 then r' else 1, ?_, ?_, ?_, fun y v hv z => ?_⟩
        · rcases c1 with rfl | rfl
          · exact d1
          · exact Or.inr rfl
        · rcases c1 with rfl | rfl <;> rcases d1 with rfl | rfl <;> rfl
        · rcases c1 with rfl | rfl <;> rcases d1 with rfl | rfl <;> rfl
        · rcases c1 with rfl | rfl
          · rcases z with ⟨z, -⟩ | ⟨z, -⟩ | ⟨-, z⟩ | ⟨-, z⟩
            · rw [h1] at z; exact absurd z (by decide)
            · rw [h1] at z; exact absurd z (by decide)
            · rw [x1, ix_nI (by have := x2.nb; omega)] at z
              exact c4 rfl v hv z
            · rw [y1, ix_nI (by have := y2.nb; omega)] at z
              exact d4 y v hv z
          · exact absurd (show (1 : Int32) = 0 from y) (by decide)
end THERE
