/-! Layer B: classes: what is kept, whole -/
set_option maxRecDepth 100000
/-- the twin's tables while a class is read at cc -/
def Tc (cc : Nat) (σ σ' : TS) : Prop := (Qb σ σ' ∧ Mz σ σ' ∧ Ez σ σ') ∧ (∀ k, k ≠ cc → (∀ f, f = 44 ∨ f = 45 ∨ f = 46 ∨ f = 47 → tA σ' f k = tA σ f k) ∧ tB σ' 41 k = tB σ 41 k) ∧ ∀ k, (∀ f, f = 42 ∨ f = 43 → tA σ' f k = tA σ f k) ∧ tB σ' 40 k = tB σ 40 k
section CLTI
variable {C C' : PC} {T P P' X : Nat → Prop} {Mt Mb M M' M1 M2 M7 : CM} {σt σ σ' σ1 σ2 σ7 σb : TS} {i i' dep c s n w l cc v : Nat} {mss ns cs xs : List Nat}
theorem Tc.tr (h : Tc cc σ σ1) (g : Tc cc σ1 σ2) : Tc cc σ σ2 := by
  obtain ⟨⟨h2, h3, h4⟩, h5, h6⟩ := h
  obtain ⟨⟨g2, g3, g4⟩, g5, g6⟩ := g
  exact ⟨⟨h2.tr g2, h3.tr g3, h4.tr g4⟩, fun k hk => ⟨fun f hf => ((g5 k hk).1 f hf).trans ((h5 k hk).1 f hf), (g5 k hk).2.trans (h5 k hk).2⟩, fun k => ⟨fun f hf => ((g6 k).1 f hf).trans ((h6 k).1 f hf), (g6 k).2.trans (h6 k).2⟩⟩
theorem Tc.tw (h : Tc cc σ σ') (hz : Tz σ σ') (hc : ix (tI σ 49) ≤ cc) : Tw σ σ' := ⟨⟨hz, h.1⟩, fun k hk => h.2.1 k (by omega), fun k _ => h.2.2 k⟩
theorem Tc.rf (σ : TS) : Tc cc σ σ := ⟨⟨Qb.rf _, Mz.rf _, Ez.rf _⟩, fun _ _ => ⟨fun _ _ => rfl, rfl⟩, fun _ => ⟨fun _ _ => rfl, rfl⟩⟩
theorem Ft.dis {S L : List Nat} (h : L.all (fun k => !S.contains k) = true) {k : Nat} (hk : L.contains k = true) : S.contains k = false := by
  have := List.all_eq_true.mp h k (by simpa using hk)
  simpa using this
theorem Ft.sub {S L L' : List Nat} (h : L.all (fun k => !S.contains k) = true) (h2 : L'.all L.contains = true) : L'.all (fun k => !S.contains k) = true := by
  rw [List.all_eq_true]
  intro k hk
  rw [Ft.dis h (List.all_eq_true.mp h2 k hk)]; rfl
abbrev clTb : List Nat := 40 :: 41 :: 42 :: 43 :: 44 :: 45 :: 46 :: 47 :: 58 :: 24 :: 25 :: 26 :: 27 :: 28 :: 29 :: 30 :: 31 :: 32 :: 33 :: 34 :: 66 :: 67 :: 68 :: 69 :: 70 :: 71 :: 72 :: eTb
theorem Tc.ft {S : List Nat} (f : Ft S σ σ') (h : clTb.all (fun k => !S.contains k) = true) : Tc cc σ σ' := ⟨⟨(Qz.ft f (Ft.sub h (by decide))).b, Mz.ft f (Ft.sub h (by decide)), Ez.ft f (Ft.sub h (by decide))⟩, fun k _ => ⟨fun g hg => by rcases hg with rfl | rfl | rfl | rfl <;> exact (f _ (Ft.dis h (by decide))).2.2.1 k, (f 41 (Ft.dis h (by decide))).2.2.2 k⟩, fun k => ⟨fun g hg => by rcases hg with rfl | rfl <;> exact (f _ (Ft.dis h (by decide))).2.2.1 k, (f 40 (Ft.dis h (by decide))).2.2.2 k⟩⟩
/-- elements -/
theorem Tc.el {S : List Nat} (h : Frm cc σ σ') (f : Ft S σ σ') (hS : [40, 41, 42, 43, 44, 45, 47, 66, 67, 68, 69, 70, 71, 72].all (fun k => !S.contains k) = true) : Tc cc σ σ' := ⟨⟨(Qz.ft f (Ft.sub hS (by decide))).b, h.2.1, h.2.2.1⟩, fun k hk => ⟨fun g hg => by
  rcases hg with rfl | rfl | rfl | rfl
  · exact (f 44 (Ft.dis hS (by decide))).2.2.1 k
  · exact (f 45 (Ft.dis hS (by decide))).2.2.1 k
  · exact h.2.2.2 k hk
  · exact (f 47 (Ft.dis hS (by decide))).2.2.1 k, (f 41 (Ft.dis hS (by decide))).2.2.2 k⟩, fun k => ⟨fun g hg => by rcases hg with rfl | rfl <;> exact (f _ (Ft.dis hS (by decide))).2.2.1 k, (f 40 (Ft.dis hS (by decide))).2.2.2 k⟩⟩
/-- equations -/
theorem Tc.eq {S : List Nat} (hq : Qb σ σ') (f : Ft S σ σ') (hS : (40 :: 41 :: 42 :: 43 :: 44 :: 45 :: 46 :: 47 :: 58 :: eTb).all (fun k => !S.contains k) = true) : Tc cc σ σ' := ⟨⟨hq, Mz.ft f (Ft.sub hS (by decide)), Ez.ft f (Ft.sub hS (by decide))⟩, fun k _ => ⟨fun g hg => by rcases hg with rfl | rfl | rfl | rfl <;> exact (f _ (Ft.dis hS (by decide))).2.2.1 k, (f 41 (Ft.dis hS (by decide))).2.2.2 k⟩, fun k => ⟨fun g hg => by rcases hg with rfl | rfl <;> exact (f _ (Ft.dis hS (by decide))).2.2.1 k, (f 40 (Ft.dis hS (by decide))).2.2.2 k⟩⟩
theorem arL_lt (hl : l ∈ arL) : 88 ≤ l ∧ l ≤ 97 := by revert hl; simp only [List.mem_cons, List.not_mem_nil, or_false]; omega
theorem TP.cn (h : TP C T Mt M σ cs P) (h49 : tI σ 49 = nI cs.length) (h24 : cs.length ≤ 24) : CnR (cm C) M σ cs := ⟨h49, h24, fun k hk => by
  obtain ⟨⟨⟨a1, a2⟩, a3⟩, _⟩ := h.2.1 k hk
  exact ⟨a2, by have := (h.nx a1).1.1; omega, a3⟩⟩
/-- a fault of a text, out of one of its parts -/
theorem FL.of (P0 : Pe C M σ i dep c s n) (hS : Sx M) (L97 : Ls M 97 ns) (F0 : Fz (Xl Mt) Mt M) (ha : ∀ l, l ∈ arL → mR M 4201 l = mR Mt 4201 l ∨ mn Mt ≤ mR M 4201 l) (htw : Tw σt σ) (h49 : ix (tI σt 49) ≤ ix (tI σ 49)) (h48 : ix (tI σt 48) ≤ ix (tI σ 48)) (G : Fz X M M') (hX : ∀ o, o < mn M → X o → o = 90 ∨ o = 95 ∨ o = mR M 4201 95) (h95 : mR M' 4201 95 = mR M 4201 95 ∨ mn M ≤ mR M' 4201 95) (l95 : ∃ bs, Ls M' 95 bs) (flt : Flt M' w σ') (bd : mn M' ≤ cN C ∧ ms M' ≤ cS C) (tw : Tw σ σ') : FL C Mt σt M' w σ' := by
  have h167 := P0.n167
  have hc6 := P0.c6
  have hcN := P0.2.2.2.1.2.2.1
  obtain ⟨fs, nfs, c1, c2, _⟩ := P0.en.2.2.2.1
  have so : ∀ o, o < mn M → o ≠ 90 → o ≠ 95 → o ≠ mR M 4201 95 → So M M' o := fun o ho h1 h2 h3 => G.so ho (fun z => by
    rcases hX o ho z with q | q | q
    · exact h1 q
    · exact h2 q
    · exact h3 q)
  have a95 : mR M 4201 95 = 4398046511104 ∨ 167 ≤ mR M 4201 95 := by
    rcases (hS 95 (by decide)).2 with q | q
    · exact Or.inl q
    · exact Or.inr q.1.1
  have sl : ∀ l, l ∈ arL → l ≠ 95 → So M M' l := fun l hl hne => by
    have := arL_lt hl
    exact so l (by omega) (by intro z; rw [z] at hl; exact absurd hl (by decide)) hne (by omega)
  have sa : ∀ l, l ∈ arL → l ≠ 95 → mR M 4201 l < mn M → So M M' (mR M 4201 l) := fun l hl hne hlt => by
    have := (hS.k hc6 hl hlt).2
    refine so _ hlt (by omega) (by omega) (fun z => ?_)
    rcases (hS 95 (by decide)).2 with q | q
    · omega
    · exact q.2 l hl hne z
  obtain ⟨bs, hl95⟩ := l95
  refine ⟨flt, bd, F0.tr2 G (fun o ho z => ?_), htw.tr tw h49 h48, hS.mv hc6 h167 G (fun l hl => ?_) (fun l l' hl hl' hne hm hlt => ?_), ⟨bs, hl95⟩, ⟨nfs, c2.so2 G (sl 96 (by decide) (by decide)) (sa 96 (by decide) (by decide))⟩, ⟨ns, L97.so2 G (sl 97 (by decide) (by decide)) (sa 97 (by decide) (by decide))⟩, fun l hl => ?_⟩
  · have hn := F0.1
    rcases hX o (by omega) z with q | q | q
    · exact Or.inl q
    · exact Or.inr (Or.inl q)
    · rcases ha 95 (by decide) with g | g
      · rw [g] at q; exact Or.inr (Or.inr (Or.inr (Or.inr (Or.inl q))))
      · omega
  · by_cases q : l = 95
    · subst q
      rcases h95 with g | g
      · exact Or.inl g
      · rcases hl95.lt with z | z
        · exact Or.inr (Or.inl z)
        · exact Or.inr (Or.inr ⟨g, z, hl95.k55 (by omega) z⟩)
    · exact Or.inl ((sl l hl q).r 4201)
  · by_cases q : l = 95
    · subst q
      rw [(sl l' hl' hne).r]
      intro z
      rcases (hS l' hl').2 with g | g
      · omega
      · omega
    · rw [(sl l hl q).r] at hm hlt
      rcases (hS l hl).2 with g | g
      · omega
      · omega
  · by_cases q : l = 95
    · subst q
      rcases h95 with g | g
      · rw [g]; exact ha 95 hl
      · have := F0.1
        exact Or.inr (by omega)
    · rw [(sl l hl q).r]; exact ha l hl
/-- a class is whole -/
theorem cl_ti (I : TI C T Mt σt M σ i c s n mss ns) (h24 : (mss ++ ns).length < 24) (hcc : (mss ++ ns).length = cc) (G : Fz X M M7) (hX : ∀ o, o < mn M → X o → o = 90 ∨ o = 95 ∨ o = mR M 4201 95) (ha7 : ∀ l, l ∈ arL → mR M7 4201 l = mR M 4201 l ∨ mn M ≤ mR M7 4201 l) (hS7 : Sx M7) (P7 : Pe C M7 σ7 i' 0 c s n) (hi : i < i') (hP7 : TP C T Mt M7 σ7 (mss ++ ns) P) (hv : CcR C (fun o => (mn M ≤ o ∧ o < mn M7) ∧ ¬ Ar M7 o) M7 σ7 cc v) (h411 : mR M7 411 90 = v) (hc : 8 ≤ c) (hs : 4000 ≤ s) (hw7 : ∀ w, wc M7 w = wc M w) (L88 : Ls M7 88 mss) (L97 : Ls M7 97 ns) (hT : Tc cc σ σ7) (hz7 : Tz σ σ7) (hq : Qz σ σ7) (h49 : tI σ7 49 = nI (cc + 1)) (h48 : tI σ7 48 = tI σ 48) (hTC : TCn C σ7 i' (cc + 1)) :
    (∃ M' σ', (obS (K_X2_key 3 M7) (fun w66 M62 => some (.inr w66, M62)) fun _ M62 => obS (K_X2_sign 59 M62) (fun w71 M67 => some (.inr w71, M67)) fun _ M67 => ob (K_J2_add 97 (mR M67 411 90) M67) fun _ M72 => some ((.inl () : Unit ⊕ Nat), M72)) = some (.inl (), M') ∧ (ob (F_passWord 6647396 σ7) fun _ s78 => ob (F_pass 59 s78) fun _ s82 => some ((), s82)) = some ((), σ') ∧ TI C T Mt σt M' σ' (i' + 2) c s n mss (ns ++ [v])) ∨
    (∃ w M' σ', (obS (K_X2_key 3 M7) (fun w66 M62 => some (.inr w66, M62)) fun _ M62 => obS (K_X2_sign 59 M62) (fun w71 M67 => some (.inr w71, M67)) fun _ M67 => ob (K_J2_add 97 (mR M67 411 90) M67) fun _ M72 => some ((.inl () : Unit ⊕ Nat), M72)) = some (.inr w, M') ∧ (ob (F_passWord 6647396 σ7) fun _ s78 => ob (F_pass 59 s78) fun _ s82 => some ((), s82)) = some ((), σ') ∧ FL C Mt σt M' w σ') := by
  obtain ⟨⟨P0, hcn, hcr, hcl, hf1⟩, ⟨⟨_, L97o⟩, HC⟩, hS, ⟨Pz, TPz⟩, _, ⟨F0, ha0, h167t⟩, htw, hqz, h49t, h48t⟩ := I
  have hnf := P0.nf12
  have h167 := P0.n167
  have hc6 := P0.c6
  have hn := G.1
  have hc67 := P7.c6
  have h49σ : ix (tI σ 49) = cc := by rw [HC.1, ix_nI (by omega), hcc]
  have vPn := hv.1.1
  have hv167 : 167 ≤ v ∧ v < mn M7 := by have := vPn.1.1; omega
  have hg : gR M7 v := Or.inl ⟨hv167.2, by rw [vPn.2]; decide, by rw [vPn.2]; decide⟩
  have hnl : ns.length ≤ 24 := by rw [List.length_append] at h24; omega
  rcases cl_end P7 hcr hc hs hS7 hP7 hnf L97 hnl h411 hg with ⟨M', σ', e1, e2, P', F', L', S', o1, o2, tz, ft, tw, ⟨t49, t48, t58, t65, t72⟩, hi'⟩ | ⟨w, M', σ', e1, e2, fb, tw⟩
  · left
    refine ⟨M', σ', e1, e2, ?_⟩
    have hk97 : ∀ o, o < mn M7 → (o = 90 ∨ o = 97 ∨ o = mR M7 4201 97) → mk M7 o ≠ 23 ∧ (167 ≤ o → Ar M7 o) := fun o ho z => by
      rcases z with z | z | z
      · rw [z, P7.en.1]; exact ⟨by decide, by omega⟩
      · rw [z, (hS7 97 (by decide)).1]; exact ⟨by decide, by omega⟩
      · rw [z, (hS7.k hc67 (l := 97) (by decide) (by omega)).1]; exact ⟨by decide, fun _ => ⟨97, by decide, rfl⟩⟩
    have hn' := F'.1
    have hw' : ∀ w, wc M' w = wc M7 w := by
      obtain ⟨L, W, _⟩ := P7.wb
      refine wc_so (F'.so (by omega) (fun z => ?_)) (F'.so W.2.2.2.2.2.2.2.1 (fun z => ?_))
      · rcases z with z | z | z
        · omega
        · omega
        · have := (hS7.k hc67 (l := 97) (by decide) (by omega)).2
          omega
      · have h53 := W.2.1
        have hlt := W.2.2.2.2.2.2.2.1
        rcases z with z | z | z
        · rw [z, P7.en.1] at h53; exact absurd h53 (by decide)
        · rw [z, (hS7 97 (by decide)).1] at h53; exact absurd h53 (by decide)
        · rw [z, (hS7.k hc67 (l := 97) (by decide) (by omega)).1] at h53; exact absurd h53 (by decide)
    have har' : ∀ l, l ∈ arL → mR M' 4201 l = mR M7 4201 l ∨ mn M7 ≤ mR M' 4201 l := fun l hl => by
      by_cases q : l = 97
      · rw [q]; exact o2
      · exact Or.inl (o1 l hl q)
    have hnm : mR M' 201 4 = mR M7 201 4 := (F'.so (by omega) (fun z => by
      rcases z with z | z | z
      · omega
      · omega
      · have := (hS7.k hc67 (l := 97) (by decide) (by omega)).2
        omega)).r 201
    have hz : Tz σ7 σ' ∧ Qz σ7 σ' ∧ Mz σ7 σ' ∧ Ez σ7 σ' := ⟨tz, Qz.ft ft (by decide), tw.1.2.2.1, tw.1.2.2.2⟩
    have hcl7 : ∀ k, k < cc + 1 → (∀ f, f = 44 ∨ f = 45 ∨ f = 46 ∨ f = 47 → tA σ' f k = tA σ7 f k) ∧ tB σ' 41 k = tB σ7 41 k := fun k hk => tw.2.1 k (by rw [h49, ix_nI (by omega)]; exact hk)
    have hfn7 : ∀ k, k < cnf C → tA σ' 42 k = tA σ7 42 k ∧ tA σ' 43 k = tA σ7 43 k := fun k hk => by
      obtain ⟨fs, nfs, _, _, _, c4, c5, _⟩ := P7.en.2.2.2.1
      have := (tw.2.2 k (by rw [c5, ix_nI (by omega)]; exact hk)).1
      exact ⟨this 42 (by decide), this 43 (by decide)⟩
    have TP' : TP C T Mt M' σ' (mss ++ ns) P := hP7.mv hnf F' (fun o ho z => ⟨fun hp => by
      have h1 := hP7.nx hp
      exact (hP7.1 o hp).2.2.1 ((hk97 o ho z).2 h1.1.1), (hk97 o ho z).1⟩) (fun w _ => hw' w) har' hnm hz (fun k hk => hcl7 k (by omega)) hfn7
    have v' : CcR C (fun o => (mn M ≤ o ∧ o < mn M') ∧ ¬ Ar M' o) M' σ' cc v := hv.wz (Wz.of hnf F' (fun o ho z => ⟨fun hp => hp.2 ((hk97 o ho z).2 (by have := hp.1.1; omega)), (hk97 o ho z).1⟩) (fun o ho => ho.1.2) (fun w _ => hw' w) hz (fun k hk => (hfn7 k hk).1)) (fun o ho => ⟨⟨ho.1.1, by have := ho.1.2; omega⟩, fun ⟨l, hl, z⟩ => by
      rcases har' l hl with q | q
      · exact ho.2 ⟨l, hl, by rw [← q]; exact z⟩
      · have := ho.1.2; omega⟩) (hcl7 cc (by omega)).1 (hcl7 cc (by omega)).2
    have hlen : (mss ++ (ns ++ [v])).length = cc + 1 := by rw [← List.append_assoc, List.length_append, hcc]; rfl
    have hnmP : ∀ o, mn M ≤ o → o < mn M' → mk M' o ≠ 53 → o ≠ mR M' 201 4 := fun o _ _ hk z => by
      obtain ⟨L, W, _⟩ := P'.wb
      exact hk (by rw [z]; exact W.2.1)
    have nmold : mR M' 201 4 < mn M := by
      obtain ⟨L, W, _⟩ := P0.wb
      have h4 : mR M7 201 4 = mR M 201 4 := (G.so (by omega) (fun z => by
        rcases hX 4 (by omega) z with q | q | q
        · omega
        · omega
        · rcases (hS 95 (by decide)).2 with g | g
          · omega
          · omega)).r 201
      rw [hnm, h4]; exact W.2.2.2.2.2.2.2.1
    have TP2 : TP C T Mt M' σ' (mss ++ (ns ++ [v])) (fun o => P o ∨ ((mn M ≤ o ∧ o < mn M') ∧ ¬ Ar M' o)) := by
      have up : Wz C C P M' M' σ' σ' := Wz.rf hnf
      have up2 : Wz C C (fun o => (mn M ≤ o ∧ o < mn M') ∧ ¬ Ar M' o) M' M' σ' σ' := Wz.rf hnf
      refine ⟨fun o ho => ?_, fun k hk => ?_, fun k hk => (TP'.2.2.1 k hk).wz up (fun _ z => Or.inl z) hk rfl, ?_⟩
      · rcases ho with ho | ho
        · exact TP'.1 o ho
        · have hF := F0.1
          exact ⟨Or.inr (by omega), ⟨by omega, ho.1.2⟩, ho.2, by omega⟩
      · rw [hlen] at hk
        rcases Nat.lt_or_ge k cc with g | g
        · rw [← List.append_assoc, getD_app_l (by omega)]
          exact (TP'.2.1 k (by omega)).wz up (fun _ z => Or.inl z) (fun _ _ => rfl) rfl
        · rw [show k = cc by omega, ← List.append_assoc, show cc = (mss ++ ns).length + 0 by omega, getD_app_r]
          show CcR C _ M' σ' ((mss ++ ns).length + 0) v
          rw [show (mss ++ ns).length + 0 = cc by omega]
          exact v'.wz up2 (fun _ z => Or.inr z) (fun _ _ => rfl) rfl
      · rw [← List.append_assoc]
        refine List.pairwise_append.mpr ⟨TP'.2.2.2, List.pairwise_singleton _ _, fun a ha b hb => ?_⟩
        rw [List.mem_singleton.mp hb]
        obtain ⟨k, hk, ek⟩ := List.getElem_of_mem ha
        have e2 : (mss ++ ns).getD k 0 = a := by rw [List.getD_eq_getElem?_getD, List.getElem?_eq_getElem hk]; exact ek
        have := (TPz.nx (TPz.2.1 k hk).1.1.1).1.2
        rw [e2] at this
        have := vPn.1.1
        omega
    have CN := TP2.cn (by rw [hlen, t49]; exact h49) (by rw [hlen]; omega)
    obtain ⟨⟨E0, d1, d2⟩, ⟨K0, d3, d4, d5⟩, Q0, d6, d7, d8⟩ := hTC
    have FM : Fz (Xl Mt) Mt M' := by
      refine (F0.tr2 G (fun o ho z => ?_)).tr2 F' (fun o ho z => ?_)
      · have := F0.1
        rcases hX o (by omega) z with q | q | q
        · exact Or.inl q
        · exact Or.inr (Or.inl q)
        · rcases ha0 95 (by decide) with g | g
          · rw [g] at q; exact Or.inr (Or.inr (Or.inr (Or.inr (Or.inl q))))
          · omega
      · have := F0.1
        rcases z with q | q | q
        · exact Or.inl q
        · exact Or.inr (Or.inr (Or.inr (Or.inl q)))
        · rcases ha7 97 (by decide) with g | g
          · rw [g] at q
            rcases ha0 97 (by decide) with g' | g'
            · rw [g'] at q; exact Or.inr (Or.inr (Or.inr (Or.inr (Or.inr (Or.inr q)))))
            · omega
          · omega
    refine ⟨⟨P', hcn, hcr, hcl, hf1⟩, ⟨⟨L88.so2 F' (F'.so (by omega) (fun z => by
        rcases z with z | z | z
        · omega
        · omega
        · have := (hS7.k hc67 (l := 97) (by decide) (by omega)).2
          omega)) (fun hlt => F'.so hlt (fun z => by
        have h55 := (hS7.k hc67 (l := 88) (by decide) hlt)
        rcases z with z | z | z
        · omega
        · omega
        · rcases (hS7 97 (by decide)).2 with g | g
          · omega
          · exact g.2 88 (by decide) (by decide) z)), L'⟩, CN⟩, S', ⟨_, TP2⟩, ⟨⟨E0, by rw [t58]; exact d1, by rw [hlen]; exact d2⟩, ⟨K0, by rw [t65]; exact d3, d4, by omega⟩, Q0, by rw [t72]; exact d6, d7, by omega⟩, ⟨FM, fun l hl => ?_, h167t⟩, ?_, (hqz.tr hq).tr hz.2.1, ?_, ?_⟩
    · have := F0.1
      rcases har' l hl with q | q
      · rcases ha7 l hl with q' | q'
        · rw [q, q']; exact ha0 l hl
        · right; rw [q]; omega
      · right; omega
    · have t7 := hT.tw hz7 (by omega)
      refine (htw.tr t7 h49t h48t).tr tw ?_ ?_
      · rw [h49, ix_nI (by omega)]; omega
      · rw [h48]; exact h48t
    · rw [t49, h49, ix_nI (by omega)]; omega
    · rw [t48, h48]; exact h48t
  · right
    refine ⟨w, M', σ', e1, e2, ?_⟩
    obtain ⟨bs, l95⟩ := P7.l95
    have k90 := P7.en.1
    obtain ⟨f1, f2, f3, f4⟩ := fb
    have s95 : So M7 M' 95 := f2.1.so (by omega) (by decide)
    refine FL.of (X := fun o => X o ∨ o = 90) P0 hS L97o F0 ha0 htw h49t h48t ((G.mono (fun o _ z => Or.inl z)).tr2 f2.1 (fun o _ z => Or.inr z)) (fun o ho z => by rcases z with z | z; exact hX o ho z; exact Or.inl z) ?_ ⟨bs, l95.fz f2.1 (by omega) (fun o z => by rw [z, k90]; exact ⟨by decide, by decide⟩)⟩ f1 f3 ?_
    · rw [s95.r]; exact ha7 95 (by decide)
    · have t7 := hT.tw hz7 (by omega)
      exact t7.tr tw (by rw [h49, ix_nI (by omega)]; omega) (by rw [h48]; exact Nat.le_refl _)
end CLTI
