/-! Layer B: the twin differentiates -/
set_option maxRecDepth 100000
/-- all unknowns of the tree have derivatives -/
def DnU (s : TS) (h n : Nat) : Prop := ∀ u, OcU s h n u → ∃ d, tA s 189 u = nI d ∧ d < 180
/-- what it gives -/
def GD (σ : TS) (h n : Nat) (s : TS) (N m : Nat) : Prop := TwZ s N (3 * h + 2) 0 m (dS σ h n) (dH σ h n) ∧ Der s N h n m
section DER4
variable {s s' s1 s2 σ : TS} {S : List Nat} {N N' N0 K h h' f st n m u v w x y z c c' p q r d t t' z' : Nat} {sx op k : Int32} {cf : Int32 → TS → Option (Int32 × TS)} {G : TS → Nat → Nat → Prop}
theorem TwZ.cg (a : TwZ s N h st n z t) (h7 : N ≤ 70000) (hh : h ≤ h') (hz : z = z') (ht : t = t') : TwZ s N h' st n z' t' := by
  have := a.mv (NdX.rf (s := s) (N := N)) h7 (Nat.le_refl _) hh
  rw [← hz, ← ht]; exact this
theorem TwT.zz (q : TwT s N h st n) : TwZ s N h st n (PS s h n) (PH s h n) := ⟨q, rfl, rfl⟩
theorem DnU.o1 (hd : DnU s (h + 1) n) (e : tA s 121 n ∈ k1T ∨ tA s 121 n ∈ k2T) (e1 : tA s 122 n = nI x) (hx : x < 70000) : DnU s h x := fun u z => hd u (by
  unfold OcU
  rw [e1, ix_nI (by omega)]
  rcases e with e | e
  · exact Or.inr (Or.inl ⟨e, z⟩)
  · exact Or.inr (Or.inr (Or.inl ⟨e, Or.inl z⟩)))
theorem DnU.o2 (hd : DnU s (h + 1) n) (e : tA s 121 n ∈ k2T) (e1 : tA s 123 n = nI x) (hx : x < 70000) : DnU s h x := fun u z => hd u (by
  unfold OcU
  rw [e1, ix_nI (n := x) (by omega)]
  exact Or.inr (Or.inr (Or.inl ⟨e, Or.inr z⟩)))
theorem t_derv (hn0 : 1 ≤ N0) (h7 : N0 ≤ 70000) (hz : tI σ 129 = 0 ∧ tI σ 130 = 0) : ∀ (h f n : Nat) (s : TS) (N : Nat), h < f → TwT σ N0 h 0 n → DnU σ h n → DP σ N0 s N (G_derived f (nI n) s) (dS σ h n) (GD σ h n)
  | 0, _, _, _, _, _, q, _ => q.elim
  | h + 1, 0, _, _, _, hf, _, _ => absurd hf (Nat.not_lt_zero _)
  | h + 1, f + 1, n, s, N, hf, q, hd => by
    have ih := fun a s N q hd => t_derv hn0 h7 hz h f a s N (by omega) q hd
    have nb := q.nb
    have n7 : n < 70000 := by omega
    have fz : ∀ {m : Nat}, m < N0 → inb (nI m) 70000 := fun hm => inb_nI' (by omega) (by decide)
    have ii : ∀ {s' : TS} {N' : Nat} {y : Int32} {m : Nat}, DvI σ N0 s' N' → y = nI m → m < N' → inb y 70000 := fun d e hm => by rw [e]; exact inb_nI' (by have := d.2.2.1.2; omega) (by decide)
    have F3 : 3 * (h + 1) + 2 = 3 * h + 2 + 3 := by omega
    show DP σ N0 s N (B_derived (G_derived f) (nI n) s) _ _
    refine dv_case (fun h0 gx hN => ?_)
    have e1 := gx.1 121 (by decide) n nb.2
    have e2 := gx.1 122 (by decide) n nb.2
    have e3 := gx.1 123 (by decide) n nb.2
    have e4 := gx.1 124 (by decide) n nb.2
    have q0 := q
    obtain ⟨-, q⟩ := q
    rcases q with ⟨-, q⟩ | ⟨-, q1, v, v1, v2, v3⟩ | ⟨-, u, x, l⟩ | ⟨-, q1, v, u, x, v1, l⟩ | ⟨q1, a, a1, a2⟩ | ⟨q1, ⟨a, a1, a2⟩, b, b1, b2⟩ | ⟨-, q1, ⟨c, c1, c2⟩, ⟨a, a1, a2⟩, b, b1, b2⟩ | ⟨z, -⟩ | ⟨z, -⟩
    · -- a number, time
      have sz := dS_0 (s := σ) (h := h) (n := n) (by rcases q with q | q <;> rw [q] <;> decide)
      have fin : ∀ cc : Int32, (tA σ 121 n = 0 ∧ cc = 0) ∨ (tA σ 121 n = 1 ∧ cc = 65536) → DP σ N0 s N (ob (F_numeralNode cc s) fun r s => some (r, s)) (dS σ (h + 1) n) (GD σ (h + 1) n) := fun cc hc => by
        rw [sz.1]
        refine ((dv_num hn0 hz cc).mono (Nat.le_refl _) ?_).idr
        intro g0 sf Nf m df lf xf mb e
        have im : isN sf Nf m cc := ⟨mb, e⟩
        refine ⟨(TwZ.nu (h := h) im).cg df.2.2.1.2 (by omega) sz.1.symm sz.2.symm, ⟨by have := df.2.2.1.1; omega, by have := df.2.2.1.1; omega⟩, ?_⟩
        rw [df.2.1.1 121 (by decide) n nb.2]
        rcases hc with ⟨hc, rfl⟩ | ⟨hc, rfl⟩
        · exact Or.inl ⟨by rw [hc]; decide, im⟩
        · exact Or.inr (Or.inl ⟨hc, im⟩)
      rcases q with q | q
      · rw [tB_num h0 n7 (by rw [e1, q]; decide)]
        exact fin 0 (Or.inl ⟨q, rfl⟩)
      · rw [tB_time h0 n7 (by rw [e1, q])]
        exact fin 65536 (Or.inr ⟨q, rfl⟩)
    · -- a parameter, a discrete variable
      have xv : ix (nI v) = v := ix_nI (by omega)
      have sz : dS σ (h + 1) n = 1 ∧ dH σ (h + 1) n = 1 := by
        have z := dS_v (s := σ) (h := h) (n := n) (by rcases q1 with q1 | q1 <;> rw [q1] <;> decide)
        have ng : ¬ ngv σ n := fun y => by unfold ngv at y; rw [v2, xv] at y; exact v3 y.1
        rw [ifF ng] at z; exact z
      rw [tB_plain h0 n7 (by rw [e1]; exact q1) ⟨v1, e2.trans v2, by rw [gx.2.1 94 (by decide)]; exact v3⟩, sz.1]
      refine ((dv_num hn0 hz 0).mono (Nat.le_refl _) ?_).idr
      intro g0 sf Nf m df lf xf mb e
      have im : isN sf Nf m 0 := ⟨mb, e⟩
      refine ⟨(TwZ.nu (h := h) im).cg df.2.2.1.2 (by omega) sz.1.symm sz.2.symm, ⟨by have := df.2.2.1.1; omega, by have := df.2.2.1.1; omega⟩, ?_⟩
      rw [df.2.1.1 121 (by decide) n nb.2, df.2.1.1 122 (by decide) n nb.2]
      exact Or.inr (Or.inr (Or.inl ⟨q1, ⟨v, v1, v2, by rw [df.2.1.2.1 94 (by decide)]; exact v3⟩, im⟩))
    · -- an unknown
      obtain ⟨d, d1, d2⟩ := hd u (Or.inl ⟨x, l⟩)
      have ls := l.mv gx nb.2
      have ds : tA s 189 u = nI d := (gx.2.2 u (by rw [d1]; exact nI_m1 (by omega))).trans d1
      have hu := l.lt
      have ng : (x = 1 ∧ dS σ (h + 1) n = 1 ∧ dH σ (h + 1) n = 1) ∨ (x = -1 ∧ dS σ (h + 1) n = 2 ∧ dH σ (h + 1) n = 2) := by
        have vv : ∀ v w, tA σ 121 n = 2 ∨ tA σ 121 n = 3 → tA σ 122 n = nI v → LfU σ v w x → (x = 1 ∧ dS σ (h + 1) n = 1 ∧ dH σ (h + 1) n = 1) ∨ (x = -1 ∧ dS σ (h + 1) n = 2 ∧ dH σ (h + 1) n = 2) := fun v w hk ev lu => by
          obtain ⟨⟨l1, l2⟩, -, -, l3, l4⟩ := lu
          have xv : ix (nI v) = v := ix_nI (by omega)
          have z := dS_v (s := σ) (h := h) (n := n) (by rcases hk with hk | hk <;> rw [hk] <;> decide)
          have en : ngv σ n ↔ ¬ 0 ≤ x := by unfold ngv; rw [ev, xv, l1, l3]; exact ⟨fun y => y.2, fun y => ⟨rfl, y⟩⟩
          rcases sg_pos l4 with ⟨p1, p2⟩ | ⟨p1, p2⟩
          · rw [ifF (fun y => en.mp y p2)] at z; exact Or.inl ⟨p1, z⟩
          · rw [ifT (en.mpr p2)] at z; exact Or.inr ⟨p1, z⟩
        rcases l with ⟨e, v, ev, lu⟩ | ⟨e, v, w, ev, lu, -⟩ | ⟨e, -, -, rfl⟩
        · exact vv v u (Or.inl e) ev lu
        · exact vv v w (Or.inr e) ev lu
        · exact Or.inl ⟨rfl, dS_0 (by rw [e]; decide)⟩
      rw [tB_leaf h0 n7 ls ⟨ds, d2⟩]
      have un : DP σ N0 s N (F_unknownNode (nI d) s) 1 (fun s' N' m => is1 s' N' 30 m d) := by
        unfold F_unknownNode
        exact ((dv_make hn0 hz (op := 30) (x2 := nI d) (x3 := 0) (x4 := 0) (Or.inl (Or.inl (by decide)))).mono (Nat.le_refl _) (fun _ _ _ _ _ _ _ mb e => ⟨mb, e.1, e.2.1⟩)).idr
      rcases ng with ⟨rfl, z1, z2⟩ | ⟨rfl, z1, z2⟩
      · rw [z1]
        have : (fun (r : Int32) (s : TS) => if (1 : Int32) = 1 then some (r, s) else ob (F_make 7 r 0 0 s) fun r s => some (r, s)) = fun r s => some (r, s) := by funext r s; rw [ifT rfl]
        rw [this]
        refine (un.mono (Nat.le_refl _) ?_).idr
        intro g0 sf Nf m df lf xf mb e
        refine ⟨(TwZ.uk (h := h) e d2).cg df.2.2.1.2 (by omega) z1.symm z2.symm, ⟨by have := df.2.2.1.1; omega, by have := df.2.2.1.1; omega⟩, ?_⟩
        exact Or.inr (Or.inr (Or.inr (Or.inr (Or.inl ⟨u, 1, d, l.mv df.2.1 nb.2, ⟨(df.2.1.2.2 u (by rw [d1]; exact nI_m1 (by omega))).trans d1, d2⟩, Or.inl ⟨rfl, e⟩⟩))))
      · rw [z1]
        have : (fun (r : Int32) (s : TS) => if (-1 : Int32) = 1 then some (r, s) else ob (F_make 7 r 0 0 s) fun r s => some (r, s)) = fun r s => ob (F_make 7 r 0 0 s) fun r s => some (r, s) := by funext r s; rw [ifF (by decide)]
        rw [this]
        refine DP.seq (c := 1) (c' := 1) un ?_
        intro y1 s1 N1 i1 d1' l1 x1 g1
        refine ((dv_make hn0 hz (op := 7) (x2 := y1) (x3 := 0) (x4 := 0) (Or.inl (Or.inr (Or.inl ⟨by decide, i1⟩)))).mono (Nat.le_refl _) ?_).idr
        intro g0 sf Nf m df lf xf mb e
        intro w1 k1
        obtain ⟨a0, m1, rfl, mb1, f1⟩ := g1 g0
        have p1 : is1 sf Nf 30 m1 d := f1.mv w1 k1
        have p2 : is1 sf Nf 7 m m1 := ⟨mb, e.1, e.2.1⟩
        refine ⟨(TwZ.o (st := 0) p2 (by decide) df.2.2.1.2 (TwZ.uk (h := h) p1 d2)).cg df.2.2.1.2 (by omega) z1.symm (z2.symm ▸ by rw [hgt_eq]; rfl), ⟨by have := df.2.2.1.1; omega, by have := df.2.2.1.1; omega⟩, ?_⟩
        exact Or.inr (Or.inr (Or.inr (Or.inr (Or.inl ⟨u, -1, d, l.mv df.2.1 nb.2, ⟨(df.2.1.2.2 u (by rw [d1]; exact nI_m1 (by omega))).trans d1, d2⟩, Or.inr ⟨rfl, m1, p2, p1⟩⟩))))
    · -- pre of a continuous variable
      have lu := l
      obtain ⟨⟨l1, l2⟩, -, -, l3, l4⟩ := l
      have xv : ix (nI v) = v := ix_nI (by omega)
      have z := dS_v (s := σ) (h := h) (n := n) (by rw [q1]; decide)
      have en : ngv σ n ↔ ¬ 0 ≤ x := by unfold ngv; rw [v1, xv, l1, l3]; exact ⟨fun y => y.2, fun y => ⟨rfl, y⟩⟩
      rw [tB_pre h0 n7 (e1.trans q1) (e2.trans v1) (lu.mv gx)]
      have dn : ∀ (sf : TS) (Nf m : Nat), DvI σ N0 sf Nf → ((x = 1 ∧ isN sf Nf m 0) ∨ (x = -1 ∧ ∃ p, is1 sf Nf 7 m p ∧ isN sf Nf p 0)) → Der sf Nf (h + 1) n m := fun sf Nf m df hh => by
        refine ⟨⟨by have := df.2.2.1.1; omega, by have := df.2.2.1.1; omega⟩, ?_⟩
        rw [df.2.1.1 121 (by decide) n nb.2, df.2.1.1 122 (by decide) n nb.2]
        exact Or.inr (Or.inr (Or.inr (Or.inl ⟨q1, v, u, x, v1, lu.mv df.2.1, hh⟩)))
      rcases sg_pos l4 with ⟨rfl, p2⟩ | ⟨rfl, p2⟩
      · rw [ifF (fun y => en.mp y p2)] at z
        have : (fun (r : Int32) (s : TS) => if (1 : Int32) = 1 then some (r, s) else ob (F_make 7 r 0 0 s) fun r s => some (r, s)) = fun r s => some (r, s) := by funext r s; rw [ifT rfl]
        rw [this, z.1]
        refine ((dv_num hn0 hz 0).mono (Nat.le_refl _) ?_).idr
        intro g0 sf Nf m df lf xf mb e
        have im : isN sf Nf m 0 := ⟨mb, e⟩
        exact ⟨(TwZ.nu (h := h) im).cg df.2.2.1.2 (by omega) z.1.symm z.2.symm, dn sf Nf m df (Or.inl ⟨rfl, im⟩)⟩
      · rw [ifT (en.mpr p2)] at z
        have : (fun (r : Int32) (s : TS) => if (-1 : Int32) = 1 then some (r, s) else ob (F_make 7 r 0 0 s) fun r s => some (r, s)) = fun r s => ob (F_make 7 r 0 0 s) fun r s => some (r, s) := by funext r s; rw [ifF (by decide)]
        rw [this, z.1]
        refine DP.seq (c := 1) (c' := 1) (dv_num hn0 hz 0) ?_
        intro y1 s1 N1 i1 d1' l1 x1 g1
        refine ((dv_make hn0 hz (op := 7) (x2 := y1) (x3 := 0) (x4 := 0) (Or.inl (Or.inr (Or.inl ⟨by decide, i1⟩)))).mono (Nat.le_refl _) ?_).idr
        intro g0 sf Nf m df lf xf mb e
        intro w1 k1
        obtain ⟨a0, m1, rfl, mb1, f1⟩ := g1 g0
        have p1 : isN sf Nf m1 0 := isN.mv ⟨mb1, f1⟩ w1 k1
        have p3 : is1 sf Nf 7 m m1 := ⟨mb, e.1, e.2.1⟩
        exact ⟨(TwZ.o (st := 0) p3 (by decide) df.2.2.1.2 (TwZ.nu (h := h) p1)).cg df.2.2.1.2 (by omega) z.1.symm (z.2.symm ▸ by rw [hgt_eq]; rfl), dn sf Nf m df (Or.inr ⟨rfl, m1, p3, p1⟩)⟩
    · -- one part
      have a7 : a < 70000 := by have := a2.nb; omega
      have kk := one_k1 q1
      have hda := hd.o1 (Or.inl kk) a1 a7
      simp only [List.mem_cons, Prod.mk.injEq, List.not_mem_nil, or_false] at q1
      rcases q1 with ⟨-, q1⟩ | ⟨-, q1⟩ | ⟨-, q1⟩ | ⟨-, q1⟩ | ⟨-, q1⟩ | ⟨z, -⟩
      · have sz := dS_7 (h := h) q1 a1 a7
        rw [tB_7 h0 n7 (e1.trans q1), e2, a1]
        refine DP.mono (c := dS σ h a + 1) (G := GD σ (h + 1) n) ?_ (by rw [sz.1]; omega) (fun _ _ _ _ _ _ _ _ e => e)
        refine DP.seq (ih a s N a2 hda) ?_
        intro y1 s1 N1 i1 d1 l1 x1 g1
        refine ((dv_make hn0 hz (op := 7) (x2 := y1) (x3 := 0) (x4 := 0) (Or.inl (Or.inr (Or.inl ⟨by decide, i1⟩)))).mono (Nat.le_refl _) ?_).idr
        intro g0 sf Nf m df lf xf mb e
        intro w1 k1
        obtain ⟨a0, m1, rfl, mb1, f1, f2⟩ := g1 g0
        have h7f := df.2.2.1.2
        have p1 := f1.mv w1 (by omega) k1 (Nat.le_refl _)
        have p2 : is1 sf Nf 7 m m1 := ⟨mb, e.1, e.2.1⟩
        refine ⟨(TwZ.o (st := 0) p2 (by decide) h7f p1).cg h7f (by omega) (by rw [sz.1]) (by rw [sz.2]), ⟨by omega, by omega⟩, ?_⟩
        rw [df.2.1.1 121 (by decide) n nb.2, df.2.1.1 122 (by decide) n nb.2]
        exact Or.inr (Or.inr (Or.inr (Or.inr (Or.inr (Or.inl ⟨q1, a, m1, a1, f2.mv w1 k1, p2⟩)))))
      · have sz := dS_10 (h := h) q1 a1 a7
        rw [tB_10 h0 n7 (e1.trans q1), e2, a1]
        refine DP.mono (c := dS σ h a + (1 + 1)) (G := GD σ (h + 1) n) ?_ (by rw [sz.1]; omega) (fun _ _ _ _ _ _ _ _ e => e)
        refine DP.seq (ih a s N a2 hda) ?_
        intro y1 s1 N1 i1 d1 l1 x1 g1
        rw [(d1.2.1.1 122 (by decide) n nb.2).trans a1]
        refine DP.seq (dv_make hn0 hz (op := 12) (x2 := nI a) (x3 := 0) (x4 := 0) (Or.inl (Or.inr (Or.inl ⟨by decide, fz a2.nb.2⟩)))) ?_
        intro y2 s2 N2 i2 d2 l2 x2 g2
        refine ((dv_make hn0 hz (op := 8) (x2 := y2) (x3 := y1) (x4 := 0) (Or.inl (Or.inr (Or.inr (Or.inl ⟨by decide, i2, i1⟩))))).mono (Nat.le_refl _) ?_).idr
        intro g0 sf Nf m df lf xf mb e
        intro w2 k2 w1 k1
        obtain ⟨a0, m2, rfl, mb2, f3⟩ := g2 g0
        obtain ⟨a0', m1, rfl, mb1, f1, f2⟩ := g1 a0
        have h7f := df.2.2.1.2
        have ta := (TwT.zz a2).mv df.2.1 h7 df.2.2.1.1 (show h ≤ 3 * h + 2 by omega)
        have p1 := f1.mv w1 (by omega) k1 (show 3 * h + 2 ≤ 3 * h + 2 + 1 by omega)
        have p2 : is1 sf Nf 12 m2 a := is1.mv ⟨mb2, f3.1, f3.2.1⟩ w2 k2
        have p3 : is2 sf Nf 8 m m2 m1 := ⟨mb, e.1, e.2.1, e.2.2.1⟩
        have t2 := TwZ.o (st := 0) p2 (by decide) h7f ta
        refine ⟨(TwZ.t (st := 0) p3 (by decide) h7f t2 p1).cg h7f (by omega) (by rw [sz.1]; omega) (by rw [sz.2]), ⟨by omega, by omega⟩, ?_⟩
        rw [df.2.1.1 121 (by decide) n nb.2, df.2.1.1 122 (by decide) n nb.2]
        exact Or.inr (Or.inr (Or.inr (Or.inr (Or.inr (Or.inr (Or.inr (Or.inr (Or.inr (Or.inl ⟨q1, a, m1, m2, a1, f2.mv w1 k1, p2, p3⟩)))))))))
      · have sz := dS_11 (h := h) q1 a1 a7
        rw [tB_11 h0 n7 (e1.trans q1), e2, a1]
        refine DP.mono (c := dS σ h a + (1 + (1 + (1 + 1)))) (G := GD σ (h + 1) n) ?_ (by rw [sz.1]; omega) (fun _ _ _ _ _ _ _ _ e => e)
        refine DP.seq (ih a s N a2 hda) ?_
        intro y1 s1 N1 i1 d1 l1 x1 g1
        rw [(d1.2.1.1 122 (by decide) n nb.2).trans a1]
        refine DP.seq (dv_make hn0 hz (op := 11) (x2 := nI a) (x3 := 0) (x4 := 0) (Or.inl (Or.inr (Or.inl ⟨by decide, fz a2.nb.2⟩)))) ?_
        intro y2 s2 N2 i2 d2 l2 x2 g2
        refine DP.seq (dv_num hn0 hz 131072) ?_
        intro y3 s3 N3 i3 d3 l3 x3 g3
        refine DP.seq (dv_make hn0 hz (op := 8) (x2 := y3) (x3 := y2) (x4 := 0) (Or.inl (Or.inr (Or.inr (Or.inl ⟨by decide, i3, i2⟩))))) ?_
        intro y4 s4 N4 i4 d4 l4 x4 g4
        refine ((dv_make hn0 hz (op := 9) (x2 := y1) (x3 := y4) (x4 := 0) (Or.inl (Or.inr (Or.inr (Or.inl ⟨by decide, i1, i4⟩))))).mono (Nat.le_refl _) ?_).idr
        intro g0 sf Nf m df lf xf mb e
        intro w4 k4 w3 k3 w2 k2 w1 k1
        obtain ⟨b4, m4, rfl, mb4, f4⟩ := g4 g0
        obtain ⟨b3, m3, rfl, mb3, f5⟩ := g3 b4
        obtain ⟨b2, m2, rfl, mb2, f3⟩ := g2 b3
        obtain ⟨b1, m1, rfl, mb1, f1, f2⟩ := g1 b2
        have h7f := df.2.2.1.2
        have ta := (TwT.zz a2).mv df.2.1 h7 df.2.2.1.1 (show h ≤ 3 * h + 2 by omega)
        have p1 := f1.mv w1 (by omega) k1 (show 3 * h + 2 ≤ 3 * h + 2 + 2 by omega)
        have p2 : is1 sf Nf 11 m2 a := is1.mv ⟨mb2, f3.1, f3.2.1⟩ w2 k2
        have p3 : isN sf Nf m3 131072 := isN.mv ⟨mb3, f5⟩ w3 k3
        have p4 : is2 sf Nf 8 m4 m3 m2 := is2.mv ⟨mb4, f4.1, f4.2.1, f4.2.2.1⟩ w4 k4
        have p5 : is2 sf Nf 9 m m1 m4 := ⟨mb, e.1, e.2.1, e.2.2.1⟩
        have t2 := TwZ.o (st := 0) p2 (by decide) h7f ta
        have t3 := TwZ.nu (h := 3 * h + 2) p3
        have t4 := TwZ.t (st := 0) p4 (by decide) h7f t3 t2
        refine ⟨(TwZ.t (st := 0) p5 (by decide) h7f p1 t4).cg h7f (by omega) (by rw [sz.1]; omega) (by rw [sz.2]), ⟨by omega, by omega⟩, ?_⟩
        rw [df.2.1.1 121 (by decide) n nb.2, df.2.1.1 122 (by decide) n nb.2]
        exact Or.inr (Or.inr (Or.inr (Or.inr (Or.inr (Or.inr (Or.inr (Or.inr (Or.inr (Or.inr (Or.inl ⟨q1, a, m1, m2, m4, m3, a1, f2.mv w1 k1, p2, p3, p4, p5⟩))))))))))
      · have sz := dS_0 (s := σ) (h := h) (n := n) (by rw [q1]; decide)
        rw [tB_num h0 n7 (by rw [e1, q1]; decide), sz.1]
        refine ((dv_num hn0 hz 0).mono (Nat.le_refl _) ?_).idr
        intro g0 sf Nf m df lf xf mb e
        have im : isN sf Nf m 0 := ⟨mb, e⟩
        refine ⟨(TwZ.nu (h := h) im).cg df.2.2.1.2 (by omega) sz.1.symm sz.2.symm, ⟨by have := df.2.2.1.1; omega, by have := df.2.2.1.1; omega⟩, ?_⟩
        rw [df.2.1.1 121 (by decide) n nb.2]
        exact Or.inl ⟨by rw [q1]; decide, im⟩
      · have sz := dS_0 (s := σ) (h := h) (n := n) (by rw [q1]; decide)
        rw [tB_num h0 n7 (by rw [e1, q1]; decide), sz.1]
        refine ((dv_num hn0 hz 0).mono (Nat.le_refl _) ?_).idr
        intro g0 sf Nf m df lf xf mb e
        have im : isN sf Nf m 0 := ⟨mb, e⟩
        refine ⟨(TwZ.nu (h := h) im).cg df.2.2.1.2 (by omega) sz.1.symm sz.2.symm, ⟨by have := df.2.2.1.1; omega, by have := df.2.2.1.1; omega⟩, ?_⟩
        rw [df.2.1.1 121 (by decide) n nb.2]
        exact Or.inl ⟨by rw [q1]; decide, im⟩
      · exact absurd z (by decide)
    · -- two parts
      have a7 : a < 70000 ∧ b < 70000 := by have := a2.nb; have := b2.nb; omega
      have kk := two_k2 q1
      have hda := hd.o1 (Or.inr kk) a1 a7.1
      have hdb := hd.o2 kk b1 a7.2
      simp only [List.mem_cons, Prod.mk.injEq, List.not_mem_nil, or_false] at q1
      have addsub : (tA σ 121 n = 5 ∨ tA σ 121 n = 6) → DP σ N0 s N (B_derived (G_derived f) (nI n) s) (dS σ (h + 1) n) (GD σ (h + 1) n) := fun q1 => by
        have sz := dS_5 (h := h) q1 a1 b1 a7
        rw [tB_5 h0 n7 (by rw [e1]; exact q1), e2, a1]
        refine DP.mono (c := dS σ h a + (dS σ h b + 1)) (G := GD σ (h + 1) n) ?_ (by rw [sz.1]; omega) (fun _ _ _ _ _ _ _ _ e => e)
        refine DP.seq (ih a s N a2 hda) ?_
        intro y1 s1 N1 i1 d1 l1 x1 g1
        rw [(d1.2.1.1 123 (by decide) n nb.2).trans b1]
        refine DP.seq (ih b s1 N1 b2 hdb) ?_
        intro y2 s2 N2 i2 d2 l2 x2 g2
        rw [e1]
        refine ((dv_make hn0 hz (op := tA σ 121 n) (x2 := y1) (x3 := y2) (x4 := 0) (Or.inl (Or.inr (Or.inr (Or.inl ⟨by rcases q1 with q1 | q1 <;> rw [q1] <;> decide, i1, i2⟩))))).mono (Nat.le_refl _) ?_).idr
        intro g0 sf Nf m df lf xf mb e
        intro w2 k2 w1 k1
        obtain ⟨a0, m2, rfl, mb2, f3, f4⟩ := g2 g0
        obtain ⟨a0', m1, rfl, mb1, f1, f2⟩ := g1 a0
        have h7f := df.2.2.1.2
        have p1 := f1.mv w1 (by omega) k1 (Nat.le_refl _)
        have p2 := f3.mv w2 (by omega) k2 (Nat.le_refl _)
        have p3 : is2 sf Nf (tA σ 121 n) m m1 m2 := ⟨mb, e.1, e.2.1, e.2.2.1⟩
        refine ⟨(TwZ.t (st := 0) p3 (by rcases q1 with q1 | q1 <;> rw [q1] <;> decide) h7f p1 p2).cg h7f (by omega) (by rw [sz.1]) (by rw [sz.2]), ⟨by omega, by omega⟩, ?_⟩
        rw [df.2.1.1 121 (by decide) n nb.2, df.2.1.1 122 (by decide) n nb.2, df.2.1.1 123 (by decide) n nb.2]
        exact Or.inr (Or.inr (Or.inr (Or.inr (Or.inr (Or.inr (Or.inl ⟨q1, a, b, m1, m2, a1, b1, f2.mv w1 k1, f4.mv w2 k2, p3⟩))))))
      have minmax : (tA σ 121 n = 14 ∨ tA σ 121 n = 15) → DP σ N0 s N (B_derived (G_derived f) (nI n) s) (dS σ (h + 1) n) (GD σ (h + 1) n) := fun q1 => by
        have sz := dS_14 (h := h) q1 a1 b1 a7
        rw [tB_14 h0 n7 (by rw [e1]; exact q1), e2, a1]
        refine DP.mono (c := dS σ h a + (dS σ h b + (1 + 1))) (G := GD σ (h + 1) n) ?_ (by rw [sz.1]; omega) (fun _ _ _ _ _ _ _ _ e => e)
        refine DP.seq (ih a s N a2 hda) ?_
        intro y1 s1 N1 i1 d1 l1 x1 g1
        rw [(d1.2.1.1 123 (by decide) n nb.2).trans b1]
        refine DP.seq (ih b s1 N1 b2 hdb) ?_
        intro y2 s2 N2 i2 d2 l2 x2 g2
        rw [(d2.2.1.1 122 (by decide) n nb.2).trans a1, (d2.2.1.1 123 (by decide) n nb.2).trans b1, e1]
        refine DP.seq (dv_make hn0 hz (op := 25) (x2 := if tA σ 121 n = 14 then 15421 else 15933) (x3 := nI a) (x4 := nI b) (Or.inr ⟨rfl, fz a2.nb.2, fz b2.nb.2⟩)) ?_
        intro y3 s3 N3 i3 d3 l3 x3 g3
        refine ((dv_make hn0 hz (op := 16) (x2 := y3) (x3 := y1) (x4 := y2) (Or.inl (Or.inr (Or.inr (Or.inr (Or.inr ⟨rfl, i3, i1, i2⟩)))))).mono (Nat.le_refl _) ?_).idr
        intro g0 sf Nf m df lf xf mb e
        intro w3 k3 w2 k2 w1 k1
        obtain ⟨b3, m3, rfl, mb3, f5⟩ := g3 g0
        obtain ⟨b2', m2, rfl, mb2, f3, f4⟩ := g2 b3
        obtain ⟨b1', m1, rfl, mb1, f1, f2⟩ := g1 b2'
        have h7f := df.2.2.1.2
        have ta := (TwT.zz a2).mv df.2.1 h7 df.2.2.1.1 (show h ≤ 3 * h + 2 by omega)
        have tb := (TwT.zz b2).mv df.2.1 h7 df.2.2.1.1 (show h ≤ 3 * h + 2 by omega)
        have p1 := f1.mv w1 (by omega) k1 (show 3 * h + 2 ≤ 3 * h + 2 + 1 by omega)
        have p2 := f3.mv w2 (by omega) k2 (show 3 * h + 2 ≤ 3 * h + 2 + 1 by omega)
        have p3 : isL sf Nf (if tA σ 121 n = 14 then 15421 else 15933) m3 a b := isL.mv ⟨mb3, f5.1, f5.2.1, f5.2.2.1, f5.2.2.2⟩ w3 k3
        have p4 : is3 sf Nf m m3 m1 m2 := ⟨mb, e.1, e.2.1, e.2.2.1, e.2.2.2⟩
        have t3 := TwZ.l p3 h7f ta tb
        refine ⟨(TwZ.i p4 h7f t3 p1 p2).cg h7f (by omega) (by rw [sz.1]; omega) (by rw [sz.2]), ⟨by omega, by omega⟩, ?_⟩
        rw [df.2.1.1 121 (by decide) n nb.2, df.2.1.1 122 (by decide) n nb.2, df.2.1.1 123 (by decide) n nb.2]
        exact Or.inr (Or.inr (Or.inr (Or.inr (Or.inr (Or.inr (Or.inr (Or.inr (Or.inr (Or.inr (Or.inr (Or.inl ⟨q1, a, b, m1, m2, m3, a1, b1, f2.mv w1 k1, f4.mv w2 k2, p3, p4⟩)))))))))))
      rcases q1 with ⟨-, q1⟩ | ⟨-, q1⟩ | ⟨-, q1⟩ | ⟨-, q1⟩ | ⟨-, q1⟩ | ⟨-, q1⟩ | ⟨z, -⟩ | ⟨z, -⟩
      · exact addsub (Or.inl q1)
      · exact addsub (Or.inr q1)
      · have sz := dS_8 (h := h) q1 a1 b1 a7
        rw [tB_8 h0 n7 (e1.trans q1), e2, a1]
        refine DP.mono (c := dS σ h a + (dS σ h b + (1 + (1 + 1)))) (G := GD σ (h + 1) n) ?_ (by rw [sz.1]; omega) (fun _ _ _ _ _ _ _ _ e => e)
        refine DP.seq (ih a s N a2 hda) ?_
        intro y1 s1 N1 i1 d1 l1 x1 g1
        rw [(d1.2.1.1 123 (by decide) n nb.2).trans b1]
        refine DP.seq (ih b s1 N1 b2 hdb) ?_
        intro y2 s2 N2 i2 d2 l2 x2 g2
        rw [(d2.2.1.1 123 (by decide) n nb.2).trans b1]
        refine DP.seq (dv_make hn0 hz (op := 8) (x2 := y1) (x3 := nI b) (x4 := 0) (Or.inl (Or.inr (Or.inr (Or.inl ⟨by decide, i1, fz b2.nb.2⟩))))) ?_
        intro y3 s3 N3 i3 d3 l3 x3 g3
        rw [(d3.2.1.1 122 (by decide) n nb.2).trans a1]
        refine DP.seq (dv_make hn0 hz (op := 8) (x2 := nI a) (x3 := y2) (x4 := 0) (Or.inl (Or.inr (Or.inr (Or.inl ⟨by decide, fz a2.nb.2, i2⟩))))) ?_
        intro y4 s4 N4 i4 d4 l4 x4 g4
        refine ((dv_make hn0 hz (op := 5) (x2 := y3) (x3 := y4) (x4 := 0) (Or.inl (Or.inr (Or.inr (Or.inl ⟨by decide, i3, i4⟩))))).mono (Nat.le_refl _) ?_).idr
        intro g0 sf Nf m df lf xf mb e
        intro w4 k4 w3 k3 w2 k2 w1 k1
        obtain ⟨b4, m4, rfl, mb4, f6⟩ := g4 g0
        obtain ⟨b3, m3, rfl, mb3, f5⟩ := g3 b4
        obtain ⟨b2', m2, rfl, mb2, f3, f4⟩ := g2 b3
        obtain ⟨b1', m1, rfl, mb1, f1, f2⟩ := g1 b2'
        have h7f := df.2.2.1.2
        have ta := (TwT.zz a2).mv df.2.1 h7 df.2.2.1.1 (show h ≤ 3 * h + 2 by omega)
        have tb := (TwT.zz b2).mv df.2.1 h7 df.2.2.1.1 (show h ≤ 3 * h + 2 by omega)
        have p1 := f1.mv w1 (by omega) k1 (Nat.le_refl _)
        have p2 := f3.mv w2 (by omega) k2 (Nat.le_refl _)
        have p3 : is2 sf Nf 8 m3 m1 b := is2.mv ⟨mb3, f5.1, f5.2.1, f5.2.2.1⟩ w3 k3
        have p4 : is2 sf Nf 8 m4 a m2 := is2.mv ⟨mb4, f6.1, f6.2.1, f6.2.2.1⟩ w4 k4
        have p5 : is2 sf Nf 5 m m3 m4 := ⟨mb, e.1, e.2.1, e.2.2.1⟩
        have t3 := TwZ.t (st := 0) p3 (by decide) h7f p1 tb
        have t4 := TwZ.t (st := 0) p4 (by decide) h7f ta p2
        refine ⟨(TwZ.t (st := 0) p5 (by decide) h7f t3 t4).cg h7f (by omega) (by rw [sz.1]; omega) (by rw [sz.2]), ⟨by omega, by omega⟩, ?_⟩
        rw [df.2.1.1 121 (by decide) n nb.2, df.2.1.1 122 (by decide) n nb.2, df.2.1.1 123 (by decide) n nb.2]
        exact Or.inr (Or.inr (Or.inr (Or.inr (Or.inr (Or.inr (Or.inr (Or.inl ⟨q1, a, b, m1, m2, m3, m4, a1, b1, f2.mv w1 k1, f4.mv w2 k2, p3, p4, p5⟩)))))))
      · have sz := dS_9 (h := h) q1 a1 b1 a7
        rw [tB_9 h0 n7 (e1.trans q1), e2, a1]
        refine DP.mono (c := dS σ h a + (dS σ h b + (1 + (1 + (1 + 1))))) (G := GD σ (h + 1) n) ?_ (by rw [sz.1]; omega) (fun _ _ _ _ _ _ _ _ e => e)
        refine DP.seq (ih a s N a2 hda) ?_
        intro y1 s1 N1 i1 d1 l1 x1 g1
        rw [(d1.2.1.1 123 (by decide) n nb.2).trans b1]
        refine DP.seq (ih b s1 N1 b2 hdb) ?_
        intro y2 s2 N2 i2 d2 l2 x2 g2
        rw [(d2.2.1.1 122 (by decide) n nb.2).trans a1, (d2.2.1.1 123 (by decide) n nb.2).trans b1]
        refine DP.seq (dv_make hn0 hz (op := 9) (x2 := nI a) (x3 := nI b) (x4 := 0) (Or.inl (Or.inr (Or.inr (Or.inl ⟨by decide, fz a2.nb.2, fz b2.nb.2⟩))))) ?_
        intro y3 s3 N3 i3 d3 l3 x3 g3
        refine DP.seq (dv_make hn0 hz (op := 8) (x2 := y3) (x3 := y2) (x4 := 0) (Or.inl (Or.inr (Or.inr (Or.inl ⟨by decide, i3, i2⟩))))) ?_
        intro y4 s4 N4 i4 d4 l4 x4 g4
        refine DP.seq (dv_make hn0 hz (op := 6) (x2 := y1) (x3 := y4) (x4 := 0) (Or.inl (Or.inr (Or.inr (Or.inl ⟨by decide, i1, i4⟩))))) ?_
        intro y5 s5 N5 i5 d5 l5 x5 g5
        rw [(d5.2.1.1 123 (by decide) n nb.2).trans b1]
        refine ((dv_make hn0 hz (op := 9) (x2 := y5) (x3 := nI b) (x4 := 0) (Or.inl (Or.inr (Or.inr (Or.inl ⟨by decide, i5, fz b2.nb.2⟩))))).mono (Nat.le_refl _) ?_).idr
        intro g0 sf Nf m df lf xf mb e
        intro w5 k5 w4 k4 w3 k3 w2 k2 w1 k1
        obtain ⟨b5, m5, rfl, mb5, f7⟩ := g5 g0
        obtain ⟨b4, m4, rfl, mb4, f6⟩ := g4 b5
        obtain ⟨b3, m3, rfl, mb3, f5⟩ := g3 b4
        obtain ⟨b2', m2, rfl, mb2, f3, f4⟩ := g2 b3
        obtain ⟨b1', m1, rfl, mb1, f1, f2⟩ := g1 b2'
        have h7f := df.2.2.1.2
        have ta := (TwT.zz a2).mv df.2.1 h7 df.2.2.1.1 (show h ≤ 3 * h + 1 by omega)
        have tb := (TwT.zz b2).mv df.2.1 h7 df.2.2.1.1 (show h ≤ 3 * h + 1 by omega)
        have tb' := tb.mv (NdX.rf (s := sf) (N := Nf)) h7f (Nat.le_refl _) (show 3 * h + 1 ≤ 3 * h + 2 + 2 by omega)
        have p1 := f1.mv w1 (by omega) k1 (show 3 * h + 2 ≤ 3 * h + 2 + 1 by omega)
        have p2 := f3.mv w2 (by omega) k2 (Nat.le_refl _)
        have p3 : is2 sf Nf 9 m3 a b := is2.mv ⟨mb3, f5.1, f5.2.1, f5.2.2.1⟩ w3 k3
        have p4 : is2 sf Nf 8 m4 m3 m2 := is2.mv ⟨mb4, f6.1, f6.2.1, f6.2.2.1⟩ w4 k4
        have p5 : is2 sf Nf 6 m5 m1 m4 := is2.mv ⟨mb5, f7.1, f7.2.1, f7.2.2.1⟩ w5 k5
        have p6 : is2 sf Nf 9 m m5 b := ⟨mb, e.1, e.2.1, e.2.2.1⟩
        have t3 := TwZ.t (st := 0) p3 (by decide) h7f ta tb
        have t4 := TwZ.t (st := 0) p4 (by decide) h7f t3 p2
        have t5 := TwZ.t (st := 0) p5 (by decide) h7f p1 t4
        refine ⟨(TwZ.t (st := 0) p6 (by decide) h7f t5 tb').cg h7f (by omega) (by rw [sz.1]; omega) (by rw [sz.2]), ⟨by omega, by omega⟩, ?_⟩
        rw [df.2.1.1 121 (by decide) n nb.2, df.2.1.1 122 (by decide) n nb.2, df.2.1.1 123 (by decide) n nb.2]
        exact Or.inr (Or.inr (Or.inr (Or.inr (Or.inr (Or.inr (Or.inr (Or.inr (Or.inl ⟨q1, a, b, m1, m2, m3, m4, m5, a1, b1, f2.mv w1 k1, f4.mv w2 k2, p3, p4, p5, p6⟩))))))))
      · exact minmax (Or.inl q1)
      · exact minmax (Or.inr q1)
      · exact absurd z (by decide)
      · exact absurd z (by decide)
    · -- a choice
      have a7 : a < 70000 ∧ b < 70000 ∧ c < 70000 := by have := a2.nb; have := b2.nb; have := c2.nb; omega
      have hda : DnU σ h a := fun u z => hd u (by
        unfold OcU
        rw [a1, ix_nI (n := a) (by omega)]
        exact Or.inr (Or.inr (Or.inr (Or.inl ⟨q1, Or.inr (Or.inl z)⟩))))
      have hdb : DnU σ h b := fun u z => hd u (by
        unfold OcU
        rw [b1, ix_nI (n := b) (by omega)]
        exact Or.inr (Or.inr (Or.inr (Or.inl ⟨q1, Or.inr (Or.inr z)⟩))))
      have sz := dS_16 (h := h) q1 c1 a1 b1 a7
      rw [tB_16 h0 n7 (e1.trans q1), e3, a1]
      refine DP.mono (c := dS σ h a + (dS σ h b + 1)) (G := GD σ (h + 1) n) ?_ (by rw [sz.1]; omega) (fun _ _ _ _ _ _ _ _ e => e)
      refine DP.seq (ih a s N a2 hda) ?_
      intro y1 s1 N1 i1 d1 l1 x1 g1
      rw [(d1.2.1.1 124 (by decide) n nb.2).trans b1, (d1.2.1.1 122 (by decide) n nb.2).trans c1]
      refine DP.seq (ih b s1 N1 b2 hdb) ?_
      intro y2 s2 N2 i2 d2 l2 x2 g2
      refine ((dv_make hn0 hz (op := 16) (x2 := nI c) (x3 := y1) (x4 := y2) (Or.inl (Or.inr (Or.inr (Or.inr (Or.inr ⟨rfl, fz c2.nb.2, i1, i2⟩)))))).mono (Nat.le_refl _) ?_).idr
      intro g0 sf Nf m df lf xf mb e
      intro w2 k2 w1 k1
      obtain ⟨b2', m2, rfl, mb2, f3, f4⟩ := g2 g0
      obtain ⟨b1', m1, rfl, mb1, f1, f2⟩ := g1 b2'
      have h7f := df.2.2.1.2
      have tc := (TwT.zz c2).mv df.2.1 h7 df.2.2.1.1 (show h ≤ 3 * h + 2 by omega)
      have p1 := f1.mv w1 (by omega) k1 (Nat.le_refl _)
      have p2 := f3.mv w2 (by omega) k2 (Nat.le_refl _)
      have p4 : is3 sf Nf m c m1 m2 := ⟨mb, e.1, e.2.1, e.2.2.1, e.2.2.2⟩
      refine ⟨(TwZ.i p4 h7f tc p1 p2).cg h7f (by omega) (by rw [sz.1]) (by rw [sz.2]), ⟨by omega, by omega⟩, ?_⟩
      rw [df.2.1.1 121 (by decide) n nb.2, df.2.1.1 122 (by decide) n nb.2, df.2.1.1 123 (by decide) n nb.2, df.2.1.1 124 (by decide) n nb.2]
      exact Or.inr (Or.inr (Or.inr (Or.inr (Or.inr (Or.inr (Or.inr (Or.inr (Or.inr (Or.inr (Or.inr (Or.inr ⟨q1, c, a, b, m1, m2, c1, a1, b1, f2.mv w1 k1, f4.mv w2 k2, p4⟩)))))))))))
    · exact absurd z (by decide)
    · exact absurd z (by decide)
end DER4
