/-! Layer B: the flat model: tables of whens and actions are written -/
set_option maxRecDepth 100000
/-- whose the writes are: the tables, actions from A on, whens from Wn on -/
def TQf (A Wn t : Nat) : Prop := t = 1 ∨ t = 112 ∨ t = 113 ∨ (tg 112 A ≤ t ∧ t < tg 113 0) ∨ (tg 113 Wn ≤ t ∧ t < tg 114 0)
abbrev tqX : List Nat := [104, 130, 141, 142, 143, 155, 158, 159, 160, 161, 171]
abbrev tqS : List Nat := [145, 146, 147, 148, 149, 150, 151, 152]
section TBLS
variable {zb zb' : Nat} {C : PC} {D D' D1 D2 : FQ} {M M' M1 M2 M3 M0 : CM} {σ σ' σ1 σ2 σ0 s1 s8 : TS} {mss fss : List Nat} {B V I Bm K N K' N' E A Wn E' A' Wn' v l k x0 dc md X N0 Lp w d s o n i nf R a b n1 n2 f g h1 h2 j eq : Nat} {P T Y : Nat → Prop} {x3 x3' x y r : Int32} {z7 : Nat → Nat} {S : List Nat}
theorem BX.tb (h : BX zb D M σ V K N E A Wn) (W : FW C B P mss fss D M σ) (hV : V ≤ (pl D 98).length ∧ V ≤ 96) (nk : NdK D M σ D' M' σ' 106 K N) (F : Fq D (TQf A Wn) M M') (dx : Dx D D' M) (i1 : mI M' 33 1 = mI M 33 1 ∧ mI M' 35 1 = mI M 35 1 ∧ mI M' 32 1 = mI M 32 1 ∧ mI M' 41 1 = mI M 41 1 ∧ mI M' 43 1 = mI M 43 1) (f : Ft tqS σ σ') (zz : zb ≠ 0 ∧ zb' ≠ 0) (hA : mI M' 37 1 = nI A' ∧ tI σ' 152 = nI A' ∧ A' ≤ 200 ∧ A' ≤ (pl D' 112).length) (hAA : A ≤ A') (tA' : ∀ g, g = 149 ∨ g = 150 ∨ g = 151 → ∀ k, k < A → tA σ' g k = tA σ g k) (hA2 : ∀ k, A ≤ k → k < A' → AcX1 D' M' σ' V K N k) (hW : mI M' 39 1 = nI (Wn' + zb' / 2) ∧ tI σ' 148 = nI (Wn' + zb' / 2) ∧ Wn' + zb' / 2 ≤ 12 ∧ Wn' ≤ (pl D' 113).length) (tW : ∀ g, g = 145 ∨ g = 146 ∨ g = 147 → ∀ k, k < Wn → tA σ' g k = tA σ g k) (hW2 : ∀ k, Wn ≤ k → k < Wn' → WhX1 D' M' σ' V K N A' k) (hsm : zb' ≤ 1 → Sm 141 142 σ' N N E A' Wn') : BX zb' D' M' σ' V K N E A' Wn' := by
  obtain ⟨bv, ⟨⟨b1, b2, b3, b4⟩, b5⟩, ⟨⟨c1, c2, c3, c4⟩, c5⟩, ⟨⟨d1, d2, d3, d4⟩, d5⟩, j1, j2, j3, j4⟩ := h
  have so : ∀ l k, l ∈ flL → k < (pl D l).length → ¬ TQf A Wn (tg l k) → So M M' ((pl D l).getD k 0) := fun l k hl hk hn => W.2.1.so3 hl hk F hn
  have e : ∀ l k, k < (pl D l).length → (pl D' l).getD k 0 = (pl D l).getD k 0 := fun l k hk => (dx.1 l k hk).2
  have f3 : ∀ l, l ∈ flL → (pl D l).length ≤ flX l := fun l hl => (W.2.1.1 l (flL_A l hl)).2.2
  have x98 := f3 98 (by decide)
  have x111 := f3 111 (by decide)
  have x112 := f3 112 (by decide)
  have x113 := f3 113 (by decide)
  have y98 : flX 98 = 96 := rfl
  have y111 : flX 111 = 120 := rfl
  have y112 : flX 112 = 200 := rfl
  have y113 : flX 113 = 12 := rfl
  have s115 : So M M' 115 := Fz.so F (by have := W.n167; omega) (fun z => by rw [tgo_s (by decide)] at z; unfold TQf tg at z; omega)
  have s114 : So M M' 114 := Fz.so F (by have := W.n167; omega) (fun z => by rw [tgo_s (by decide)] at z; unfold TQf tg at z; omega)
  refine ⟨fun u hu => ?_, ⟨⟨i1.2.1.trans b1, ((f 143 rfl).1).trans b2, b3, ?_⟩, fun k hk => ?_⟩, ⟨hA, fun k hk => ?_⟩, ⟨hW, fun k hk => ?_⟩, ⟨j1.1.mv (fun j => s115.a j) (f 155 rfl).2.2.1 (f 74 rfl).2.2.1 (f 75 rfl).2.2.1, by rw [(f 130 rfl).1]; exact j1.2.1, j1.2.2.mv ⟨i1.2.2.1, i1.2.2.2.1, i1.2.2.2.2⟩ (fun j => s114.x j) (fun k hk => (nk.1 k hk).1) (Nat.le_refl _) f (by decide)⟩, fun _ => i1.1.trans (j2 zz.1), ((f 161 rfl).1).trans j3, ((f 171 rfl).1).trans j4.1, hsm⟩
  · obtain ⟨x1, x2, x3⟩ := bv u hu
    have s := so 98 u (by decide) (by omega) (fun z => by unfold TQf tg at z; omega)
    refine ⟨x1.mv nk (Nat.le_refl _) (Nat.le_refl _) (by rw [e 98 u (by omega), s.r]) ((f 158 rfl).2.2.1 u), x2.mv nk (Nat.le_refl _) (Nat.le_refl _) (by rw [e 98 u (by omega), s.r]) ((f 159 rfl).2.2.1 u), ?_⟩
    have y := x3.mv (D' := D') (M' := M') (σ' := σ') (fun g _ => by rw [e 98 u (by omega), s.i]) ⟨(f 104 rfl).2.2.1 u, (f 160 rfl).2.2.1 u⟩
    exact ⟨y.1, fun z => absurd z zz.2, fun _ => y.2.2 zz.1⟩
  · by_cases q : E = 0
    · omega
    · have := (dx.1 111 (E - 1) (by omega)).1; omega
  · have s := so 111 k (by decide) (by omega) (fun z => by unfold TQf tg at z; omega)
    exact (b5 k hk).mv nk (Nat.le_refl _) (Nat.le_refl _) (fun g _ => by rw [e 111 k (by omega), s.r]) ⟨(f 141 rfl).2.2.1 k, (f 142 rfl).2.2.1 k⟩
  · by_cases q : k < A
    · have s := so 112 k (by decide) (by omega) (fun z => by unfold TQf tg at z; omega)
      exact (c5 k q).mv nk (Nat.le_refl _) (Nat.le_refl _) (fun g _ => by rw [e 112 k (by omega), s.i]) (by rw [e 112 k (by omega), s.r]) (fun g hg => tA' g hg k q)
    · exact hA2 k (by omega) hk
  · by_cases q : k < Wn
    · have s := so 113 k (by decide) (by omega) (fun z => by unfold TQf tg at z; omega)
      exact (d5 k q).mv nk (Nat.le_refl _) (Nat.le_refl _) hAA (fun g _ => by rw [e 113 k (by omega), s.i]) (by rw [e 113 k (by omega), s.r]) (fun g hg => tW g hg k q)
    · exact hW2 k (by omega) hk
theorem TQf.tw {t : Nat} (h : TQf A Wn t) : TW t := by unfold TQf tg at h; unfold TW tg; omega
theorem TQf.tG {t : Nat} (h : TQf A Wn t) : TG t := by unfold TQf tg at h; unfold TG; omega
/-- the frame of a table's writes, and the state of flattening -/
theorem BS.tq (h : BS zb z7 C B P mss fss V I Bm Lp x3 D M σ K N E A Wn) (F : Fq D (TQf A Wn) M M') (hp : PoW D' M') (dx : Dx D D' M) (rm : rmN D' M' ≤ rmN D M ∧ rmS D' M' ≤ rmS D M) (pp : ∀ i, i ≠ 112 → i ≠ 113 → pl D' i = pl D i) (i1 : (∀ f, f ≠ 37 → f ≠ 39 → mI M' f 1 = mI M f 1) ∧ ∀ f, mR M' f 1 = mR M f 1) (f : Ft tqS σ σ') : FSt 1 105 106 12000 1 z7 C B P mss fss D' M' σ' V I Bm K N Lp 0 x3 ∧ BTr V C P K N D M σ D' M' σ' := by
  have W := h.fw
  have hV := h.hV
  have h167 := W.n167
  have sI : ∀ o, o < 167 → o ≠ 1 → o ≠ 112 → o ≠ 113 → So M M' o := fun o ho h1 h2 h3 => Fz.so F (by omega) (fun z => by rw [tgo_s ho] at z; unfold TQf tg at z; omega)
  obtain ⟨W', v⟩ := W.mv2 (F.mono (fun t z => z.tG)) (i1.1 9 (by decide) (by decide)) hp dx rm (fun q hq => by
    have hq' := fixO q hq
    have : ∀ q, q ∈ bfR → q.2.1 ≠ 112 ∧ q.2.1 ≠ 113 := by decide +kernel
    exact (sI _ hq'.2 (by omega) (this q hq).1 (this q hq).2).r _) (fun q hq => by
    have hq' := fixI q hq
    have : ∀ q, q ∈ bfI → q.2.1 ≠ 112 ∧ q.2.1 ≠ 113 := by decide +kernel
    exact (sI _ hq'.2 (by omega) (this q hq).1 (this q hq).2).i _) f (by decide)
  have s98 : ∀ k, k < V → So M M' ((pl D 98).getD k 0) := fun k hk => W.2.1.so3 (by decide) (by omega) F (fun z => by unfold TQf tg at z; omega)
  exact h.1.bw ⟨rfl, rfl⟩ W' v F (fun t z => z.tw) (fun k hk => ⟨fun f _ => (s98 k hk).i f, fun f _ => (s98 k hk).r f⟩) dx ⟨fun f hf => i1.1 f (fun z => by rw [z] at hf; exact absurd hf (by decide)) (fun z => by rw [z] at hf; exact absurd hf (by decide)), i1.2⟩ ⟨pp 106 (by decide) (by decide), pp 109 (by decide) (by decide)⟩ f (by decide) (by decide) (by decide)
/-- plain writes at the tables' new objects: the state stands -/
theorem BS.wo (h : BS zb z7 C B P mss fss V I Bm Lp x3 D M σ K N E A Wn) (hz : zb ≠ 0) (hR : (l = 112 ∧ A ≤ R) ∨ (l = 113 ∧ Wn ≤ R)) (hl : R < (pl D l).length) (F : Fz (fun o => o = (pl D l).getD R 0) M M') (hs : mn M' = mn M ∧ ms M' = ms M) (hr : ∀ o, mR M' 2605 o = mR M 2605 o ∧ mR M' 4201 o = mR M 4201 o ∧ ml M' o = ml M o) (h3204 : ∀ o, mR M' 3204 o = mR M 3204 o) (f : Ft tqS σ σ') (tI0 : tI σ' 152 = tI σ 152 ∧ tI σ' 148 = tI σ 148) (tA' : ∀ g, g = 149 ∨ g = 150 ∨ g = 151 → ∀ k, k < A → tA σ' g k = tA σ g k) (tW : ∀ g, g = 145 ∨ g = 146 ∨ g = 147 → ∀ k, k < Wn → tA σ' g k = tA σ g k) : BS zb z7 C B P mss fss V I Bm Lp x3 D M' σ' K N E A Wn ∧ BTr V C P K N D M σ D M' σ' := by
  have W := h.fw
  have hlL : l ∈ flL := by rcases hR with ⟨rfl, -⟩ | ⟨rfl, -⟩ <;> decide
  obtain ⟨q1, q2, q3⟩ := W.2.1.2.1 l hlL R hl
  have fx := (W.2.1.1 l (flL_A l hlL)).2.2
  have fx2 : flX l ≤ 200 := by rcases hR with ⟨rfl, -⟩ | ⟨rfl, -⟩ <;> decide
  have l0 : l ≠ 0 ∧ l < 167 ∧ (l = 112 ∨ l = 113) := by omega
  have s1 : So M M' 1 := F.so (by have := W.n167; omega) (by omega)
  have hp : PoW D M' := W.2.1.wr W.n167 hlL hl F (fun _ => h3204 _) (fun _ => (hr _).1) (fun o h1 h2 => by omega)
  have fq : Fq D (TQf A Wn) M M' := F.mono (fun o ho z => by
    rw [z, W.2.1.tv hlL hl]
    unfold TQf tg
    rcases hR with ⟨rfl, hR⟩ | ⟨rfl, hR⟩ <;> omega)
  have rm := rm_same (D := D) hs hr
  obtain ⟨Fs', bt⟩ := h.tq fq hp (Dx.rf D M) (by rw [rm.1, rm.2]; exact ⟨Nat.le_refl _, Nat.le_refl _⟩) (fun _ _ _ => rfl) ⟨fun f _ _ => s1.i f, fun f => s1.r f⟩ f
  have c := h.2.2.2.1.1
  have dd := h.2.2.2.2.1.1
  exact ⟨⟨Fs', h.2.tb W h.hV bt.2.2.1 fq (Dx.rf D M) ⟨s1.i _, s1.i _, s1.i _, s1.i _, s1.i _⟩ f ⟨hz, hz⟩ ⟨by rw [s1.i]; exact c.1, by rw [tI0.1]; exact c.2.1, c.2.2.1, c.2.2.2⟩ (Nat.le_refl _) tA' (fun k h1 h2 => by omega) ⟨by rw [s1.i]; exact dd.1, by rw [tI0.2]; exact dd.2.1, dd.2.2.1, dd.2.2.2⟩ tW (fun k h1 h2 => by omega) (fun zz => (h.sm zz).mv bt.2.2.1.n4 (Nat.le_refl _) (Nat.le_refl _) (fun k _ => ⟨(f 141 rfl).2.2.1 k, (f 142 rfl).2.2.1 k⟩) (tA' 151 (Or.inr (Or.inr rfl))) (tW 145 (Or.inl rfl)))⟩, bt⟩
end TBLS
