/-! Layer B: what the twin's functions may write -/
set_option maxRecDepth 100000
/-- since σ nothing but the fields of S has changed -/
def Ft (S : List Nat) (σ σ' : TS) : Prop := ∀ k, S.contains k = false → tI σ' k = tI σ k ∧ tL σ' k = tL σ k ∧ (∀ i, tA σ' k i = tA σ k i) ∧ ∀ i, tB σ' k i = tB σ k i
theorem Ft.rf (S : List Nat) (σ : TS) : Ft S σ σ := fun _ _ => ⟨rfl, rfl, fun _ => rfl, fun _ => rfl⟩
theorem Ft.tr {S : List Nat} {σ1 σ2 σ3 : TS} (h : Ft S σ1 σ2) (g : Ft S σ2 σ3) : Ft S σ1 σ3 := fun k hk => ⟨(g k hk).1.trans (h k hk).1, (g k hk).2.1.trans (h k hk).2.1, fun i => ((g k hk).2.2.1 i).trans ((h k hk).2.2.1 i), fun i => ((g k hk).2.2.2 i).trans ((h k hk).2.2.2 i)⟩
theorem Ft.mono {S S' : List Nat} {σ σ' : TS} (h : Ft S σ σ') (hs : S.all S'.contains = true) : Ft S' σ σ' := by
  intro k hk
  refine h k ?_
  cases e : S.contains k with
  | false => rfl
  | true =>
    have e2 : k ∈ S := by simpa using e
    have e3 := List.all_eq_true.mp hs k e2
    rw [e3] at hk; cases hk
theorem FtR (S : List Nat) : S.all S.contains = true := by
  rw [List.all_eq_true]
  intro x hx
  simpa using hx
theorem fne {S : List Nat} {k j : Nat} (hk : S.contains k = true) (hj : S.contains j = false) : j ≠ k := fun e => by subst e; rw [hk] at hj; cases hj
theorem Ft.p_tsI {S : List Nat} {σ s : TS} (h : Ft S σ s) {k : Nat} {v : Int32} (hk : S.contains k = true) : Ft S σ (tsI s k v) := fun j hj => ⟨by rw [show tI (tsI s k v) j = if j = k then v else tI s j from rfl, if_neg (fne hk hj)]; exact (h j hj).1, (h j hj).2⟩
theorem Ft.p_tsL {S : List Nat} {σ s : TS} (h : Ft S σ s) {k : Nat} {v : Int64} (hk : S.contains k = true) : Ft S σ (tsL s k v) := fun j hj => ⟨(h j hj).1, by rw [show tL (tsL s k v) j = if j = k then v else tL s j from rfl, if_neg (fne hk hj)]; exact (h j hj).2.1, (h j hj).2.2⟩
theorem Ft.p_tsA {S : List Nat} {σ s : TS} (h : Ft S σ s) {k i : Nat} {v : Int32} (hk : S.contains k = true) : Ft S σ (tsA s k i v) := fun j hj => ⟨(h j hj).1, (h j hj).2.1, fun x => by rw [show tA (tsA s k i v) j x = if j = k ∧ x = i then v else tA s j x from rfl, if_neg (fun q => fne hk hj q.1)]; exact (h j hj).2.2.1 x, (h j hj).2.2.2⟩
theorem Ft.p_tsB {S : List Nat} {σ s : TS} (h : Ft S σ s) {k i : Nat} {v : Int64} (hk : S.contains k = true) : Ft S σ (tsB s k i v) := fun j hj => ⟨(h j hj).1, (h j hj).2.1, (h j hj).2.2.1, fun x => by rw [show tB (tsB s k i v) j x = if j = k ∧ x = i then v else tB s j x from rfl, if_neg (fun q => fne hk hj q.1)]; exact (h j hj).2.2.2 x⟩
def FS {α : Type} (S : List Nat) (σ0 : TS) (o : Option (α × TS)) : Prop := ∀ r σ', o = some (r, σ') → Ft S σ0 σ'
theorem FS.none {α : Type} {S : List Nat} {σ0 : TS} : FS S σ0 (none : Option (α × TS)) := fun _ _ h => by cases h
theorem FS.some {α : Type} {S : List Nat} {σ0 σ : TS} {r : α} (h : Ft S σ0 σ) : FS S σ0 (some (r, σ)) := fun _ _ e => by cases e; exact h
theorem FS.ite {α : Type} {S : List Nat} {σ0 : TS} {c : Prop} [Decidable c] {a b : Option (α × TS)} (h1 : FS S σ0 a) (h2 : FS S σ0 b) : FS S σ0 (if c then a else b) := by
  split
  · exact h1
  · exact h2
theorem FS.nmT {β : Type} {S : List Nat} {σ0 x : TS} {f : TS → Option (β × TS)} (hx : Ft S σ0 x) (h : ∀ s, Ft S σ0 s → FS S σ0 (f s)) : FS S σ0 (nm x f) := h x hx
theorem FS.nmV {α β : Type} {S : List Nat} {σ0 : TS} {x : α} {f : α → Option (β × TS)} (h : ∀ v, FS S σ0 (f v)) : FS S σ0 (nm x f) := h x
theorem FS.call {β : Type} {S S1 : List Nat} {σ0 s : TS} {o : Option (β × TS)} (hs : Ft S σ0 s) (h1 : FS S1 s o) (hm : S1.all S.contains = true) : FS S σ0 o := fun r σ' e => hs.tr ((h1 r σ' e).mono hm)
theorem FS.ob {α β : Type} {S S1 : List Nat} {σ0 s : TS} {o : Option (α × TS)} {k : α → TS → Option (β × TS)} (hs : Ft S σ0 s) (h1 : FS S1 s o) (hm : S1.all S.contains = true) (h2 : ∀ r s', Ft S σ0 s' → FS S σ0 (k r s')) : FS S σ0 (ob o k) := by
  intro r σ' e
  obtain ⟨a, t, e1, e2⟩ := obE e
  exact h2 a t (hs.tr ((h1 a t e1).mono hm)) r σ' e2
theorem FS.obS {α ρ β : Type} {S S1 : List Nat} {σ0 s : TS} {o : Option ((α ⊕ ρ) × TS)} {kr : ρ → TS → Option (β × TS)} {k : α → TS → Option (β × TS)} (hs : Ft S σ0 s) (h1 : FS S1 s o) (hm : S1.all S.contains = true) (h3 : ∀ r s', Ft S σ0 s' → FS S σ0 (kr r s')) (h2 : ∀ r s', Ft S σ0 s' → FS S σ0 (k r s')) : FS S σ0 (obS o kr k) := by
  intro r σ' e
  rcases obSE e with ⟨a, t, e1, e2⟩ | ⟨a, t, e1, e2⟩
  · exact h2 a t (hs.tr ((h1 _ t e1).mono hm)) r σ' e2
  · exact h3 a t (hs.tr ((h1 _ t e1).mono hm)) r σ' e2
def fs0 : List Nat := []
def fs1 : List Nat := [0, 1]
def fs2 : List Nat := [0, 1, 104, 160, 161, 170, 171]
def fs3 : List Nat := [0, 1, 104, 160, 161, 166, 168, 170, 171]
def fs4 : List Nat := [0, 1, 141, 142, 143]
def fs5 : List Nat := [182, 183, 184, 185, 186]
def fs6 : List Nat := [177, 178]
def fs7 : List Nat := [177, 178, 180, 181, 182, 183, 184, 185, 186]
def fs8 : List Nat := [10, 11, 15]
def fs9 : List Nat := [10, 11, 15, 17]
def fs10 : List Nat := [10, 11, 14]
def fs11 : List Nat := [10]
def fs12 : List Nat := [13, 21]
def fs13 : List Nat := [16]
def fs14 : List Nat := [10, 13, 21]
def fs15 : List Nat := [10, 11, 13, 16, 21]
def fs16 : List Nat := [10, 11, 12, 13, 14, 15, 16, 17, 18, 21]
def fs17 : List Nat := [24, 25, 26, 27, 28]
def fs18 : List Nat := [0, 1, 20]
def fs19 : List Nat := [0, 1, 10, 11, 12, 13, 14, 15, 16, 17, 18, 21]
def fs20 : List Nat := [0, 1, 10, 11, 12, 13, 14, 15, 16, 17, 18, 20, 21, 24, 25, 26, 27, 28]
def fs21 : List Nat := [10, 11, 12, 13, 14, 18]
def fs22 : List Nat := [29, 30, 31, 32, 33, 34]
def fs23 : List Nat := [0, 1, 10, 11, 12, 13, 14, 15, 16, 17, 18, 21, 32]
def fs24 : List Nat := [0, 1, 10, 11, 12, 13, 14, 15, 16, 17, 18, 21, 30, 31, 32]
def fs25 : List Nat := [0, 1, 10, 11, 12, 13, 14, 15, 16, 17, 18, 21, 29, 30, 31, 32, 33, 34]
def fs26 : List Nat := [0, 1, 10, 11, 12, 13, 14, 15, 16, 17, 18, 20, 21, 24, 25, 26, 27, 28, 29, 30, 31, 32, 33, 34]
def fs27 : List Nat := [191, 199, 200]
def fs28 : List Nat := [166, 167]
def fs29 : List Nat := [168, 169]
def fs30 : List Nat := [163]
def fs31 : List Nat := [235]
def fs32 : List Nat := [163, 165, 166, 167, 168, 169, 235]
def fs33 : List Nat := [0, 1, 127]
def fs34 : List Nat := [0, 1, 127, 131, 134]
def fs35 : List Nat := [0, 1, 125, 127, 131, 134]
def fs36 : List Nat := [0, 1, 121, 122, 123, 124, 125, 126, 127, 131, 134]
def fs37 : List Nat := [0, 1, 118, 119, 120]
def fs38 : List Nat := [0, 1, 118, 119, 120, 121, 122, 123, 124, 125, 126, 127, 131, 134, 135, 136, 137]
def fs39 : List Nat := [170, 171]
def fs40 : List Nat := [199]
def fs41 : List Nat := [200]
def fs42 : List Nat := [199, 200]
def fs43 : List Nat := [191, 193]
def fs44 : List Nat := [0, 1, 191, 199, 200]
def fs45 : List Nat := [192, 198, 206, 207]
def fs46 : List Nat := [0, 1, 191, 192, 193, 198, 199, 200, 205, 206, 207]
def fs47 : List Nat := [0, 1, 155]
def fs48 : List Nat := [0, 1, 118, 119, 120, 155]
def fs49 : List Nat := [0, 1, 104, 118, 119, 120, 121, 122, 123, 124, 125, 126, 127, 129, 131, 134, 135, 136, 137, 138, 160, 161, 170, 171]
def fs50 : List Nat := [0, 1, 118, 119, 120, 121, 122, 123, 124, 125, 126, 127, 131, 134, 135, 136, 137, 149, 150, 151, 152]
def fs51 : List Nat := [0, 1, 118, 119, 120, 121, 122, 123, 124, 125, 126, 127, 131, 134, 135, 136, 137, 145, 146, 147, 148, 149, 150, 151, 152]
def fs52 : List Nat := [0, 1, 104, 115, 116, 117, 118, 119, 120, 121, 122, 123, 124, 125, 126, 127, 129, 131, 133, 134, 135, 136, 137, 138, 141, 142, 143, 145, 146, 147, 148, 149, 150, 151, 152, 155, 160, 161, 170, 171]
def fs53 : List Nat := [0, 1, 10, 11, 12, 13, 14, 15, 16, 17, 18, 21, 54]
def fs54 : List Nat := [0, 1, 10, 11, 12, 13, 14, 15, 16, 17, 18, 20, 21, 24, 25, 26, 27, 28, 29, 30, 31, 32, 33, 34, 59, 60, 61, 62, 63, 64, 65]
def fs55 : List Nat := [0, 1, 10, 11, 12, 13, 14, 15, 16, 17, 18, 21, 52]
def fs56 : List Nat := [0, 1, 10, 11, 12, 13, 14, 15, 16, 17, 18, 20, 21, 24, 25, 26, 27, 28, 29, 30, 31, 32, 33, 34, 56]
def fs57 : List Nat := [0, 1, 10, 11, 12, 13, 14, 15, 16, 17, 18, 20, 21, 24, 25, 26, 27, 28, 29, 30, 31, 32, 33, 34, 55, 56, 59, 60, 61, 62, 63, 64, 65]
def fs58 : List Nat := [0, 1, 10, 11, 12, 13, 14, 15, 16, 17, 18, 20, 21, 24, 25, 26, 27, 28, 29, 30, 31, 32, 33, 34, 53, 55, 56, 59, 60, 61, 62, 63, 64, 65]
def fs59 : List Nat := [0, 1, 10, 11, 12, 13, 14, 15, 16, 17, 18, 20, 21, 24, 25, 26, 27, 28, 29, 30, 31, 32, 33, 34, 50, 53, 55, 56, 59, 60, 61, 62, 63, 64, 65]
def fs60 : List Nat := [0, 1, 10, 11, 12, 13, 14, 15, 16, 17, 18, 20, 21, 24, 25, 26, 27, 28, 29, 30, 31, 32, 33, 34, 50, 51, 53, 54, 55, 56, 59, 60, 61, 62, 63, 64, 65]
def fs61 : List Nat := [0, 1, 10, 11, 12, 13, 14, 15, 16, 17, 18, 20, 21, 24, 25, 26, 27, 28, 29, 30, 31, 32, 33, 34, 50, 51, 52, 53, 54, 55, 56, 59, 60, 61, 62, 63, 64, 65]
def fs62 : List Nat := [0, 1, 121, 122, 123, 124, 125, 126, 127, 131, 134, 141, 142, 143]
def fs63 : List Nat := [0, 1, 121, 122, 123, 124, 125, 126, 127, 131, 134, 141, 142, 143, 156, 157]
def fs64 : List Nat := [0, 1, 187, 188, 189, 190, 191, 197]
def fs65 : List Nat := [0, 1, 121, 122, 123, 124, 125, 126, 127, 131, 134, 187, 188, 189, 190, 191, 197]
def fs66 : List Nat := [201]
def fs67 : List Nat := [202]
def fs68 : List Nat := [201, 202]
def fs69 : List Nat := [0, 1, 121, 122, 123, 124, 125, 126, 127, 131, 134, 141, 142, 143, 180, 187, 188, 189, 190, 191, 194, 195, 197, 201, 202, 203]
def fs70 : List Nat := [46, 58]
def fs71 : List Nat := [0, 1, 10, 11, 12, 13, 14, 15, 16, 17, 18, 20, 21, 24, 25, 26, 27, 28, 29, 30, 31, 32, 33, 34, 46, 50, 51, 52, 53, 54, 55, 56, 57, 58, 59, 60, 61, 62, 63, 64, 65]
def fs72 : List Nat := [225]
def fs73 : List Nat := [0, 1, 225]
def fs74 : List Nat := [0, 1, 226]
def fs75 : List Nat := [0, 1, 225, 226]
def fs76 : List Nat := [7]
def fs77 : List Nat := [196, 218, 220]
def fs78 : List Nat := [211]
def fs79 : List Nat := [212]
def fs80 : List Nat := [213]
def fs81 : List Nat := [0, 1, 196, 208, 209, 210, 211, 212, 213, 214, 218, 220]
def fs82 : List Nat := [66, 67, 68, 69, 70, 72]
def fs83 : List Nat := [0, 1, 10, 11, 12, 13, 14, 15, 16, 17, 18, 20, 21, 24, 25, 26, 27, 28, 29, 30, 31, 32, 33, 34, 66, 67, 68, 69, 70, 72]
def fs84 : List Nat := [0, 1, 10, 11, 12, 13, 14, 15, 16, 17, 18, 20, 21, 24, 25, 26, 27, 28, 29, 30, 31, 32, 33, 34, 35, 37, 66, 67, 68, 69, 70, 71, 72, 73]
def fs85 : List Nat := [0, 1, 166]
def fs86 : List Nat := [0, 1, 104, 160, 161, 166, 170, 171]
def fs87 : List Nat := [0, 1, 104, 160, 161, 170, 171, 225]
def fs88 : List Nat := [0, 1, 104, 160, 161, 166, 170, 171, 222, 225, 226]
def fs89 : List Nat := [167]
def fs90 : List Nat := [169]
def fs91 : List Nat := [0, 1, 104, 160, 161, 163, 170, 171]
def fs92 : List Nat := [0, 1, 104, 160, 161, 170, 171, 236]
def fs93 : List Nat := [0, 1, 104, 160, 161, 166, 168, 170, 171, 239]
def fs94 : List Nat := [0, 1, 104, 160, 161, 163, 166, 168, 169, 170, 171, 222, 225, 226, 235, 236, 239]
def fs95 : List Nat := [0, 1, 104, 160, 161, 170, 171, 235]
def fs96 : List Nat := [0, 1, 104, 160, 161, 163, 166, 167, 168, 169, 170, 171, 222, 225, 226, 235, 236, 238, 239]
def fs97 : List Nat := [0, 2, 3]
def fs98 : List Nat := [4, 7]
def fs99 : List Nat := [90, 91, 92, 93]
def fs100 : List Nat := [100, 101]
def fs101 : List Nat := [0, 1, 102, 103]
def fs102 : List Nat := [0, 1, 93, 102, 103]
def fs103 : List Nat := [0, 1, 93, 98, 100, 101, 102, 103]
def fs104 : List Nat := [0, 1, 93, 95, 96, 97, 98, 99, 100, 101, 102, 103]
def fs105 : List Nat := [0, 1, 93, 94, 95, 96, 97, 98, 99, 100, 101, 102, 103]
def fs106 : List Nat := [0, 1, 93, 94, 95, 96, 97, 98, 99, 100, 101, 102, 103, 107]
def fs107 : List Nat := [0, 1, 74, 75, 76, 77, 78, 79, 82, 88]
def fs108 : List Nat := [0, 1, 74, 75, 76, 77, 78, 79, 82, 83, 84, 85, 86, 87, 88, 89, 90, 91, 92, 93, 94, 95, 96, 97, 98, 99, 100, 101, 102, 103, 107, 112, 113, 114, 132]
def fs109 : List Nat := [5]
def fs110 : List Nat := [5, 7, 8]
def fs111 : List Nat := [6, 9]
def fs112 : List Nat := [246]
def fs113 : List Nat := [247]
def fs114 : List Nat := [6]
def fs115 : List Nat := [6, 9, 176, 247]
def fs116 : List Nat := [6, 9, 176, 246, 247]
def fs117 : List Nat := [5, 6, 7, 8, 9, 176, 246, 247]
def fs118 : List Nat := [0, 1, 139, 140, 153, 154, 162]
def fs119 : List Nat := [0, 1, 104, 105, 160, 161, 170, 171]
def fs120 : List Nat := [155]
def fs121 : List Nat := [104, 158, 159, 160]
def fs122 : List Nat := [0, 1, 118, 119, 120, 121, 122, 123, 124, 125, 126, 127, 131, 134, 135, 136, 137, 158]
def fs123 : List Nat := [0, 1, 118, 119, 120, 121, 122, 123, 124, 125, 126, 127, 131, 134, 135, 136, 137, 141, 142, 143]
def fs124 : List Nat := [0, 1, 118, 119, 120, 121, 122, 123, 124, 125, 126, 127, 131, 134, 135, 136, 137, 159]
def fs125 : List Nat := [174, 175]
def fs126 : List Nat := [128, 129, 130, 174, 175]
def fs127 : List Nat := [0, 1, 104, 105, 128, 129, 130, 138, 160, 161, 170, 171, 174, 175]
def fs128 : List Nat := [0, 1, 104, 105, 118, 119, 120, 121, 122, 123, 124, 125, 126, 127, 128, 129, 130, 131, 134, 135, 136, 137, 138, 159, 160, 161, 170, 171, 174, 175]
def fs129 : List Nat := [0, 1, 104, 105, 118, 119, 120, 121, 122, 123, 124, 125, 126, 127, 128, 129, 130, 131, 134, 135, 136, 137, 138, 139, 140, 144, 153, 154, 159, 160, 161, 162, 170, 171, 174, 175]
def fs130 : List Nat := [0, 1, 104, 105, 118, 119, 120, 121, 122, 123, 124, 125, 126, 127, 128, 129, 130, 131, 134, 135, 136, 137, 138, 139, 140, 141, 142, 143, 144, 153, 154, 156, 157, 159, 160, 161, 162, 170, 171, 174, 175]
def fs131 : List Nat := [0, 1, 104, 105, 115, 116, 117, 118, 119, 120, 121, 122, 123, 124, 125, 126, 127, 128, 129, 130, 131, 133, 134, 135, 136, 137, 138, 139, 140, 141, 142, 143, 144, 145, 146, 147, 148, 149, 150, 151, 152, 153, 154, 155, 156, 157, 159, 160, 161, 162, 170, 171, 174, 175]
def fs132 : List Nat := [0, 1, 104, 105, 115, 116, 117, 118, 119, 120, 121, 122, 123, 124, 125, 126, 127, 128, 129, 130, 131, 133, 134, 135, 136, 137, 138, 139, 140, 141, 142, 143, 144, 145, 146, 147, 148, 149, 150, 151, 152, 153, 154, 155, 156, 157, 158, 159, 160, 161, 162, 170, 171, 174, 175]
def fs133 : List Nat := [0, 1, 74, 75, 76, 77, 78, 79, 82, 83, 84, 85, 86, 87, 88, 89, 90, 91, 92, 93, 94, 95, 96, 97, 98, 99, 100, 101, 102, 103, 104, 105, 107, 112, 113, 114, 115, 116, 117, 118, 119, 120, 121, 122, 123, 124, 125, 126, 127, 128, 129, 130, 131, 132, 133, 134, 135, 136, 137, 138, 139, 140, 141, 142, 143, 144, 145, 146, 147, 148, 149, 150, 151, 152, 153, 154, 155, 156, 157, 158, 159, 160, 161, 162, 170, 171, 174, 175]
def fs134 : List Nat := [0, 1, 2, 3, 5, 7, 8, 74, 75, 76, 77, 78, 79, 82, 83, 84, 85, 86, 87, 88, 89, 90, 91, 92, 93, 94, 95, 96, 97, 98, 99, 100, 101, 102, 103, 104, 105, 107, 108, 109, 110, 111, 112, 113, 114, 115, 116, 117, 118, 119, 120, 121, 122, 123, 124, 125, 126, 127, 128, 129, 130, 131, 132, 133, 134, 135, 136, 137, 138, 139, 140, 141, 142, 143, 144, 145, 146, 147, 148, 149, 150, 151, 152, 153, 154, 155, 156, 157, 158, 159, 160, 161, 162, 170, 171, 174, 175]
def fs135 : List Nat := [0, 1, 2, 3, 104, 110, 111, 160, 161, 163, 165, 166, 167, 168, 169, 170, 171, 222, 225, 226, 235, 236, 237, 238, 239]
def fs136 : List Nat := [172, 173]
def fs137 : List Nat := [170, 171, 172, 173]
def fs138 : List Nat := [228, 229]
def fs139 : List Nat := [230, 231]
def fs140 : List Nat := [233]
def fs141 : List Nat := [234]
def fs142 : List Nat := [228, 229, 230, 231, 232, 233, 234]
def fs143 : List Nat := [0, 1, 163, 165, 166, 167, 168, 169, 235]
def fs144 : List Nat := [0, 1, 104, 160, 161, 163, 165, 166, 167, 168, 169, 170, 171, 222, 225, 226, 228, 229, 230, 231, 232, 233, 234, 235]
def fs145 : List Nat := [0, 1, 2, 3, 104, 160, 161, 163, 165, 166, 167, 168, 169, 170, 171, 222, 225, 226, 228, 229, 230, 231, 232, 233, 234, 235]
def fs146 : List Nat := [0, 1, 10, 11, 12, 13, 14, 15, 16, 17, 18, 21, 36, 38]
def fs147 : List Nat := [0, 1, 10, 11, 12, 13, 14, 15, 16, 17, 18, 20, 21, 24, 25, 26, 27, 28, 29, 30, 31, 32, 33, 34, 38, 39, 40, 42, 43, 48]
def fs148 : List Nat := [0, 1, 10, 11, 12, 13, 14, 15, 16, 17, 18, 20, 21, 24, 25, 26, 27, 28, 29, 30, 31, 32, 33, 34, 36, 38, 39, 40, 42, 43, 48]
def fs149 : List Nat := [0, 1, 10, 11, 12, 13, 14, 15, 16, 17, 18, 20, 21, 24, 25, 26, 27, 28, 29, 30, 31, 32, 33, 34, 35, 37, 47, 66, 67, 68, 69, 70, 71, 72, 73]
def fs150 : List Nat := [0, 1, 10, 11, 12, 13, 14, 15, 16, 17, 18, 20, 21, 24, 25, 26, 27, 28, 29, 30, 31, 32, 33, 34, 35, 37, 41, 44, 45, 46, 47, 49, 50, 51, 52, 53, 54, 55, 56, 57, 58, 59, 60, 61, 62, 63, 64, 65, 66, 67, 68, 69, 70, 71, 72, 73]
def fs151 : List Nat := [0, 1, 10, 11, 12, 13, 14, 15, 16, 17, 18, 20, 21, 24, 25, 26, 27, 28, 29, 30, 31, 32, 33, 34, 35, 36, 37, 38, 39, 40, 41, 42, 43, 44, 45, 46, 47, 48, 49, 50, 51, 52, 53, 54, 55, 56, 57, 58, 59, 60, 61, 62, 63, 64, 65, 66, 67, 68, 69, 70, 71, 72, 73]
def fs152 : List Nat := [0, 2, 3, 19, 28, 34, 48, 49, 58, 65, 72]
def fs153 : List Nat := [0, 1, 2, 3, 19, 28, 34, 48, 49, 58, 65, 72]
def fs154 : List Nat := [0, 1, 2, 3, 5, 7, 8, 10, 11, 12, 13, 14, 15, 16, 17, 18, 19, 20, 21, 24, 25, 26, 27, 28, 29, 30, 31, 32, 33, 34, 35, 36, 37, 38, 39, 40, 41, 42, 43, 44, 45, 46, 47, 48, 49, 50, 51, 52, 53, 54, 55, 56, 57, 58, 59, 60, 61, 62, 63, 64, 65, 66, 67, 68, 69, 70, 71, 72, 73]
def fs155 : List Nat := [0, 1, 196, 208, 209, 210, 211, 212, 213, 214, 215, 216, 217, 218, 219, 220]
def fs156 : List Nat := [191]
def fs157 : List Nat := [196, 215, 218]
def fs158 : List Nat := [0, 1, 191, 196, 199, 200, 205, 208, 209, 210, 211, 212, 213, 214, 215, 216, 217, 218, 219, 220]
def fs159 : List Nat := [179]
def fs160 : List Nat := [0, 1, 179, 187, 188, 189, 190, 191, 197]
def fs161 : List Nat := [0, 1, 179, 187, 188, 189, 190, 191, 197, 204]
def fs162 : List Nat := [223, 224]
def fs163 : List Nat := [6, 9, 176]
def fs164 : List Nat := [241]
def fs165 : List Nat := [0, 1, 104, 160, 161, 166, 170, 171, 222, 225, 226, 241]
def fs166 : List Nat := [242]
def fs167 : List Nat := [0, 1, 104, 160, 161, 166, 170, 171, 222, 225, 226, 242]
def fs168 : List Nat := [243]
def fs169 : List Nat := [0, 1, 104, 160, 161, 166, 170, 171, 222, 225, 226, 243]
def fs170 : List Nat := [244]
def fs171 : List Nat := [0, 1, 104, 160, 161, 166, 170, 171, 222, 225, 226, 244]
def fs172 : List Nat := [240]
def fs173 : List Nat := [0, 1, 104, 160, 161, 165, 166, 170, 171, 222, 225, 226, 240, 241, 242, 243, 244]
def fs174 : List Nat := [0, 1, 104, 160, 161, 163, 165, 166, 167, 168, 169, 170, 171, 222, 225, 226, 235, 236, 237, 238, 239]
def fs175 : List Nat := [0, 1, 104, 160, 161, 163, 165, 166, 167, 168, 169, 170, 171, 222, 225, 226, 235, 240, 241, 242, 243, 244]
def fs176 : List Nat := [0, 1, 104, 160, 161, 163, 165, 166, 167, 168, 169, 170, 171, 222, 225, 226, 235, 236, 237, 238, 239, 240, 241, 242, 243, 244]
def fs177 : List Nat := [0, 1, 104, 160, 161, 163, 165, 166, 167, 168, 169, 170, 171, 222, 225, 226, 228, 229, 230, 231, 232, 233, 234, 235, 236, 237, 238, 239, 240, 241, 242, 243, 244]
def fs178 : List Nat := [6, 9, 170, 171]
def fs179 : List Nat := [6, 9, 170, 171, 176]
def fs180 : List Nat := [0, 1, 121, 122, 123, 124, 125, 126, 127, 131, 134, 141, 142, 143, 180, 187, 188, 189, 190, 191, 194, 195, 197, 199, 200, 201, 202, 203]
def fs181 : List Nat := [0, 1, 121, 122, 123, 124, 125, 126, 127, 131, 134, 141, 142, 143, 180, 187, 188, 189, 190, 191, 194, 195, 197, 199, 200, 201, 202, 203, 204]
def fs182 : List Nat := [0, 1, 121, 122, 123, 124, 125, 126, 127, 131, 134, 141, 142, 143, 180, 187, 188, 189, 190, 191, 194, 195, 197, 199, 200, 201, 202, 203, 204, 205]
def fs183 : List Nat := [0, 1, 2, 3, 104, 111, 160, 161, 163, 165, 166, 167, 168, 169, 170, 171, 222, 225, 226, 228, 229, 230, 231, 232, 233, 234, 235, 236, 237, 238, 239, 240, 241, 242, 243, 244]
def fs184 : List Nat := [160, 248, 249]
def fs185 : List Nat := [104, 105, 160]
def fs186 : List Nat := [0, 2, 3, 104, 105, 110, 111, 158, 160]
def fs187 : List Nat := [0, 1, 2, 3, 104, 105, 110, 111, 158, 160, 161, 170, 171]
def fs188 : List Nat := [0, 1, 2, 3, 104, 105, 110, 111, 158, 160, 161, 170, 171, 248, 249]
def fs189 : List Nat := [0, 1, 104, 160, 161, 163, 165, 166, 167, 168, 169, 170, 171, 222, 225, 226, 228, 229, 230, 231, 232, 233, 234, 235, 245]
def fs190 : List Nat := [141, 142, 194, 195, 196]
def fs191 : List Nat := [201, 202, 203]
def fs192 : List Nat := [0, 2, 3, 109, 221]
def fs193 : List Nat := [0, 1, 2, 3, 109, 191, 196, 199, 200, 205, 208, 209, 210, 211, 212, 213, 214, 215, 216, 217, 218, 219, 220, 221]
def fs194 : List Nat := [0, 1, 2, 3, 109, 191, 192, 193, 196, 198, 199, 200, 205, 206, 207, 208, 209, 210, 211, 212, 213, 214, 215, 216, 217, 218, 219, 220, 221]
def fs195 : List Nat := [0, 1, 2, 3, 109, 121, 122, 123, 124, 125, 126, 127, 131, 134, 141, 142, 143, 180, 187, 188, 189, 190, 191, 192, 193, 194, 195, 196, 197, 198, 199, 200, 201, 202, 203, 204, 205, 206, 207, 208, 209, 210, 211, 212, 213, 214, 215, 216, 217, 218, 219, 220, 221]
def fs196 : List Nat := [0, 1, 2, 3, 109, 110, 111, 121, 122, 123, 124, 125, 126, 127, 131, 134, 141, 142, 143, 177, 178, 179, 180, 181, 182, 183, 184, 185, 186, 187, 188, 189, 190, 191, 192, 193, 194, 195, 196, 197, 198, 199, 200, 201, 202, 203, 204, 205, 206, 207, 208, 209, 210, 211, 212, 213, 214, 215, 216, 217, 218, 219, 220, 221]
def fs197 : List Nat := [227]
def fs198 : List Nat := [0, 1, 104, 160, 161, 163, 165, 166, 167, 168, 169, 170, 171, 222, 225, 226, 227, 228, 229, 230, 231, 232, 233, 234, 235, 245]
def fs199 : List Nat := [0, 1, 2, 3, 163, 165, 166, 167, 168, 169, 222, 235]
def fs200 : List Nat := [0, 1, 2, 3, 104, 160, 161, 163, 165, 166, 167, 168, 169, 170, 171, 222, 225, 226, 227, 228, 229, 230, 231, 232, 233, 234, 235, 245]
abbrev sF_isBad : List Nat := fs0
abbrev sF_bad : List Nat := fs1
abbrev sF_derOf : List Nat := fs0
abbrev sF_preOf : List Nat := fs0
abbrev sF_fit : List Nat := fs1
abbrev sF_root : List Nat := fs1
abbrev sF_compare : List Nat := fs0
abbrev sF_isArithmetic : List Nat := fs0
abbrev sF_times : List Nat := fs1
abbrev sF_over : List Nat := fs1
abbrev sF_chainValue : List Nat := fs2
abbrev sF_finds : List Nat := fs2
abbrev sF_holds : List Nat := fs2
abbrev sF_parameter : List Nat := fs2
abbrev sF_valueOf : List Nat := fs2
abbrev sF_worth : List Nat := fs2
abbrev sF_act : List Nat := fs3
abbrev sF_addEquation : List Nat := fs4
abbrev sF_isVariable : List Nat := fs0
abbrev sF_alias : List Nat := fs0
abbrev sF_gather : List Nat := fs5
abbrev sF_isAlias : List Nat := fs5
abbrev sF_aliases : List Nat := fs7
abbrev sF_alike : List Nat := fs0
abbrev sF_isWord : List Nat := fs0
abbrev sF_byteAt : List Nat := fs0
abbrev sF_isWhite : List Nat := fs0
abbrev sF_isLetter : List Nat := fs0
abbrev sF_isDigit : List Nat := fs0
abbrev sF_isLong : List Nat := fs0
abbrev sF_readNumeral : List Nat := fs9
abbrev sF_readSign : List Nat := fs10
abbrev sF_next : List Nat := fs16
abbrev sF_node : List Nat := fs17
abbrev sF_isSign : List Nat := fs0
abbrev sF_deeper : List Nat := fs18
abbrev sF_cantStand : List Nat := fs1
abbrev sF_pass : List Nat := fs19
abbrev sF_sampleNumber : List Nat := fs19
abbrev sF_sample : List Nat := fs20
abbrev sF_isRelation : List Nat := fs0
abbrev sF_isGroup : List Nat := fs16
abbrev sF_passWord : List Nat := fs19
abbrev sF_isKey : List Nat := fs0
abbrev sF_isName : List Nat := fs0
abbrev sF_passName : List Nat := fs19
abbrev sF_newPart : List Nat := fs22
abbrev sF_passWhole : List Nat := fs19
abbrev sF_isFor : List Nat := fs0
abbrev sF_index : List Nat := fs24
abbrev sF_refFrom : List Nat := fs25
abbrev sF_ref : List Nat := fs25
abbrev sF_function : List Nat := fs0
abbrev sF_formal : List Nat := fs0
abbrev sF_ands : List Nat := fs26
abbrev sF_call : List Nat := fs26
abbrev sF_condition : List Nat := fs26
abbrev sF_expression : List Nat := fs26
abbrev sF_factor : List Nat := fs26
abbrev sF_opened : List Nat := fs26
abbrev sF_sum : List Nat := fs26
abbrev sF_term : List Nat := fs26
abbrev sF_test : List Nat := fs26
abbrev sF_isDue : List Nat := fs0
abbrev sF_anyDue : List Nat := fs0
abbrev sF_areSmall : List Nat := fs0
abbrev sF_isIn : List Nat := fs0
abbrev sF_counts : List Nat := fs0
abbrev sF_attempt : List Nat := fs27
abbrev sF_back : List Nat := fs32
abbrev sF_bitCount : List Nat := fs0
abbrev sF_block : List Nat := fs0
abbrev sF_isTwo : List Nat := fs0
abbrev sF_make : List Nat := fs36
abbrev sF_memberOf : List Nat := fs0
abbrev sF_innerOf : List Nat := fs1
abbrev sF_indexOf : List Nat := fs0
abbrev sF_instanceOf : List Nat := fs0
abbrev sF_resolve : List Nat := fs37
abbrev sF_variableOf : List Nat := fs37
abbrev sF_build : List Nat := fs38
abbrev sF_unitFrom : List Nat := fs0
abbrev sF_unitOf : List Nat := fs0
abbrev sF_part : List Nat := fs0
abbrev sF_chainUnit : List Nat := fs39
abbrev sF_unit : List Nat := fs39
abbrev sF_hasDer : List Nat := fs0
abbrev sF_isDerived : List Nat := fs0
abbrev sF_checkActions : List Nat := fs1
abbrev sF_unmark : List Nat := fs42
abbrev sF_chooseStates : List Nat := fs46
abbrev sF_classOf : List Nat := fs0
abbrev sF_classFor : List Nat := fs1
abbrev sF_faceOf : List Nat := fs37
abbrev sF_headOf : List Nat := fs0
abbrev sF_connect : List Nat := fs48
abbrev sF_truth : List Nat := fs49
abbrev sF_when : List Nat := fs51
abbrev sF_equationsOf : List Nat := fs52
abbrev sF_ownEquations : List Nat := fs52
abbrev sF_collect : List Nat := fs52
abbrev sF_flag : List Nat := fs0
abbrev sF_readUnit : List Nat := fs53
abbrev sF_path : List Nat := fs25
abbrev sF_modsOf : List Nat := fs54
abbrev sF_component : List Nat := fs61
abbrev sF_memberVariable : List Nat := fs0
abbrev sF_setEquations : List Nat := fs62
abbrev sF_connections : List Nat := fs63
abbrev sF_leafUnknown : List Nat := fs0
abbrev sF_contains : List Nat := fs0
abbrev sF_count : List Nat := fs0
abbrev sF_numeralNode : List Nat := fs36
abbrev sF_newUnknown : List Nat := fs64
abbrev sF_unknownNode : List Nat := fs36
abbrev sF_derived : List Nat := fs65
abbrev sF_printedSize : List Nat := fs0
abbrev sF_printedHeight : List Nat := fs0
abbrev sF_standsIn : List Nat := fs66
abbrev sF_learn : List Nat := fs68
abbrev sF_differentiate : List Nat := fs69
abbrev sF_differs : List Nat := fs2
abbrev sF_element : List Nat := fs71
abbrev sF_eliminate : List Nat := fs75
abbrev sF_end : List Nat := fs76
abbrev sF_straight : List Nat := fs0
abbrev sF_isLinear : List Nat := fs0
abbrev sF_endBlock : List Nat := fs81
abbrev sF_eq : List Nat := fs82
abbrev sF_orNone : List Nat := fs0
abbrev sF_equation : List Nat := fs0
abbrev sF_readWhen : List Nat := fs83
abbrev sF_sumOrIf : List Nat := fs26
abbrev sF_equations : List Nat := fs84
abbrev sF_readEquation : List Nat := fs84
abbrev sF_readFor : List Nat := fs84
abbrev sF_readIf : List Nat := fs84
abbrev sF_leftLessRight : List Nat := fs2
abbrev sF_solveLinear : List Nat := fs86
abbrev sF_partial : List Nat := fs2
abbrev sF_solveRounds : List Nat := fs88
abbrev sF_solveBlocks : List Nat := fs88
abbrev sF_event : List Nat := fs96
abbrev sF_fault : List Nat := fs0
abbrev sF_faulted : List Nat := fs97
abbrev sF_feed : List Nat := fs98
abbrev sF_has : List Nat := fs0
abbrev sF_isMeant : List Nat := fs0
abbrev sF_put : List Nat := fs99
abbrev sF_inherit : List Nat := fs99
abbrev sF_makeVariable : List Nat := fs106
abbrev sF_newInstance : List Nat := fs107
abbrev sF_leads : List Nat := fs1
abbrev sF_fill : List Nat := fs108
abbrev sF_makeMember : List Nat := fs108
abbrev sF_takeTape : List Nat := fs110
abbrev sF_letter : List Nat := fs111
abbrev sF_printName : List Nat := fs111
abbrev sF_printNumber : List Nat := fs111
abbrev sF_printIndex : List Nat := fs111
abbrev sF_printInstance : List Nat := fs111
abbrev sF_printVariable : List Nat := fs111
abbrev sF_letters : List Nat := fs116
abbrev sF_find : List Nat := fs117
abbrev sF_theClass : List Nat := fs0
abbrev sF_numberIn : List Nat := fs118
abbrev sF_numberAll : List Nat := fs118
abbrev sF_startOf : List Nat := fs119
abbrev sF_makeFlat : List Nat := fs133
abbrev sF_flat : List Nat := fs134
abbrev sF_hasHead : List Nat := fs0
abbrev sF_init_2 : List Nat := fs135
abbrev sF_isSomewhere : List Nat := fs0
abbrev sF_isUnlike : List Nat := fs0
abbrev sF_tell : List Nat := fs136
abbrev sF_judge : List Nat := fs137
abbrev sF_keep : List Nat := fs142
abbrev sF_slope : List Nat := fs144
abbrev sF_linear : List Nat := fs145
abbrev sF_newName : List Nat := fs19
abbrev sF_readFunction : List Nat := fs148
abbrev sF_readClass : List Nat := fs150
abbrev sF_load : List Nat := fs154
abbrev sF_walk : List Nat := fs155
abbrev sF_makeBlocks : List Nat := fs158
abbrev sF_makeUnknowns : List Nat := fs161
abbrev sF_member : List Nat := fs0
abbrev sF_method : List Nat := fs162
abbrev sF_move_241 : List Nat := fs85
abbrev sF_move_242 : List Nat := fs85
abbrev sF_move_243 : List Nat := fs85
abbrev sF_name : List Nat := fs163
abbrev sF_nextSize : List Nat := fs0
abbrev sF_octet : List Nat := fs0
abbrev sF_rates_241 : List Nat := fs165
abbrev sF_rates_242 : List Nat := fs167
abbrev sF_rates_243 : List Nat := fs169
abbrev sF_rates_244 : List Nat := fs171
abbrev sF_step : List Nat := fs173
abbrev sF_oneStep : List Nat := fs177
abbrev sF_tellText : List Nat := fs111
abbrev sF_printLeaf : List Nat := fs111
abbrev sF_printUnknown : List Nat := fs111
abbrev sF_printCall : List Nat := fs178
abbrev sF_printChain : List Nat := fs178
abbrev sF_printNode : List Nat := fs178
abbrev sF_print : List Nat := fs179
abbrev sF_reduce : List Nat := fs182
abbrev sF_relation : List Nat := fs0
abbrev sF_run : List Nat := fs183
abbrev sF_set : List Nat := fs188
abbrev sF_slopes : List Nat := fs189
abbrev sF_solve : List Nat := fs196
abbrev sF_steady : List Nat := fs200
abbrev sF_time : List Nat := fs0
abbrev sF_unknown : List Nat := fs0
abbrev sF_value : List Nat := fs2
abbrev sF_variable : List Nat := fs116
theorem le_fs0_fs1 : fs0.all fs1.contains = true := by decide +kernel
theorem le_fs0_fs2 : fs0.all fs2.contains = true := by decide +kernel
theorem le_fs1_fs2 : fs1.all fs2.contains = true := by decide +kernel
theorem le_fs0_fs3 : fs0.all fs3.contains = true := by decide +kernel
theorem le_fs2_fs3 : fs2.all fs3.contains = true := by decide +kernel
theorem le_fs0_fs4 : fs0.all fs4.contains = true := by decide +kernel
theorem le_fs1_fs4 : fs1.all fs4.contains = true := by decide +kernel
theorem le_fs5_fs7 : fs5.all fs7.contains = true := by decide +kernel
theorem le_fs6_fs7 : fs6.all fs7.contains = true := by decide +kernel
theorem le_fs0_fs9 : fs0.all fs9.contains = true := by decide +kernel
theorem le_fs8_fs9 : fs8.all fs9.contains = true := by decide +kernel
theorem le_fs0_fs10 : fs0.all fs10.contains = true := by decide +kernel
theorem le_fs0_fs11 : fs0.all fs11.contains = true := by decide +kernel
theorem le_fs0_fs13 : fs0.all fs13.contains = true := by decide +kernel
theorem le_fs12_fs14 : fs12.all fs14.contains = true := by decide +kernel
theorem le_fs14_fs15 : fs14.all fs15.contains = true := by decide +kernel
theorem le_fs0_fs15 : fs0.all fs15.contains = true := by decide +kernel
theorem le_fs0_fs16 : fs0.all fs16.contains = true := by decide +kernel
theorem le_fs10_fs16 : fs10.all fs16.contains = true := by decide +kernel
theorem le_fs12_fs16 : fs12.all fs16.contains = true := by decide +kernel
theorem le_fs9_fs16 : fs9.all fs16.contains = true := by decide +kernel
theorem le_fs13_fs16 : fs13.all fs16.contains = true := by decide +kernel
theorem le_fs15_fs16 : fs15.all fs16.contains = true := by decide +kernel
theorem le_fs11_fs16 : fs11.all fs16.contains = true := by decide +kernel
theorem le_fs1_fs18 : fs1.all fs18.contains = true := by decide +kernel
theorem le_fs0_fs19 : fs0.all fs19.contains = true := by decide +kernel
theorem le_fs1_fs19 : fs1.all fs19.contains = true := by decide +kernel
theorem le_fs16_fs19 : fs16.all fs19.contains = true := by decide +kernel
theorem le_fs19_fs20 : fs19.all fs20.contains = true := by decide +kernel
theorem le_fs17_fs20 : fs17.all fs20.contains = true := by decide +kernel
theorem le_fs16_fs20 : fs16.all fs20.contains = true := by decide +kernel
theorem le_fs0_fs20 : fs0.all fs20.contains = true := by decide +kernel
theorem le_fs18_fs20 : fs18.all fs20.contains = true := by decide +kernel
theorem le_fs21_fs16 : fs21.all fs16.contains = true := by decide +kernel
theorem le_fs16_fs23 : fs16.all fs23.contains = true := by decide +kernel
theorem le_fs19_fs23 : fs19.all fs23.contains = true := by decide +kernel
theorem le_fs0_fs24 : fs0.all fs24.contains = true := by decide +kernel
theorem le_fs16_fs24 : fs16.all fs24.contains = true := by decide +kernel
theorem le_fs19_fs24 : fs19.all fs24.contains = true := by decide +kernel
theorem le_fs1_fs24 : fs1.all fs24.contains = true := by decide +kernel
theorem le_fs23_fs24 : fs23.all fs24.contains = true := by decide +kernel
theorem le_fs0_fs25 : fs0.all fs25.contains = true := by decide +kernel
theorem le_fs16_fs25 : fs16.all fs25.contains = true := by decide +kernel
theorem le_fs19_fs25 : fs19.all fs25.contains = true := by decide +kernel
theorem le_fs22_fs25 : fs22.all fs25.contains = true := by decide +kernel
theorem le_fs24_fs25 : fs24.all fs25.contains = true := by decide +kernel
theorem le_fs0_fs26 : fs0.all fs26.contains = true := by decide +kernel
theorem le_fs16_fs26 : fs16.all fs26.contains = true := by decide +kernel
theorem le_fs17_fs26 : fs17.all fs26.contains = true := by decide +kernel
theorem le_fs19_fs26 : fs19.all fs26.contains = true := by decide +kernel
theorem le_fs1_fs26 : fs1.all fs26.contains = true := by decide +kernel
theorem le_fs18_fs26 : fs18.all fs26.contains = true := by decide +kernel
theorem le_fs25_fs26 : fs25.all fs26.contains = true := by decide +kernel
theorem le_fs22_fs26 : fs22.all fs26.contains = true := by decide +kernel
theorem le_fs20_fs26 : fs20.all fs26.contains = true := by decide +kernel
theorem le_fs0_fs27 : fs0.all fs27.contains = true := by decide +kernel
theorem le_fs28_fs32 : fs28.all fs32.contains = true := by decide +kernel
theorem le_fs29_fs32 : fs29.all fs32.contains = true := by decide +kernel
theorem le_fs30_fs32 : fs30.all fs32.contains = true := by decide +kernel
theorem le_fs31_fs32 : fs31.all fs32.contains = true := by decide +kernel
theorem le_fs1_fs33 : fs1.all fs33.contains = true := by decide +kernel
theorem le_fs33_fs34 : fs33.all fs34.contains = true := by decide +kernel
theorem le_fs1_fs34 : fs1.all fs34.contains = true := by decide +kernel
theorem le_fs34_fs35 : fs34.all fs35.contains = true := by decide +kernel
theorem le_fs0_fs35 : fs0.all fs35.contains = true := by decide +kernel
theorem le_fs1_fs36 : fs1.all fs36.contains = true := by decide +kernel
theorem le_fs35_fs36 : fs35.all fs36.contains = true := by decide +kernel
theorem le_fs1_fs37 : fs1.all fs37.contains = true := by decide +kernel
theorem le_fs0_fs37 : fs0.all fs37.contains = true := by decide +kernel
theorem le_fs0_fs38 : fs0.all fs38.contains = true := by decide +kernel
theorem le_fs36_fs38 : fs36.all fs38.contains = true := by decide +kernel
theorem le_fs1_fs38 : fs1.all fs38.contains = true := by decide +kernel
theorem le_fs37_fs38 : fs37.all fs38.contains = true := by decide +kernel
theorem le_fs0_fs39 : fs0.all fs39.contains = true := by decide +kernel
theorem le_fs40_fs42 : fs40.all fs42.contains = true := by decide +kernel
theorem le_fs41_fs42 : fs41.all fs42.contains = true := by decide +kernel
theorem le_fs0_fs44 : fs0.all fs44.contains = true := by decide +kernel
theorem le_fs42_fs44 : fs42.all fs44.contains = true := by decide +kernel
theorem le_fs27_fs44 : fs27.all fs44.contains = true := by decide +kernel
theorem le_fs1_fs44 : fs1.all fs44.contains = true := by decide +kernel
theorem le_fs43_fs46 : fs43.all fs46.contains = true := by decide +kernel
theorem le_fs44_fs46 : fs44.all fs46.contains = true := by decide +kernel
theorem le_fs45_fs46 : fs45.all fs46.contains = true := by decide +kernel
theorem le_fs0_fs47 : fs0.all fs47.contains = true := by decide +kernel
theorem le_fs1_fs47 : fs1.all fs47.contains = true := by decide +kernel
theorem le_fs37_fs48 : fs37.all fs48.contains = true := by decide +kernel
theorem le_fs0_fs48 : fs0.all fs48.contains = true := by decide +kernel
theorem le_fs47_fs48 : fs47.all fs48.contains = true := by decide +kernel
theorem le_fs38_fs49 : fs38.all fs49.contains = true := by decide +kernel
theorem le_fs0_fs49 : fs0.all fs49.contains = true := by decide +kernel
theorem le_fs2_fs49 : fs2.all fs49.contains = true := by decide +kernel
theorem le_fs38_fs50 : fs38.all fs50.contains = true := by decide +kernel
theorem le_fs0_fs50 : fs0.all fs50.contains = true := by decide +kernel
theorem le_fs1_fs50 : fs1.all fs50.contains = true := by decide +kernel
theorem le_fs37_fs50 : fs37.all fs50.contains = true := by decide +kernel
theorem le_fs1_fs51 : fs1.all fs51.contains = true := by decide +kernel
theorem le_fs38_fs51 : fs38.all fs51.contains = true := by decide +kernel
theorem le_fs50_fs51 : fs50.all fs51.contains = true := by decide +kernel
theorem le_fs0_fs52 : fs0.all fs52.contains = true := by decide +kernel
theorem le_fs1_fs52 : fs1.all fs52.contains = true := by decide +kernel
theorem le_fs38_fs52 : fs38.all fs52.contains = true := by decide +kernel
theorem le_fs4_fs52 : fs4.all fs52.contains = true := by decide +kernel
theorem le_fs48_fs52 : fs48.all fs52.contains = true := by decide +kernel
theorem le_fs49_fs52 : fs49.all fs52.contains = true := by decide +kernel
theorem le_fs51_fs52 : fs51.all fs52.contains = true := by decide +kernel
theorem le_fs19_fs53 : fs19.all fs53.contains = true := by decide +kernel
theorem le_fs16_fs53 : fs16.all fs53.contains = true := by decide +kernel
theorem le_fs0_fs53 : fs0.all fs53.contains = true := by decide +kernel
theorem le_fs1_fs25 : fs1.all fs25.contains = true := by decide +kernel
theorem le_fs0_fs54 : fs0.all fs54.contains = true := by decide +kernel
theorem le_fs16_fs54 : fs16.all fs54.contains = true := by decide +kernel
theorem le_fs25_fs54 : fs25.all fs54.contains = true := by decide +kernel
theorem le_fs19_fs54 : fs19.all fs54.contains = true := by decide +kernel
theorem le_fs26_fs54 : fs26.all fs54.contains = true := by decide +kernel
theorem le_fs0_fs55 : fs0.all fs55.contains = true := by decide +kernel
theorem le_fs16_fs55 : fs16.all fs55.contains = true := by decide +kernel
theorem le_fs1_fs55 : fs1.all fs55.contains = true := by decide +kernel
theorem le_fs19_fs56 : fs19.all fs56.contains = true := by decide +kernel
theorem le_fs16_fs56 : fs16.all fs56.contains = true := by decide +kernel
theorem le_fs26_fs56 : fs26.all fs56.contains = true := by decide +kernel
theorem le_fs54_fs57 : fs54.all fs57.contains = true := by decide +kernel
theorem le_fs0_fs57 : fs0.all fs57.contains = true := by decide +kernel
theorem le_fs56_fs57 : fs56.all fs57.contains = true := by decide +kernel
theorem le_fs19_fs58 : fs19.all fs58.contains = true := by decide +kernel
theorem le_fs57_fs58 : fs57.all fs58.contains = true := by decide +kernel
theorem le_fs19_fs59 : fs19.all fs59.contains = true := by decide +kernel
theorem le_fs0_fs59 : fs0.all fs59.contains = true := by decide +kernel
theorem le_fs57_fs59 : fs57.all fs59.contains = true := by decide +kernel
theorem le_fs16_fs59 : fs16.all fs59.contains = true := by decide +kernel
theorem le_fs58_fs59 : fs58.all fs59.contains = true := by decide +kernel
theorem le_fs1_fs59 : fs1.all fs59.contains = true := by decide +kernel
theorem le_fs0_fs60 : fs0.all fs60.contains = true := by decide +kernel
theorem le_fs19_fs60 : fs19.all fs60.contains = true := by decide +kernel
theorem le_fs59_fs60 : fs59.all fs60.contains = true := by decide +kernel
theorem le_fs16_fs60 : fs16.all fs60.contains = true := by decide +kernel
theorem le_fs53_fs60 : fs53.all fs60.contains = true := by decide +kernel
theorem le_fs55_fs61 : fs55.all fs61.contains = true := by decide +kernel
theorem le_fs60_fs61 : fs60.all fs61.contains = true := by decide +kernel
theorem le_fs0_fs36 : fs0.all fs36.contains = true := by decide +kernel
theorem le_fs0_fs62 : fs0.all fs62.contains = true := by decide +kernel
theorem le_fs36_fs62 : fs36.all fs62.contains = true := by decide +kernel
theorem le_fs4_fs62 : fs4.all fs62.contains = true := by decide +kernel
theorem le_fs0_fs63 : fs0.all fs63.contains = true := by decide +kernel
theorem le_fs62_fs63 : fs62.all fs63.contains = true := by decide +kernel
theorem le_fs1_fs64 : fs1.all fs64.contains = true := by decide +kernel
theorem le_fs0_fs65 : fs0.all fs65.contains = true := by decide +kernel
theorem le_fs36_fs65 : fs36.all fs65.contains = true := by decide +kernel
theorem le_fs64_fs65 : fs64.all fs65.contains = true := by decide +kernel
theorem le_fs66_fs68 : fs66.all fs68.contains = true := by decide +kernel
theorem le_fs67_fs68 : fs67.all fs68.contains = true := by decide +kernel
theorem le_fs1_fs69 : fs1.all fs69.contains = true := by decide +kernel
theorem le_fs65_fs69 : fs65.all fs69.contains = true := by decide +kernel
theorem le_fs0_fs69 : fs0.all fs69.contains = true := by decide +kernel
theorem le_fs68_fs69 : fs68.all fs69.contains = true := by decide +kernel
theorem le_fs0_fs70 : fs0.all fs70.contains = true := by decide +kernel
theorem le_fs1_fs71 : fs1.all fs71.contains = true := by decide +kernel
theorem le_fs0_fs71 : fs0.all fs71.contains = true := by decide +kernel
theorem le_fs61_fs71 : fs61.all fs71.contains = true := by decide +kernel
theorem le_fs70_fs71 : fs70.all fs71.contains = true := by decide +kernel
theorem le_fs16_fs71 : fs16.all fs71.contains = true := by decide +kernel
theorem le_fs19_fs71 : fs19.all fs71.contains = true := by decide +kernel
theorem le_fs54_fs71 : fs54.all fs71.contains = true := by decide +kernel
theorem le_fs0_fs73 : fs0.all fs73.contains = true := by decide +kernel
theorem le_fs1_fs73 : fs1.all fs73.contains = true := by decide +kernel
theorem le_fs72_fs73 : fs72.all fs73.contains = true := by decide +kernel
theorem le_fs0_fs74 : fs0.all fs74.contains = true := by decide +kernel
theorem le_fs1_fs74 : fs1.all fs74.contains = true := by decide +kernel
theorem le_fs73_fs75 : fs73.all fs75.contains = true := by decide +kernel
theorem le_fs74_fs75 : fs74.all fs75.contains = true := by decide +kernel
theorem le_fs0_fs80 : fs0.all fs80.contains = true := by decide +kernel
theorem le_fs77_fs81 : fs77.all fs81.contains = true := by decide +kernel
theorem le_fs78_fs81 : fs78.all fs81.contains = true := by decide +kernel
theorem le_fs79_fs81 : fs79.all fs81.contains = true := by decide +kernel
theorem le_fs80_fs81 : fs80.all fs81.contains = true := by decide +kernel
theorem le_fs1_fs81 : fs1.all fs81.contains = true := by decide +kernel
theorem le_fs0_fs83 : fs0.all fs83.contains = true := by decide +kernel
theorem le_fs25_fs83 : fs25.all fs83.contains = true := by decide +kernel
theorem le_fs19_fs83 : fs19.all fs83.contains = true := by decide +kernel
theorem le_fs26_fs83 : fs26.all fs83.contains = true := by decide +kernel
theorem le_fs82_fs83 : fs82.all fs83.contains = true := by decide +kernel
theorem le_fs16_fs83 : fs16.all fs83.contains = true := by decide +kernel
theorem le_fs0_fs84 : fs0.all fs84.contains = true := by decide +kernel
theorem le_fs26_fs84 : fs26.all fs84.contains = true := by decide +kernel
theorem le_fs19_fs84 : fs19.all fs84.contains = true := by decide +kernel
theorem le_fs82_fs84 : fs82.all fs84.contains = true := by decide +kernel
theorem le_fs1_fs84 : fs1.all fs84.contains = true := by decide +kernel
theorem le_fs83_fs84 : fs83.all fs84.contains = true := by decide +kernel
theorem le_fs16_fs84 : fs16.all fs84.contains = true := by decide +kernel
theorem le_fs25_fs84 : fs25.all fs84.contains = true := by decide +kernel
theorem le_fs18_fs84 : fs18.all fs84.contains = true := by decide +kernel
theorem le_fs0_fs85 : fs0.all fs85.contains = true := by decide +kernel
theorem le_fs1_fs85 : fs1.all fs85.contains = true := by decide +kernel
theorem le_fs2_fs86 : fs2.all fs86.contains = true := by decide +kernel
theorem le_fs0_fs86 : fs0.all fs86.contains = true := by decide +kernel
theorem le_fs85_fs86 : fs85.all fs86.contains = true := by decide +kernel
theorem le_fs0_fs87 : fs0.all fs87.contains = true := by decide +kernel
theorem le_fs2_fs87 : fs2.all fs87.contains = true := by decide +kernel
theorem le_fs1_fs87 : fs1.all fs87.contains = true := by decide +kernel
theorem le_fs85_fs88 : fs85.all fs88.contains = true := by decide +kernel
theorem le_fs0_fs88 : fs0.all fs88.contains = true := by decide +kernel
theorem le_fs75_fs88 : fs75.all fs88.contains = true := by decide +kernel
theorem le_fs87_fs88 : fs87.all fs88.contains = true := by decide +kernel
theorem le_fs1_fs88 : fs1.all fs88.contains = true := by decide +kernel
theorem le_fs86_fs88 : fs86.all fs88.contains = true := by decide +kernel
theorem le_fs0_fs30 : fs0.all fs30.contains = true := by decide +kernel
theorem le_fs0_fs91 : fs0.all fs91.contains = true := by decide +kernel
theorem le_fs2_fs91 : fs2.all fs91.contains = true := by decide +kernel
theorem le_fs2_fs92 : fs2.all fs92.contains = true := by decide +kernel
theorem le_fs0_fs93 : fs0.all fs93.contains = true := by decide +kernel
theorem le_fs3_fs93 : fs3.all fs93.contains = true := by decide +kernel
theorem le_fs0_fs94 : fs0.all fs94.contains = true := by decide +kernel
theorem le_fs31_fs94 : fs31.all fs94.contains = true := by decide +kernel
theorem le_fs1_fs94 : fs1.all fs94.contains = true := by decide +kernel
theorem le_fs90_fs94 : fs90.all fs94.contains = true := by decide +kernel
theorem le_fs92_fs94 : fs92.all fs94.contains = true := by decide +kernel
theorem le_fs93_fs94 : fs93.all fs94.contains = true := by decide +kernel
theorem le_fs88_fs94 : fs88.all fs94.contains = true := by decide +kernel
theorem le_fs91_fs94 : fs91.all fs94.contains = true := by decide +kernel
theorem le_fs2_fs95 : fs2.all fs95.contains = true := by decide +kernel
theorem le_fs89_fs96 : fs89.all fs96.contains = true := by decide +kernel
theorem le_fs90_fs96 : fs90.all fs96.contains = true := by decide +kernel
theorem le_fs30_fs96 : fs30.all fs96.contains = true := by decide +kernel
theorem le_fs94_fs96 : fs94.all fs96.contains = true := by decide +kernel
theorem le_fs88_fs96 : fs88.all fs96.contains = true := by decide +kernel
theorem le_fs0_fs96 : fs0.all fs96.contains = true := by decide +kernel
theorem le_fs95_fs96 : fs95.all fs96.contains = true := by decide +kernel
theorem le_fs1_fs101 : fs1.all fs101.contains = true := by decide +kernel
theorem le_fs0_fs101 : fs0.all fs101.contains = true := by decide +kernel
theorem le_fs101_fs102 : fs101.all fs102.contains = true := by decide +kernel
theorem le_fs100_fs103 : fs100.all fs103.contains = true := by decide +kernel
theorem le_fs102_fs103 : fs102.all fs103.contains = true := by decide +kernel
theorem le_fs103_fs104 : fs103.all fs104.contains = true := by decide +kernel
theorem le_fs104_fs105 : fs104.all fs105.contains = true := by decide +kernel
theorem le_fs0_fs106 : fs0.all fs106.contains = true := by decide +kernel
theorem le_fs105_fs106 : fs105.all fs106.contains = true := by decide +kernel
theorem le_fs1_fs106 : fs1.all fs106.contains = true := by decide +kernel
theorem le_fs1_fs107 : fs1.all fs107.contains = true := by decide +kernel
theorem le_fs0_fs108 : fs0.all fs108.contains = true := by decide +kernel
theorem le_fs1_fs108 : fs1.all fs108.contains = true := by decide +kernel
theorem le_fs99_fs108 : fs99.all fs108.contains = true := by decide +kernel
theorem le_fs107_fs108 : fs107.all fs108.contains = true := by decide +kernel
theorem le_fs106_fs108 : fs106.all fs108.contains = true := by decide +kernel
theorem le_fs109_fs110 : fs109.all fs110.contains = true := by decide +kernel
theorem le_fs0_fs111 : fs0.all fs111.contains = true := by decide +kernel
theorem le_fs111_fs115 : fs111.all fs115.contains = true := by decide +kernel
theorem le_fs113_fs115 : fs113.all fs115.contains = true := by decide +kernel
theorem le_fs114_fs115 : fs114.all fs115.contains = true := by decide +kernel
theorem le_fs112_fs116 : fs112.all fs116.contains = true := by decide +kernel
theorem le_fs115_fs116 : fs115.all fs116.contains = true := by decide +kernel
theorem le_fs0_fs116 : fs0.all fs116.contains = true := by decide +kernel
theorem le_fs110_fs117 : fs110.all fs117.contains = true := by decide +kernel
theorem le_fs116_fs117 : fs116.all fs117.contains = true := by decide +kernel
theorem le_fs1_fs118 : fs1.all fs118.contains = true := by decide +kernel
theorem le_fs0_fs118 : fs0.all fs118.contains = true := by decide +kernel
theorem le_fs2_fs119 : fs2.all fs119.contains = true := by decide +kernel
theorem le_fs0_fs122 : fs0.all fs122.contains = true := by decide +kernel
theorem le_fs38_fs122 : fs38.all fs122.contains = true := by decide +kernel
theorem le_fs0_fs123 : fs0.all fs123.contains = true := by decide +kernel
theorem le_fs36_fs123 : fs36.all fs123.contains = true := by decide +kernel
theorem le_fs38_fs123 : fs38.all fs123.contains = true := by decide +kernel
theorem le_fs4_fs123 : fs4.all fs123.contains = true := by decide +kernel
theorem le_fs0_fs124 : fs0.all fs124.contains = true := by decide +kernel
theorem le_fs38_fs124 : fs38.all fs124.contains = true := by decide +kernel
theorem le_fs0_fs119 : fs0.all fs119.contains = true := by decide +kernel
theorem le_fs125_fs126 : fs125.all fs126.contains = true := by decide +kernel
theorem le_fs119_fs127 : fs119.all fs127.contains = true := by decide +kernel
theorem le_fs126_fs127 : fs126.all fs127.contains = true := by decide +kernel
theorem le_fs124_fs128 : fs124.all fs128.contains = true := by decide +kernel
theorem le_fs127_fs128 : fs127.all fs128.contains = true := by decide +kernel
theorem le_fs0_fs128 : fs0.all fs128.contains = true := by decide +kernel
theorem le_fs1_fs128 : fs1.all fs128.contains = true := by decide +kernel
theorem le_fs0_fs129 : fs0.all fs129.contains = true := by decide +kernel
theorem le_fs118_fs129 : fs118.all fs129.contains = true := by decide +kernel
theorem le_fs128_fs129 : fs128.all fs129.contains = true := by decide +kernel
theorem le_fs0_fs130 : fs0.all fs130.contains = true := by decide +kernel
theorem le_fs63_fs130 : fs63.all fs130.contains = true := by decide +kernel
theorem le_fs129_fs130 : fs129.all fs130.contains = true := by decide +kernel
theorem le_fs0_fs131 : fs0.all fs131.contains = true := by decide +kernel
theorem le_fs52_fs131 : fs52.all fs131.contains = true := by decide +kernel
theorem le_fs130_fs131 : fs130.all fs131.contains = true := by decide +kernel
theorem le_fs123_fs131 : fs123.all fs131.contains = true := by decide +kernel
theorem le_fs2_fs131 : fs2.all fs131.contains = true := by decide +kernel
theorem le_fs120_fs132 : fs120.all fs132.contains = true := by decide +kernel
theorem le_fs121_fs132 : fs121.all fs132.contains = true := by decide +kernel
theorem le_fs122_fs132 : fs122.all fs132.contains = true := by decide +kernel
theorem le_fs131_fs132 : fs131.all fs132.contains = true := by decide +kernel
theorem le_fs108_fs133 : fs108.all fs133.contains = true := by decide +kernel
theorem le_fs1_fs133 : fs1.all fs133.contains = true := by decide +kernel
theorem le_fs132_fs133 : fs132.all fs133.contains = true := by decide +kernel
theorem le_fs110_fs134 : fs110.all fs134.contains = true := by decide +kernel
theorem le_fs0_fs134 : fs0.all fs134.contains = true := by decide +kernel
theorem le_fs133_fs134 : fs133.all fs134.contains = true := by decide +kernel
theorem le_fs97_fs134 : fs97.all fs134.contains = true := by decide +kernel
theorem le_fs1_fs134 : fs1.all fs134.contains = true := by decide +kernel
theorem le_fs28_fs135 : fs28.all fs135.contains = true := by decide +kernel
theorem le_fs29_fs135 : fs29.all fs135.contains = true := by decide +kernel
theorem le_fs30_fs135 : fs30.all fs135.contains = true := by decide +kernel
theorem le_fs31_fs135 : fs31.all fs135.contains = true := by decide +kernel
theorem le_fs96_fs135 : fs96.all fs135.contains = true := by decide +kernel
theorem le_fs0_fs135 : fs0.all fs135.contains = true := by decide +kernel
theorem le_fs97_fs135 : fs97.all fs135.contains = true := by decide +kernel
theorem le_fs39_fs137 : fs39.all fs137.contains = true := by decide +kernel
theorem le_fs0_fs137 : fs0.all fs137.contains = true := by decide +kernel
theorem le_fs136_fs137 : fs136.all fs137.contains = true := by decide +kernel
theorem le_fs138_fs142 : fs138.all fs142.contains = true := by decide +kernel
theorem le_fs139_fs142 : fs139.all fs142.contains = true := by decide +kernel
theorem le_fs140_fs142 : fs140.all fs142.contains = true := by decide +kernel
theorem le_fs141_fs142 : fs141.all fs142.contains = true := by decide +kernel
theorem le_fs0_fs143 : fs0.all fs143.contains = true := by decide +kernel
theorem le_fs1_fs143 : fs1.all fs143.contains = true := by decide +kernel
theorem le_fs32_fs143 : fs32.all fs143.contains = true := by decide +kernel
theorem le_fs142_fs144 : fs142.all fs144.contains = true := by decide +kernel
theorem le_fs1_fs144 : fs1.all fs144.contains = true := by decide +kernel
theorem le_fs0_fs144 : fs0.all fs144.contains = true := by decide +kernel
theorem le_fs88_fs144 : fs88.all fs144.contains = true := by decide +kernel
theorem le_fs143_fs144 : fs143.all fs144.contains = true := by decide +kernel
theorem le_fs144_fs145 : fs144.all fs145.contains = true := by decide +kernel
theorem le_fs0_fs145 : fs0.all fs145.contains = true := by decide +kernel
theorem le_fs97_fs145 : fs97.all fs145.contains = true := by decide +kernel
theorem le_fs0_fs146 : fs0.all fs146.contains = true := by decide +kernel
theorem le_fs19_fs146 : fs19.all fs146.contains = true := by decide +kernel
theorem le_fs1_fs146 : fs1.all fs146.contains = true := by decide +kernel
theorem le_fs16_fs146 : fs16.all fs146.contains = true := by decide +kernel
theorem le_fs19_fs147 : fs19.all fs147.contains = true := by decide +kernel
theorem le_fs26_fs147 : fs26.all fs147.contains = true := by decide +kernel
theorem le_fs0_fs147 : fs0.all fs147.contains = true := by decide +kernel
theorem le_fs19_fs148 : fs19.all fs148.contains = true := by decide +kernel
theorem le_fs146_fs148 : fs146.all fs148.contains = true := by decide +kernel
theorem le_fs147_fs148 : fs147.all fs148.contains = true := by decide +kernel
theorem le_fs16_fs148 : fs16.all fs148.contains = true := by decide +kernel
theorem le_fs0_fs148 : fs0.all fs148.contains = true := by decide +kernel
theorem le_fs1_fs148 : fs1.all fs148.contains = true := by decide +kernel
theorem le_fs0_fs149 : fs0.all fs149.contains = true := by decide +kernel
theorem le_fs19_fs149 : fs19.all fs149.contains = true := by decide +kernel
theorem le_fs16_fs149 : fs16.all fs149.contains = true := by decide +kernel
theorem le_fs84_fs149 : fs84.all fs149.contains = true := by decide +kernel
theorem le_fs0_fs150 : fs0.all fs150.contains = true := by decide +kernel
theorem le_fs71_fs150 : fs71.all fs150.contains = true := by decide +kernel
theorem le_fs149_fs150 : fs149.all fs150.contains = true := by decide +kernel
theorem le_fs16_fs150 : fs16.all fs150.contains = true := by decide +kernel
theorem le_fs19_fs150 : fs19.all fs150.contains = true := by decide +kernel
theorem le_fs1_fs150 : fs1.all fs150.contains = true := by decide +kernel
theorem le_fs0_fs151 : fs0.all fs151.contains = true := by decide +kernel
theorem le_fs1_fs151 : fs1.all fs151.contains = true := by decide +kernel
theorem le_fs150_fs151 : fs150.all fs151.contains = true := by decide +kernel
theorem le_fs148_fs151 : fs148.all fs151.contains = true := by decide +kernel
theorem le_fs0_fs152 : fs0.all fs152.contains = true := by decide +kernel
theorem le_fs97_fs152 : fs97.all fs152.contains = true := by decide +kernel
theorem le_fs0_fs153 : fs0.all fs153.contains = true := by decide +kernel
theorem le_fs152_fs153 : fs152.all fs153.contains = true := by decide +kernel
theorem le_fs1_fs153 : fs1.all fs153.contains = true := by decide +kernel
theorem le_fs110_fs154 : fs110.all fs154.contains = true := by decide +kernel
theorem le_fs16_fs154 : fs16.all fs154.contains = true := by decide +kernel
theorem le_fs151_fs154 : fs151.all fs154.contains = true := by decide +kernel
theorem le_fs153_fs154 : fs153.all fs154.contains = true := by decide +kernel
theorem le_fs0_fs155 : fs0.all fs155.contains = true := by decide +kernel
theorem le_fs81_fs155 : fs81.all fs155.contains = true := by decide +kernel
theorem le_fs157_fs155 : fs157.all fs155.contains = true := by decide +kernel
theorem le_fs156_fs158 : fs156.all fs158.contains = true := by decide +kernel
theorem le_fs44_fs158 : fs44.all fs158.contains = true := by decide +kernel
theorem le_fs155_fs158 : fs155.all fs158.contains = true := by decide +kernel
theorem le_fs64_fs160 : fs64.all fs160.contains = true := by decide +kernel
theorem le_fs0_fs64 : fs0.all fs64.contains = true := by decide +kernel
theorem le_fs159_fs161 : fs159.all fs161.contains = true := by decide +kernel
theorem le_fs160_fs161 : fs160.all fs161.contains = true := by decide +kernel
theorem le_fs1_fs161 : fs1.all fs161.contains = true := by decide +kernel
theorem le_fs64_fs161 : fs64.all fs161.contains = true := by decide +kernel
theorem le_fs0_fs163 : fs0.all fs163.contains = true := by decide +kernel
theorem le_fs111_fs163 : fs111.all fs163.contains = true := by decide +kernel
theorem le_fs0_fs165 : fs0.all fs165.contains = true := by decide +kernel
theorem le_fs88_fs165 : fs88.all fs165.contains = true := by decide +kernel
theorem le_fs164_fs165 : fs164.all fs165.contains = true := by decide +kernel
theorem le_fs0_fs167 : fs0.all fs167.contains = true := by decide +kernel
theorem le_fs88_fs167 : fs88.all fs167.contains = true := by decide +kernel
theorem le_fs166_fs167 : fs166.all fs167.contains = true := by decide +kernel
theorem le_fs0_fs169 : fs0.all fs169.contains = true := by decide +kernel
theorem le_fs88_fs169 : fs88.all fs169.contains = true := by decide +kernel
theorem le_fs168_fs169 : fs168.all fs169.contains = true := by decide +kernel
theorem le_fs0_fs171 : fs0.all fs171.contains = true := by decide +kernel
theorem le_fs88_fs171 : fs88.all fs171.contains = true := by decide +kernel
theorem le_fs170_fs171 : fs170.all fs171.contains = true := by decide +kernel
theorem le_fs85_fs167 : fs85.all fs167.contains = true := by decide +kernel
theorem le_fs172_fs173 : fs172.all fs173.contains = true := by decide +kernel
theorem le_fs165_fs173 : fs165.all fs173.contains = true := by decide +kernel
theorem le_fs85_fs173 : fs85.all fs173.contains = true := by decide +kernel
theorem le_fs167_fs173 : fs167.all fs173.contains = true := by decide +kernel
theorem le_fs0_fs173 : fs0.all fs173.contains = true := by decide +kernel
theorem le_fs88_fs173 : fs88.all fs173.contains = true := by decide +kernel
theorem le_fs169_fs173 : fs169.all fs173.contains = true := by decide +kernel
theorem le_fs171_fs173 : fs171.all fs173.contains = true := by decide +kernel
theorem le_fs96_fs174 : fs96.all fs174.contains = true := by decide +kernel
theorem le_fs0_fs174 : fs0.all fs174.contains = true := by decide +kernel
theorem le_fs32_fs174 : fs32.all fs174.contains = true := by decide +kernel
theorem le_fs0_fs175 : fs0.all fs175.contains = true := by decide +kernel
theorem le_fs32_fs175 : fs32.all fs175.contains = true := by decide +kernel
theorem le_fs173_fs175 : fs173.all fs175.contains = true := by decide +kernel
theorem le_fs2_fs175 : fs2.all fs175.contains = true := by decide +kernel
theorem le_fs0_fs176 : fs0.all fs176.contains = true := by decide +kernel
theorem le_fs32_fs176 : fs32.all fs176.contains = true := by decide +kernel
theorem le_fs173_fs176 : fs173.all fs176.contains = true := by decide +kernel
theorem le_fs174_fs176 : fs174.all fs176.contains = true := by decide +kernel
theorem le_fs175_fs176 : fs175.all fs176.contains = true := by decide +kernel
theorem le_fs0_fs177 : fs0.all fs177.contains = true := by decide +kernel
theorem le_fs142_fs177 : fs142.all fs177.contains = true := by decide +kernel
theorem le_fs173_fs177 : fs173.all fs177.contains = true := by decide +kernel
theorem le_fs2_fs177 : fs2.all fs177.contains = true := by decide +kernel
theorem le_fs176_fs177 : fs176.all fs177.contains = true := by decide +kernel
theorem le_fs1_fs177 : fs1.all fs177.contains = true := by decide +kernel
theorem le_fs111_fs178 : fs111.all fs178.contains = true := by decide +kernel
theorem le_fs0_fs178 : fs0.all fs178.contains = true := by decide +kernel
theorem le_fs111_fs179 : fs111.all fs179.contains = true := by decide +kernel
theorem le_fs178_fs179 : fs178.all fs179.contains = true := by decide +kernel
theorem le_fs0_fs180 : fs0.all fs180.contains = true := by decide +kernel
theorem le_fs156_fs180 : fs156.all fs180.contains = true := by decide +kernel
theorem le_fs69_fs180 : fs69.all fs180.contains = true := by decide +kernel
theorem le_fs42_fs180 : fs42.all fs180.contains = true := by decide +kernel
theorem le_fs27_fs180 : fs27.all fs180.contains = true := by decide +kernel
theorem le_fs64_fs180 : fs64.all fs180.contains = true := by decide +kernel
theorem le_fs0_fs181 : fs0.all fs181.contains = true := by decide +kernel
theorem le_fs180_fs181 : fs180.all fs181.contains = true := by decide +kernel
theorem le_fs156_fs182 : fs156.all fs182.contains = true := by decide +kernel
theorem le_fs181_fs182 : fs181.all fs182.contains = true := by decide +kernel
theorem le_fs177_fs183 : fs177.all fs183.contains = true := by decide +kernel
theorem le_fs0_fs183 : fs0.all fs183.contains = true := by decide +kernel
theorem le_fs97_fs183 : fs97.all fs183.contains = true := by decide +kernel
theorem le_fs0_fs186 : fs0.all fs186.contains = true := by decide +kernel
theorem le_fs185_fs186 : fs185.all fs186.contains = true := by decide +kernel
theorem le_fs97_fs186 : fs97.all fs186.contains = true := by decide +kernel
theorem le_fs119_fs187 : fs119.all fs187.contains = true := by decide +kernel
theorem le_fs186_fs187 : fs186.all fs187.contains = true := by decide +kernel
theorem le_fs0_fs188 : fs0.all fs188.contains = true := by decide +kernel
theorem le_fs184_fs188 : fs184.all fs188.contains = true := by decide +kernel
theorem le_fs2_fs188 : fs2.all fs188.contains = true := by decide +kernel
theorem le_fs187_fs188 : fs187.all fs188.contains = true := by decide +kernel
theorem le_fs0_fs189 : fs0.all fs189.contains = true := by decide +kernel
theorem le_fs144_fs189 : fs144.all fs189.contains = true := by decide +kernel
theorem le_fs72_fs189 : fs72.all fs189.contains = true := by decide +kernel
theorem le_fs0_fs191 : fs0.all fs191.contains = true := by decide +kernel
theorem le_fs68_fs191 : fs68.all fs191.contains = true := by decide +kernel
theorem le_fs0_fs192 : fs0.all fs192.contains = true := by decide +kernel
theorem le_fs97_fs192 : fs97.all fs192.contains = true := by decide +kernel
theorem le_fs0_fs193 : fs0.all fs193.contains = true := by decide +kernel
theorem le_fs158_fs193 : fs158.all fs193.contains = true := by decide +kernel
theorem le_fs192_fs193 : fs192.all fs193.contains = true := by decide +kernel
theorem le_fs1_fs193 : fs1.all fs193.contains = true := by decide +kernel
theorem le_fs0_fs194 : fs0.all fs194.contains = true := by decide +kernel
theorem le_fs46_fs194 : fs46.all fs194.contains = true := by decide +kernel
theorem le_fs193_fs194 : fs193.all fs194.contains = true := by decide +kernel
theorem le_fs0_fs195 : fs0.all fs195.contains = true := by decide +kernel
theorem le_fs182_fs195 : fs182.all fs195.contains = true := by decide +kernel
theorem le_fs194_fs195 : fs194.all fs195.contains = true := by decide +kernel
theorem le_fs190_fs196 : fs190.all fs196.contains = true := by decide +kernel
theorem le_fs67_fs196 : fs67.all fs196.contains = true := by decide +kernel
theorem le_fs7_fs196 : fs7.all fs196.contains = true := by decide +kernel
theorem le_fs161_fs196 : fs161.all fs196.contains = true := by decide +kernel
theorem le_fs191_fs196 : fs191.all fs196.contains = true := by decide +kernel
theorem le_fs195_fs196 : fs195.all fs196.contains = true := by decide +kernel
theorem le_fs0_fs72 : fs0.all fs72.contains = true := by decide +kernel
theorem le_fs0_fs197 : fs0.all fs197.contains = true := by decide +kernel
theorem le_fs85_fs198 : fs85.all fs198.contains = true := by decide +kernel
theorem le_fs0_fs198 : fs0.all fs198.contains = true := by decide +kernel
theorem le_fs88_fs198 : fs88.all fs198.contains = true := by decide +kernel
theorem le_fs189_fs198 : fs189.all fs198.contains = true := by decide +kernel
theorem le_fs72_fs198 : fs72.all fs198.contains = true := by decide +kernel
theorem le_fs75_fs198 : fs75.all fs198.contains = true := by decide +kernel
theorem le_fs197_fs198 : fs197.all fs198.contains = true := by decide +kernel
theorem le_fs0_fs199 : fs0.all fs199.contains = true := by decide +kernel
theorem le_fs1_fs199 : fs1.all fs199.contains = true := by decide +kernel
theorem le_fs32_fs199 : fs32.all fs199.contains = true := by decide +kernel
theorem le_fs97_fs199 : fs97.all fs199.contains = true := by decide +kernel
theorem le_fs142_fs200 : fs142.all fs200.contains = true := by decide +kernel
theorem le_fs198_fs200 : fs198.all fs200.contains = true := by decide +kernel
theorem le_fs199_fs200 : fs199.all fs200.contains = true := by decide +kernel
