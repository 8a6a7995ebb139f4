/-! Layer B: flat nodes: the component makes one -/
set_option maxRecDepth 100000
/-- the rows of nodes: the set, its row, the most, the highest -/
def NdL (x0 l X H : Nat) : Prop := (x0 = 105 ∧ l = 106 ∧ X = 12000 ∧ H = 100) ∨ (x0 = 107 ∧ l = 108 ∧ X = 1000 ∧ H = 100) ∨ (x0 = 133 ∧ l = 134 ∧ X = 40000 ∧ H = 200) ∨ (x0 = 135 ∧ l = 136 ∧ X = 30000 ∧ H = 300)
/-- a node's fields -/
def nd1 (M : CM) (a : Nat) (op vl : Int32) (c1 c2 c3 : Nat) : CM := msR (msR (msR (msI (msI (msI (msI M 3400 a op) 3401 a vl) 3402 a 0) 3403 a (-1)) 3405 a c1) 3406 a c2) 3407 a c3
def ndM (M : CM) (a : Nat) (op vl : Int32) (c1 c2 c3 h1 h2 h3 : Nat) : CM := msI (msI (msI (msI (nd1 M a op vl c1 c2 c3) 3404 a 1) 3404 a (nI h1)) 3404 a (nI h2)) 3404 a (nI h3)
def mx (p q : Nat) : Nat := if p < q then q else p
section KMAKE
variable {D D' D2 : FQ} {M M' M1 M2 M3 : CM} {a c1 c2 c3 t1 t2 t3 h1 h2 h3 x0 l X H K k : Nat} {op vl : Int32}
theorem ndM_f : Fz (fun o => o = a) M (ndM M a op vl c1 c2 c3 h1 h2 h3) := by
  unfold ndM nd1
  exact (((((((((((Fz.rf (X := fun o => o = a)).msI (fun _ => rfl)).msI (fun _ => rfl)).msI (fun _ => rfl)).msI (fun _ => rfl)).msR (fun _ => rfl)).msR (fun _ => rfl)).msR (fun _ => rfl)).msI (fun _ => rfl)).msI (fun _ => rfl)).msI (fun _ => rfl)).msI (fun _ => rfl)
theorem ndM_v : (mI (ndM M a op vl c1 c2 c3 h1 h2 h3) 3400 a = op ∧ mI (ndM M a op vl c1 c2 c3 h1 h2 h3) 3401 a = vl ∧ mI (ndM M a op vl c1 c2 c3 h1 h2 h3) 3402 a = 0 ∧ mI (ndM M a op vl c1 c2 c3 h1 h2 h3) 3403 a = -1 ∧ mI (ndM M a op vl c1 c2 c3 h1 h2 h3) 3404 a = nI h3 ∧ mR (ndM M a op vl c1 c2 c3 h1 h2 h3) 3405 a = c1 ∧ mR (ndM M a op vl c1 c2 c3 h1 h2 h3) 3406 a = c2 ∧ mR (ndM M a op vl c1 c2 c3 h1 h2 h3) 3407 a = c3) ∧ (∀ o, mk (ndM M a op vl c1 c2 c3 h1 h2 h3) o = mk M o ∧ ml (ndM M a op vl c1 c2 c3 h1 h2 h3) o = ml M o ∧ mR (ndM M a op vl c1 c2 c3 h1 h2 h3) 2605 o = mR M 2605 o ∧ mR (ndM M a op vl c1 c2 c3 h1 h2 h3) 4201 o = mR M 4201 o) ∧ mn (ndM M a op vl c1 c2 c3 h1 h2 h3) = mn M ∧ ms (ndM M a op vl c1 c2 c3 h1 h2 h3) = ms M := by
  unfold ndM nd1
  refine ⟨⟨?_, ?_, ?_, ?_, ?_, ?_, ?_, ?_⟩, fun o => ⟨rfl, rfl, ?_, ?_⟩, rfl, rfl⟩
  all_goals simp [mR_msR, mR_msI, mI_msI, mI_msR]
/-- a child's height -/
def ChH (M : CM) (a c t : Nat) : Prop := (c = 0 ∧ t = 0) ∨ (c ≠ 0 ∧ mk M c = 18 ∧ c ≠ a ∧ mI M 3404 c = nI t ∧ t ≤ 1000)
theorem k_set (ka : mk M a = 18) (g1 : ChH M a c1 t1) (g2 : ChH M a c2 t2) (g3 : ChH M a c3 t3) : K_X18_set a op vl c1 c2 c3 M = some (a, ndM M a op vl c1 c2 c3 (mx 1 (t1 + 1)) (mx (mx 1 (t1 + 1)) (t2 + 1)) (mx (mx (mx 1 (t1 + 1)) (t2 + 1)) (t3 + 1))) := by
  obtain ⟨Ma, hMa⟩ : ∃ N, N = msI (nd1 M a op vl c1 c2 c3) 3404 a 1 := ⟨_, rfl⟩
  have k1 : ∀ o, mk (nd1 M a op vl c1 c2 c3) o = mk M o := fun o => rfl
  have t1000 : ∀ {c t : Nat}, ChH M a c t → t ≤ 1000 := fun h => by
    rcases h with ⟨_, h⟩ | ⟨_, _, _, _, h⟩ <;> omega
  have b1 := t1000 g1
  have b2 := t1000 g2
  have b3 := t1000 g3
  -- other nodes' heights stay
  have oth : ∀ (N : CM) (c : Nat) (v : Int32), c ≠ a → mI (msI N 3404 a v) 3404 c = mI N 3404 c := fun N c v h => by rw [mI_msI, ifF (fun z => h z.2)]
  have own : ∀ (N : CM) (v : Int32), mI (msI N 3404 a v) 3404 a = v := fun N v => by rw [mI_msI, ifT ⟨rfl, rfl⟩]
  have nd : ∀ c, mI (nd1 M a op vl c1 c2 c3) 3404 c = mI M 3404 c := fun c => by
    unfold nd1
    rw [mI_msR, mI_msR, mI_msR, mI_msI, ifF (by omega), mI_msI, ifF (by omega), mI_msI, ifF (by omega), mI_msI, ifF (by omega)]
  have mx1 : ∀ p q : Nat, p ≤ mx p q ∧ q ≤ mx p q ∧ (mx p q = p ∨ mx p q = q) := fun p q => by
    unfold mx
    by_cases z : p < q
    · rw [ifT z]; omega
    · rw [ifF z]; omega
  -- the last child
  have s3 : ∀ (N : CM) (h : Nat), (∀ o, mk N o = mk M o) → (∀ c, c ≠ a → mI N 3404 c = mI M 3404 c) → h ≤ 1001 → KJ_X18_set_106 a c3 a (nI h) N = some (a, msI (msI N 3404 a (nI h)) 3404 a (nI (mx h (t3 + 1)))) ∨ h = 0 := fun N h hk hh hl => by
    by_cases h0 : h = 0
    · exact Or.inr h0
    left
    unfold KJ_X18_set_106
    have ka2 : mk (msI N 3404 a (nI h)) a = 18 := by rw [mk_msI, hk]; exact ka
    rw [ifT (by rw [hk]; exact ka), nm_eq]
    rcases g3 with ⟨z1, z2⟩ | ⟨z1, z2, z3, z4, z5⟩
    · have e : mx h (t3 + 1) = h := by unfold mx; rw [z2, ifF (by omega)]
      rw [ifT z1, ifT ka2, ifT ka2, own, nm_eq, e]
    · have kc2 : mk (msI N 3404 a (nI h)) c3 = 18 := by rw [mk_msI, hk]; exact z2
      rw [ifF z1, ifT kc2, ifT ka2, oth _ _ _ z3, hh _ z3, z4, own]
      unfold mx
      by_cases y : t3 < h
      · rw [ifT ((bI_lt (by omega) (by omega)).mpr y), ifT ka2, ifT ka2, nm_eq, ifF (by omega)]
      · rw [ifF (fun z => y ((bI_lt (by omega) (by omega)).mp z)), ifT kc2, ifT ka2, nI_addL, nm_eq, ifT (by omega)]
  -- the second
  have s2 : ∀ (N : CM) (h : Nat), (∀ o, mk N o = mk M o) → (∀ c, c ≠ a → mI N 3404 c = mI M 3404 c) → h ≤ 1001 → 1 ≤ h → KJ_X18_set_71 a c2 c3 a (nI h) N = some (a, msI (msI (msI N 3404 a (nI h)) 3404 a (nI (mx h (t2 + 1)))) 3404 a (nI (mx (mx h (t2 + 1)) (t3 + 1)))) := fun N h hk hh hl h1 => by
    have fin := s3 (msI N 3404 a (nI h)) (mx h (t2 + 1)) (fun o => by rw [mk_msI]; exact hk o) (fun c hc => by rw [oth _ _ _ hc]; exact hh c hc) (by have := mx1 h (t2 + 1); omega)
    have fin := fin.resolve_right (by have := mx1 h (t2 + 1); omega)
    unfold KJ_X18_set_71
    have ka2 : mk (msI N 3404 a (nI h)) a = 18 := by rw [mk_msI, hk]; exact ka
    have k102 : KJ_X18_set_102 a c3 a (msI N 3404 a (nI h)) = KJ_X18_set_106 a c3 a (nI h) (msI N 3404 a (nI h)) := by
      unfold KJ_X18_set_102
      rw [ifT ka2, own]
    rw [ifT (by rw [hk]; exact ka), nm_eq]
    rcases g2 with ⟨z1, z2⟩ | ⟨z1, z2, z3, z4, z5⟩
    · have e : mx h (t2 + 1) = h := by unfold mx; rw [z2, ifF (by omega)]
      rw [e] at fin ⊢
      rw [ifT z1, k102]; exact fin
    · have kc2 : mk (msI N 3404 a (nI h)) c2 = 18 := by rw [mk_msI, hk]; exact z2
      rw [ifF z1, ifT kc2, ifT ka2, oth _ _ _ z3, hh _ z3, z4, own]
      by_cases y : t2 < h
      · have e : mx h (t2 + 1) = h := by unfold mx; rw [ifF (by omega)]
        rw [e] at fin ⊢
        rw [ifT ((bI_lt (by omega) (by omega)).mpr y), k102]; exact fin
      · have e : mx h (t2 + 1) = t2 + 1 := by unfold mx; rw [ifT (by omega)]
        rw [e] at fin ⊢
        rw [ifF (fun z => y ((bI_lt (by omega) (by omega)).mp z)), ifT kc2, nI_addL]; exact fin
  unfold K_X18_set
  have kk : ∀ N : CM, (∀ o, mk N o = mk M o) → mk N a = 18 := fun N h => by rw [h]; exact ka
  rw [ifT ka, nm_eq, mk_msI, ifT ka, nm_eq, mk_msI, mk_msI, ifT ka, nm_eq, mk_msI, mk_msI, mk_msI, ifT ka, nm_eq, mk_msI, mk_msI, mk_msI, mk_msI, ifT ka, nm_eq, mk_msR, mk_msI, mk_msI, mk_msI, mk_msI, ifT ka, nm_eq, mk_msR, mk_msR, mk_msI, mk_msI, mk_msI, mk_msI, ifT ka, nm_eq, mk_msR, mk_msR, mk_msR, mk_msI, mk_msI, mk_msI, mk_msI, ifT ka, nm_eq]
  show (if c1 = 0 then KJ_X18_set_67 a c2 c3 a (msI (nd1 M a op vl c1 c2 c3) 3404 a 1) else if mk (msI (nd1 M a op vl c1 c2 c3) 3404 a 1) c1 = 18 then if mk (msI (nd1 M a op vl c1 c2 c3) 3404 a 1) a = 18 then if mI (msI (nd1 M a op vl c1 c2 c3) 3404 a 1) 3404 c1 < mI (msI (nd1 M a op vl c1 c2 c3) 3404 a 1) 3404 a then KJ_X18_set_67 a c2 c3 a (msI (nd1 M a op vl c1 c2 c3) 3404 a 1) else if mk (msI (nd1 M a op vl c1 c2 c3) 3404 a 1) c1 = 18 then KJ_X18_set_71 a c2 c3 a ((mI (msI (nd1 M a op vl c1 c2 c3) 3404 a 1) 3404 c1) + 1) (msI (nd1 M a op vl c1 c2 c3) 3404 a 1) else none else none else none) = _
  have fin := s2 (msI (nd1 M a op vl c1 c2 c3) 3404 a 1) (mx 1 (t1 + 1)) (fun o => rfl) (fun c hc => by rw [oth _ _ _ hc, nd]) (by have := mx1 1 (t1 + 1); omega) (mx1 1 (t1 + 1)).1
  have k67 : KJ_X18_set_67 a c2 c3 a (msI (nd1 M a op vl c1 c2 c3) 3404 a 1) = KJ_X18_set_71 a c2 c3 a (nI 1) (msI (nd1 M a op vl c1 c2 c3) 3404 a 1) := by
    unfold KJ_X18_set_67
    rw [ifT (show mk (msI (nd1 M a op vl c1 c2 c3) 3404 a 1) a = 18 from ka), own]; rfl
  have un : some (a, ndM M a op vl c1 c2 c3 (mx 1 (t1 + 1)) (mx (mx 1 (t1 + 1)) (t2 + 1)) (mx (mx (mx 1 (t1 + 1)) (t2 + 1)) (t3 + 1))) = KJ_X18_set_71 a c2 c3 a (nI (mx 1 (t1 + 1))) (msI (nd1 M a op vl c1 c2 c3) 3404 a 1) := by rw [fin]; rfl
  rw [un]
  rcases g1 with ⟨z1, z2⟩ | ⟨z1, z2, z3, z4, z5⟩
  · have e : mx 1 (t1 + 1) = 1 := by unfold mx; rw [z2, ifF (by omega)]
    rw [ifT z1, k67, e]
  · rw [ifF z1, ifT (show mk (msI (nd1 M a op vl c1 c2 c3) 3404 a 1) c1 = 18 from z2), ifT (show mk (msI (nd1 M a op vl c1 c2 c3) 3404 a 1) a = 18 from ka), oth _ _ _ z3, nd, z4, own]
    by_cases y : t1 < 1
    · have e : mx 1 (t1 + 1) = 1 := by unfold mx; rw [ifF (by omega)]
      rw [ifT (show nI t1 < 1 from by rw [show (1 : Int32) = nI 1 from rfl, bI_lt (by omega) (by decide)]; exact y), k67, e]
    · have e : mx 1 (t1 + 1) = t1 + 1 := by unfold mx; rw [ifT (by omega)]
      rw [ifF (show ¬ nI t1 < 1 from by rw [show (1 : Int32) = nI 1 from rfl, bI_lt (by omega) (by decide)]; exact y), ifT (show mk (msI (nd1 M a op vl c1 c2 c3) 3404 a 1) c1 = 18 from z2), nI_addL, e]
end KMAKE
