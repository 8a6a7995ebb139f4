/-! Layer B: an element is read -/
set_option maxRecDepth 100000
/-- a new Element with its unit and its row -/
def elM (M : CM) : CM := msR (msR (msI (mnew (msR (mnew (msI (mnew M 11 0 8) 2003 (mn M) (-1)) 50 3 3) 2005 (mn M) (mn M + 1)) 22 0 3) 4200 (mn M + 2) 0) 4201 (mn M + 2) 4398046511104) 2006 (mn M) (mn M + 2)
section ELEMENT
variable {C : PC} {M M' M0 Mb : CM} {σ σ' σ0 σb s1 : TS} {i dep c s n so ib depb cb' sb' nb' i0 v l p w m Q Q' N k k0 el le e K fl sz cc E0 cur ce a : Nat} {bs qs bs' os es : List Nat}
theorem elM_ok (M : CM) (h6 : mn M ≤ 601024) : Fz none_ M (elM M) ∧ mn (elM M) = mn M + 3 ∧ ms (elM M) = ms M + 14 ∧ mk (elM M) (mn M) = 11 ∧ (mk (elM M) (mn M + 1) = 50 ∧ ml (elM M) (mn M + 1) = 3 ∧ ∀ j, mA (elM M) (mn M + 1) j = 0) ∧ (mR (elM M) 2005 (mn M) = mn M + 1 ∧ mR (elM M) 2006 (mn M) = mn M + 2 ∧ mR (elM M) 2007 (mn M) = 0) ∧ (∀ g, g ≠ 2003 → mI (elM M) g (mn M) = 0) ∧ mI (elM M) 2003 (mn M) = -1 ∧ LsB M (elM M) (mn M + 2) [] ∧ mR (elM M) 4201 (mn M + 2) = 4398046511104 := by
  have n1 : mn (mnew M 11 0 8) = mn M + 1 := rfl
  have n2 : mn (msR (mnew (msI (mnew M 11 0 8) 2003 (mn M) (-1)) 50 3 3) 2005 (mn M) (mn M + 1)) = mn M + 2 := rfl
  have n3 : mn (msI (mnew M 11 0 8) 2003 (mn M) (-1)) = mn M + 1 := rfl
  have k : ∀ o, mk (elM M) o = mk (mnew (mnew (mnew M 11 0 8) 50 3 3) 22 0 3) o := fun _ => rfl
  have k2 : mn (mnew (mnew M 11 0 8) 50 3 3) = mn M + 2 := rfl
  have h42 : mR (elM M) 4201 (mn M + 2) = 4398046511104 := by unfold elM; rw [mR_msR, ifF (by omega), mR_msR, ifT ⟨rfl, rfl⟩]
  have F1 : Fz none_ M (msI (mnew M 11 0 8) 2003 (mn M) (-1)) := Fz.rf.mnew.msI (fun z => by omega)
  have F2 : Fz none_ M (msR (mnew (msI (mnew M 11 0 8) 2003 (mn M) (-1)) 50 3 3) 2005 (mn M) (mn M + 1)) := F1.mnew.msR (fun z => by omega)
  refine ⟨((F2.mnew.msI (fun z => by omega)).msR (fun z => by omega)).msR (fun z => by omega), rfl, rfl, ?_, ⟨?_, ?_, fun j => ?_⟩, ⟨?_, ?_, ?_⟩, fun g hg => ?_, ?_, ⟨⟨?_, ?_, by decide, fun i hi => absurd hi (Nat.not_lt_zero _), Or.inl ⟨h42, rfl⟩⟩, ⟨by omega, by show mn M + 2 < mn M + 3; omega⟩, by rw [h42]; omega, fun z => absurd h42 z⟩, h42⟩
  · rw [k, mk_mnew, ifF (by omega), mk_mnew, ifF (by omega), mk_mnew, ifT rfl]
  · rw [k, mk_mnew, ifF (by omega), mk_mnew, ifT (by omega)]
  · show ml (mnew (mnew (mnew M 11 0 8) 50 3 3) 22 0 3) (mn M + 1) = 3
    rw [ml_mnew, ifF (by omega), ml_mnew, ifT (by omega)]
  · show mA (mnew (mnew (mnew M 11 0 8) 50 3 3) 22 0 3) (mn M + 1) j = 0
    rw [mA_mnew, ifF (by omega), mA_mnew, ifT (by omega)]
  · unfold elM
    rw [mR_msR, ifF (by omega), mR_msR, ifF (by omega)]
    show mR (mnew (msR (mnew (msI (mnew M 11 0 8) 2003 (mn M) (-1)) 50 3 3) 2005 (mn M) (mn M + 1)) 22 0 3) 2005 (mn M) = mn M + 1
    rw [mR_mnew, ifF (by omega), mR_msR, ifT ⟨rfl, rfl⟩]
  · unfold elM; rw [mR_msR, ifT ⟨rfl, rfl⟩]
  · unfold elM
    rw [mR_msR, ifF (by omega), mR_msR, ifF (by omega)]
    show mR (mnew (msR (mnew (msI (mnew M 11 0 8) 2003 (mn M) (-1)) 50 3 3) 2005 (mn M) (mn M + 1)) 22 0 3) 2007 (mn M) = 0
    rw [mR_mnew, ifF (by omega), mR_msR, ifF (by omega), mR_mnew, ifF (by omega)]
    show mR (mnew M 11 0 8) 2007 (mn M) = 0
    rw [mR_mnew, ifT rfl]
  · show mI (msI (mnew (msR (mnew (msI (mnew M 11 0 8) 2003 (mn M) (-1)) 50 3 3) 2005 (mn M) (mn M + 1)) 22 0 3) 4200 (mn M + 2) 0) g (mn M) = 0
    rw [mI_msI, ifF (by omega), mI_mnew, ifF (by omega), mI_msR, mI_mnew, ifF (by omega), mI_msI, ifF (fun z => hg z.1), mI_mnew, ifT rfl]
  · show mI (msI (mnew (msR (mnew (msI (mnew M 11 0 8) 2003 (mn M) (-1)) 50 3 3) 2005 (mn M) (mn M + 1)) 22 0 3) 4200 (mn M + 2) 0) 2003 (mn M) = -1
    rw [mI_msI, ifF (by omega), mI_mnew, ifF (by omega), mI_msR, mI_mnew, ifF (by omega), mI_msI, ifT ⟨rfl, rfl⟩]
  · rw [k, mk_mnew, ifT (by omega)]
  · show mI (msI (mnew (msR (mnew (msI (mnew M 11 0 8) 2003 (mn M) (-1)) 50 3 3) 2005 (mn M) (mn M + 1)) 22 0 3) 4200 (mn M + 2) 0) 4202 (mn M + 2) = nI 0
    rw [mI_msI, ifF (by omega), mI_mnew, ifT (by omega)]; rfl
theorem el_al {γ : Type} (M : CM) (KK : Nat → CM → Option γ) (hc : mn M + 3 ≤ 601024 ∧ ms M + 16 ≤ 7293034) (h0 : 167 ≤ mn M) : (if mn M ≤ 601024 ∧ ms M + 8 ≤ 7293034 then nm (mn M) fun v2 => nm (mnew M 11 0 8) fun M3 => if ¬ v2 = 0 then ob (K_X11_init v2 M3) fun _ M5 => KK v2 M5 else none else none) = KK (mn M) (elM M) := by
  have n1 : mn (mnew M 11 0 8) = mn M + 1 := rfl
  have s1 : ms (mnew M 11 0 8) = ms M + 8 := rfl
  have n2 : mn (msR (mnew (msI (mnew M 11 0 8) 2003 (mn M) (-1)) 50 3 3) 2005 (mn M) (mn M + 1)) = mn M + 2 := rfl
  have s2 : ms (msR (mnew (msI (mnew M 11 0 8) 2003 (mn M) (-1)) 50 3 3) 2005 (mn M) (mn M + 1)) = ms M + 11 := rfl
  have n3 : mn (msI (mnew M 11 0 8) 2003 (mn M) (-1)) = mn M + 1 := rfl
  have s3 : ms (msI (mnew M 11 0 8) 2003 (mn M) (-1)) = ms M + 8 := rfl
  have k11 : mk (mnew M 11 0 8) (mn M) = 11 := by rw [mk_mnew, ifT rfl]
  have k2 : mk (mnew (msI (mnew M 11 0 8) 2003 (mn M) (-1)) 50 3 3) (mn M) = 11 := by rw [mk_mnew, ifF (by omega)]; exact k11
  have kl : mk (mnew (msR (mnew (msI (mnew M 11 0 8) 2003 (mn M) (-1)) 50 3 3) 2005 (mn M) (mn M + 1)) 22 0 3) (mn M + 2) = 22 := by rw [mk_mnew, ifT (by omega)]
  have si : mI (mnew (msR (mnew (msI (mnew M 11 0 8) 2003 (mn M) (-1)) 50 3 3) 2005 (mn M) (mn M + 1)) 22 0 3) 4202 (mn M + 2) = 0 := by rw [mI_mnew, ifT (by omega)]
  obtain ⟨l1, l2⟩ := ls_init kl (by omega) si
  have k3 : mk (msR (msI (mnew (msR (mnew (msI (mnew M 11 0 8) 2003 (mn M) (-1)) 50 3 3) 2005 (mn M) (mn M + 1)) 22 0 3) 4200 (mn M + 2) 0) 4201 (mn M + 2) 4398046511104) (mn M) = 11 := by
    show mk (mnew (msR (mnew (msI (mnew M 11 0 8) 2003 (mn M) (-1)) 50 3 3) 2005 (mn M) (mn M + 1)) 22 0 3) (mn M) = 11
    rw [mk_mnew, ifF (by omega)]; exact k2
  have e3 : ix 3 = 3 := rfl
  unfold K_X11_init
  rw [ifT ⟨by omega, by omega⟩, nm_eq, nm_eq, ifT (by omega), ifT (by omega), ifT k11, nm_eq, e3, ifT ⟨by decide, by omega, by omega⟩, nm_eq, nm_eq, n3, ifT k2, nm_eq, ifT ⟨by omega, by omega⟩, nm_eq, nm_eq, n2, ifT (by omega), l1, ob_some, ifT k3, nm_eq, ob_some]
  rfl
end ELEMENT
