/-! L56: a Land made -/
/-- a list made and put into a field -/
def zLs (h : zSt) (x f : Nat) : zSt := (hN h + 2, fun y => if y = hN h then some (2, 0) else if y = hN h + 1 then some (68, 1) else hK h y, fun y k => if y = x ∧ k = f then some (hN h) else if y = hN h ∧ k = 1 then some (hN h + 1) else if y = hN h ∨ y = hN h + 1 then none else jF h y k, fun y k => if y = hN h ∨ y = hN h + 1 then 0 else hI h y k, fun y k => if y = hN h ∨ y = hN h + 1 then 0 else hL h y k)
section L56
variable {h : zSt} {x kx f c len a : Nat}
theorem fr_of {s : zSt} (h1 : hK s (hN s) = none) (h2 : 600 ≤ hN s) : zfree s = true := by
  unfold zfree
  rw [h1]
  simp
  omega
theorem F_J2_init_ok {lst cap : Nat} {s : zSt} (hc : 0 < cap) (hc2 : cap ≤ 1000) (k : hK s lst = some (2, 0)) (h6 : 600 ≤ lst) (h7 : lst < hN s) (hf : hK s (hN s) = none) : F_J2_init lst (nI cap) s = some ((1, cap), zsF (znA (zsI s (zu (hI s) lst 0 0)) 68 cap) (zu (jF (znA (zsI s (zu (hI s) lst 0 0)) 68 cap)) lst 1 (some (hN s)))) := by
  have hz : ¬ nI cap ≤ 0 := nI_nle hc (by omega)
  have ha : zarrn (nI cap) = true := by
    unfold zarrn
    rw [nI_c (by omega)]
    simp only [Bool.and_eq_true, Bool.not_eq_true', decide_eq_false_iff_not, decide_eq_true_eq]
    exact ⟨nI_pos (by omega), by omega⟩
  have e1 : F_J1_init lst s = some ((0, 0), zsI s (zu (hI s) lst 0 0)) := by
    unfold F_J1_init F_J0_init
    rw [zc1_e, zka_eq k, decide_eq_true h6, zg_true]
    rfl
  have hf2 : zfree (zsI s (zu (hI s) lst 0 0)) = true := fr_of hf (by show 600 ≤ hN s; omega)
  have k2 : hK (znA (zsI s (zu (hI s) lst 0 0)) 68 cap) lst = some (2, 0) := by
    show zu1 (hK s) (hN s) _ lst = _
    rw [zu1_off (by omega)]
    exact k
  unfold F_J2_init
  rw [e1, zc1_e, if_neg hz, ha, zg_true, nI_c (by omega), hf2, zg_true, zlet_e, zlet_e, zka_eq k2, decide_eq_true h6, zg_true, zlet_e]
  simp only [zpay_e, Nat.zero_add, Nat.add_zero]
  rfl
theorem zNew_ls (z : zNew h x kx) : zNew (zLs h x f) x kx := by
  obtain ⟨z1, z2, z3, z4⟩ := z
  refine ⟨?_, ?_, z3, fun y hy => ?_⟩
  · show (if x = hN h then _ else if x = hN h + 1 then _ else _) = _
    rw [if_neg (by omega), if_neg (by omega)]; exact z1
  · show x < hN h + 2; omega
  · have hy' : hN h + 2 ≤ y := hy
    show (if y = hN h then _ else if y = hN h + 1 then _ else _) = _
    rw [if_neg (by omega), if_neg (by omega)]
    exact z4 y (by omega)
/-- the code of it -/
theorem zLs_ok (z : zNew h x kx) (hk : kx = 1) {R : Type} (k : zSt → Option ((Nat × Nat) × R)) : zpay (1, 3) (zg (zfree h) (zlet (hN h) (fun o => zlet (znA h 2 0) (fun h1 => zc1 (F_J2_init o 1 h1) (fun c h2 => zpay c (zka (hK h2) x kx (fun _ => zlet (zsF h2 (zu (jF h2) x f (some o))) k))))))) = zpay (1, 3) (zpay (1, 1) (k (zLs h x f))) := by
  obtain ⟨z1, z2, z3, z4⟩ := z
  have fr : zfree h = true := fr_of (z4 _ (Nat.le_refl _)) (by omega)
  have e1 := F_J2_init_ok (lst := hN h) (cap := 1) (s := znA h 2 0) (by decide) (by decide) zu1_same (by omega) (Nat.lt_succ_self _) (by
    show zu1 (hK h) (hN h) _ (hN h + 1) = _
    rw [zu1_off (by omega)]
    exact z4 _ (by omega))
  rw [show nI 1 = 1 from rfl] at e1
  rw [fr, zg_true, zlet_e, zlet_e, e1, zc1_e]
  have kx1 : hK (zsF (znA (zsI (znA h 2 0) (zu (hI (znA h 2 0)) (hN h) 0 0)) 68 1) (zu (jF (znA (zsI (znA h 2 0) (zu (hI (znA h 2 0)) (hN h) 0 0)) 68 1)) (hN h) 1 (some (hN (znA h 2 0))))) x = some (kx, 0) := by
    show zu1 (zu1 (hK h) (hN h) _) (hN h + 1) _ x = _
    rw [zu1_off (by omega), zu1_off (by omega)]
    exact z1
  rw [zka_eq kx1, zlet_e]
  have e2 : ∀ s, zsF (zsF (znA (zsI (znA h 2 0) (zu (hI (znA h 2 0)) (hN h) 0 0)) 68 1) (zu (jF (znA (zsI (znA h 2 0) (zu (hI (znA h 2 0)) (hN h) 0 0)) 68 1)) (hN h) 1 (some (hN (znA h 2 0))))) (zu (jF (zsF (znA (zsI (znA h 2 0) (zu (hI (znA h 2 0)) (hN h) 0 0)) 68 1) (zu (jF (znA (zsI (znA h 2 0) (zu (hI (znA h 2 0)) (hN h) 0 0)) 68 1)) (hN h) 1 (some (hN (znA h 2 0)))))) x f (some (hN h))) = s → s = zLs h x f := by
    rintro s rfl
    refine Prod.ext rfl (Prod.ext (funext fun y => ?_) (Prod.ext (funext fun y => funext fun k => ?_) (Prod.ext (funext fun y => funext fun k => ?_) (funext fun y => funext fun k => ?_))))
    · show zu1 (zu1 (hK h) (hN h) _) (hN h + 1) _ y = if y = hN h then _ else if y = hN h + 1 then _ else _
      unfold zu1
      by_cases c1 : y = hN h
      · rw [if_pos c1, if_neg (by omega), if_pos c1]
      · rw [if_neg c1]
        by_cases c2 : y = hN h + 1
        · simp only [if_pos c2, if_neg c1]
        · simp only [if_neg c2, if_neg c1]
    · show zu (zu (zu1 (zu1 (jF h) (hN h) _) (hN h + 1) _) (hN h) 1 (some (hN h + 1))) x f (some (hN h)) y k = if y = x ∧ k = f then _ else if y = hN h ∧ k = 1 then _ else if y = hN h ∨ y = hN h + 1 then _ else _
      unfold zu zu1
      by_cases c0 : y = x ∧ k = f
      · rw [if_pos c0, if_pos c0]
      · rw [if_neg c0, if_neg c0]
        by_cases c1 : y = hN h ∧ k = 1
        · rw [if_pos c1, if_pos c1]
        · rw [if_neg c1, if_neg c1]
          by_cases c2 : y = hN h + 1
          · rw [if_pos c2, if_pos (by omega)]
          · rw [if_neg c2]
            by_cases c3 : y = hN h
            · rw [if_pos c3, if_pos (by omega)]
            · rw [if_neg c3, if_neg (by omega)]
    · show zu1 (zu (zu1 (hI h) (hN h) _) (hN h) 0 0) (hN h + 1) _ y k = if y = hN h ∨ y = hN h + 1 then _ else _
      unfold zu zu1
      by_cases c2 : y = hN h + 1
      · rw [if_pos c2, if_pos (by omega)]
      · rw [if_neg c2]
        by_cases c3 : y = hN h
        · rw [if_pos (Or.inl c3)]
          dsimp only
          split
          · rfl
          · first | rfl | rw [if_pos c3]
        · dsimp only
          rw [if_neg (by omega), if_neg c3, if_neg (by omega)]
    · show zu1 (zu1 (hL h) (hN h) _) (hN h + 1) _ y k = if y = hN h ∨ y = hN h + 1 then _ else _
      unfold zu1
      by_cases c2 : y = hN h + 1
      · rw [if_pos c2, if_pos (by omega)]
      · rw [if_neg c2]
        by_cases c3 : y = hN h
        · rw [if_pos c3, if_pos (Or.inl c3)]
        · rw [if_neg c3, if_neg (by omega)]
  rw [e2 _ rfl]
theorem zLs_n : hN (zLs h x f) = hN h + 2 := rfl
theorem zLs_k (y : Nat) : hK (zLs h x f) y = if y = hN h then some (2, 0) else if y = hN h + 1 then some (68, 1) else hK h y := rfl
theorem zLs_f (y k : Nat) : jF (zLs h x f) y k = if y = x ∧ k = f then some (hN h) else if y = hN h ∧ k = 1 then some (hN h + 1) else if y = hN h ∨ y = hN h + 1 then none else jF h y k := rfl
theorem zLs_i (y k : Nat) : hI (zLs h x f) y k = if y = hN h ∨ y = hN h + 1 then 0 else hI h y k := rfl
/-- a View made -/
def zVw (h : zSt) (x f : Nat) : zSt := zsF (zsF (znA (zsF (znA (znA h 3 0) 70 7) (zu1 (jF (znA h 3 0)) (hN h + 1) (jF (znA h 3 0) 17))) 64 7) (zu (jF (znA (zsF (znA (znA h 3 0) 70 7) (zu1 (jF (znA h 3 0)) (hN h + 1) (jF (znA h 3 0) 17))) 64 7)) (hN h) 0 (some (hN h + 2)))) (zu (zu (jF (znA (zsF (znA (znA h 3 0) 70 7) (zu1 (jF (znA h 3 0)) (hN h + 1) (jF (znA h 3 0) 17))) 64 7)) (hN h) 0 (some (hN h + 2))) x f (some (hN h)))
theorem zVw_n : hN (zVw h x f) = hN h + 3 := rfl
theorem zVw_k (y : Nat) : hK (zVw h x f) y = if y = hN h then some (3, 0) else if y = hN h + 1 then some (70, 7) else if y = hN h + 2 then some (64, 7) else hK h y := by
  show zu1 (zu1 (zu1 (hK h) (hN h) _) (hN h + 1) _) (hN h + 2) _ y = _
  unfold zu1
  by_cases c1 : y = hN h
  · rw [if_pos c1, if_neg (by omega), if_neg (by omega), if_pos c1]
  · rw [if_neg c1]
    by_cases c2 : y = hN h + 1
    · simp only [if_pos c2, if_neg c1, if_neg (show ¬ y = hN h + 2 by omega)]
    · simp only [if_neg c2, if_neg c1]
theorem zVw_f (y k : Nat) (hy : y ≠ hN h + 1) : jF (zVw h x f) y k = if y = x ∧ k = f then some (hN h) else if y = hN h ∧ k = 0 then some (hN h + 2) else if y = hN h ∨ y = hN h + 2 then none else jF h y k := by
  show zu (zu (zu1 (zu1 (zu1 (jF h) (hN h) _) (hN h + 1) _) (hN h + 2) _) (hN h) 0 (some (hN h + 2))) x f (some (hN h)) y k = _
  unfold zu
  by_cases c0 : y = x ∧ k = f
  · rw [if_pos c0, if_pos c0]
  · rw [if_neg c0, if_neg c0]
    by_cases c1 : y = hN h ∧ k = 0
    · rw [if_pos c1, if_pos c1]
    · rw [if_neg c1, if_neg c1]
      by_cases c2 : y = hN h + 2
      · rw [c2, zu1_same, if_pos (Or.inr rfl)]
      · rw [zu1_off c2, zu1_off hy]
        by_cases c3 : y = hN h
        · rw [c3, zu1_same, if_pos (Or.inl rfl)]
        · rw [zu1_off c3, if_neg (by omega)]
theorem zVw_i (y k : Nat) : hI (zVw h x f) y k = if y = hN h ∨ y = hN h + 1 ∨ y = hN h + 2 then 0 else hI h y k := by
  show zu1 (zu1 (zu1 (hI h) (hN h) _) (hN h + 1) _) (hN h + 2) _ y k = _
  by_cases c3 : y = hN h + 2
  · rw [c3, zu1_same, if_pos (Or.inr (Or.inr rfl))]
  · rw [zu1_off c3]
    by_cases c2 : y = hN h + 1
    · rw [c2, zu1_same, if_pos (Or.inr (Or.inl rfl))]
    · rw [zu1_off c2]
      by_cases c1 : y = hN h
      · rw [c1, zu1_same, if_pos (Or.inl rfl)]
      · rw [zu1_off c1, if_neg (by omega)]
theorem zVw_ok (z : zNew h x kx) (hk : kx = 1) (k17 : hK h 17 = some (70, 7)) {R : Type} (k : zSt → Option ((Nat × Nat) × R)) : zpay (1, 1) (zg (zfree h) (zlet (hN h) (fun o => zlet (znA h 3 0) (fun h1 => zc1 (F_X3_init o h1) (fun c h2 => zpay c (zka (hK h2) x kx (fun _ => zlet (zsF h2 (zu (jF h2) x f (some o))) k))))))) = zpay (1, 1) (zpay (2, 14) (k (zVw h x f))) := by
  obtain ⟨z1, z2, z3, z4⟩ := z
  have fr : zfree h = true := fr_of (z4 _ (Nat.le_refl _)) (by omega)
  let h1 := znA h 3 0
  have n1 : hN h1 = hN h + 1 := rfl
  have k1 : ∀ y, y ≠ hN h → hK h1 y = hK h y := fun y hy => zu1_off hy
  have fr1 : zfree h1 = true := fr_of (by rw [n1, k1 _ (by omega)]; exact z4 _ (by omega)) (by omega)
  have k17' : hK h1 17 = some (70, 7) := by rw [k1 _ (by omega)]; exact k17
  let h2 := zsF (znA h1 70 7) (zu1 (jF h1) (hN h1) (jF h1 17))
  have n2 : hN h2 = hN h + 2 := rfl
  have k2 : ∀ y, y ≠ hN h → y ≠ hN h + 1 → hK h2 y = hK h y := fun y p q => by
    show zu1 (hK h1) (hN h1) _ y = _
    rw [zu1_off (by omega), k1 y p]
  have fr2 : zfree h2 = true := fr_of (by rw [n2, k2 _ (by omega) (by omega)]; exact z4 _ (by omega)) (by omega)
  have k2b : hK h2 (hN h1) = some (70, 7) := zu1_same
  have ev : F_X4_values h1 = some ((1, 7), (some (hN h1), h2)) := by
    unfold F_X4_values
    rw [k17', show (some (70, 7) : Option (Nat × Nat)).isSome = true from rfl, zg_true, decide_eq_true (show (some (70, 7) : Option (Nat × Nat)) = some (70, 7) from rfl), zg_true, fr1, zg_true, zlet_e, zlet_e, zka_eq k2b, decide_eq_true (show 600 ≤ hN h1 by omega), zg_true]
    rfl
  have e3 : F_X3_init (hN h) h1 = some ((2, 14), zsF (znA h2 64 7) (zu (jF (znA h2 64 7)) (hN h) 0 (some (hN h2)))) := by
    have k3 : hK (znA h2 64 7) (hN h) = some (3, 0) := by
      show zu1 (zu1 (zu1 (hK h) (hN h) _) (hN h + 1) _) (hN h + 2) _ (hN h) = _
      rw [zu1_off (by omega), zu1_off (by omega), zu1_same]
    unfold F_X3_init
    rw [ev, zc1_e]
    simp only [zn2, zb1_e, ↓zka_eq k2b, show zarrn (nI 7) = true from by decide, zg_true, fr2, zlet_e, show (nI 7).toNatClampNeg = 7 from by decide, ↓zka_eq k3, decide_eq_true (show 600 ≤ hN h by omega), zpay_e]
  rw [fr, zg_true, zlet_e, zlet_e, e3, zc1_e]
  have kx1 : hK (zsF (znA h2 64 7) (zu (jF (znA h2 64 7)) (hN h) 0 (some (hN h2)))) x = some (kx, 0) := by
    show zu1 (zu1 (zu1 (hK h) (hN h) _) (hN h + 1) _) (hN h + 2) _ x = _
    rw [zu1_off (by omega), zu1_off (by omega), zu1_off (by omega)]
    exact z1
  rw [zka_eq kx1, zlet_e]
  rfl
end L56
