/-! L57: a Land made -/
/-- where a Land's parts are -/
def zLK (K : zKd) (F : zFd) (a : Nat) : Prop := (K a = some (1, 0) ∧ K (a + 7) = some (64, 64) ∧ K (a + 8) = some (64, 64) ∧ K (a + 9) = some (3, 0) ∧ K (a + 11) = some (64, 7)) ∧ (F a 4 = some (a + 1) ∧ F a 5 = some (a + 3) ∧ F a 6 = some (a + 5) ∧ F a 7 = some (a + 7) ∧ F a 8 = some (a + 8) ∧ F a 10 = some (a + 9)) ∧ F (a + 9) 0 = some (a + 11) ∧ (K (a + 1) = some (2, 0) ∧ K (a + 3) = some (2, 0) ∧ K (a + 5) = some (2, 0))
section L57
variable {h : zSt} {a : Nat}
theorem zAl_ok {x kx f c len : Nat} (z : zNew h x kx) {R : Type} (k : zSt → Option ((Nat × Nat) × R)) : zpay (1, len) (zg (zfree h) (zlet (hN h) (fun o => zlet (znA h c len) (fun h' => zka (hK h') x kx (fun _ => zlet (zsF h' (zu (jF h') x f (some o))) k))))) = zpay (1, len) (k (zAl h x f c len)) := by
  rw [zNew_free z, zg_true, zlet_e, zlet_e, zNew_kn z, zlet_e]
  rfl
set_option maxHeartbeats 2000000 in
theorem F_X2_init_ok (ka : hK h a = some (1, 0)) (h6 : 600 ≤ a) (hn : hN h = a + 1) (hf : ∀ y, a + 1 ≤ y → hK h y = none) (k17 : hK h 17 = some (70, 7)) (fa : jF h a = fun _ => none) (ia : hI h a = fun _ => 0) : ∃ h', F_X2_init a h = some ((11, 155), h') ∧ hN h' = a + 12 ∧ (∀ y, a + 12 ≤ y → hK h' y = none) ∧ zLK (hK h') (jF h') a ∧ ((hK h' (a + 2) = some (68, 1) ∧ hK h' (a + 4) = some (68, 1) ∧ hK h' (a + 6) = some (68, 1)) ∧ jF h' (a + 1) 1 = some (a + 2) ∧ jF h' (a + 3) 1 = some (a + 4) ∧ jF h' (a + 5) 1 = some (a + 6)) ∧ jF h' a 9 = none ∧ (hI h' a 0 = 2 ∧ hI h' a 1 = 3 ∧ hI h' a 2 = 20 ∧ hI h' a 3 = 0) ∧ (∀ y, y < a → hK h' y = hK h y ∧ jF h' y = jF h y ∧ hI h' y = hI h y) ∧ ∀ y, a < y → y < a + 12 → hI h' y = fun _ => 0 := by
  let hA : zSt := zsI h (zu (zu (zu (hI h) a 0 2) a 1 3) a 2 20)
  have zA : zNew hA a 1 := ⟨ka, by show a < hN h; omega, h6, fun y hy => hf y (by have : hN h ≤ y := hy; omega)⟩
  have zB := zNew_ls (f := 4) zA
  have zC := zNew_ls (f := 5) zB
  have zD := zNew_ls (f := 6) zC
  have zE := zNew_al (f := 7) (c := 64) (len := 64) zD
  have zG := zNew_al (f := 8) (c := 64) (len := 64) zE
  have nA : hN hA = a + 1 := hn
  have kA17 : hK hA 17 = some (70, 7) := k17
  have k17G : hK (zAl (zAl (zLs (zLs (zLs hA a 4) a 5) a 6) a 7 64 64) a 8 64 64) 17 = some (70, 7) := by
    rw [zAl_k, if_neg (by rw [zAl_n, zLs_n, zLs_n, zLs_n, nA]; omega), zAl_k, if_neg (by rw [zLs_n, zLs_n, zLs_n, nA]; omega), zLs_k, if_neg (by rw [zLs_n, zLs_n, nA]; omega), if_neg (by rw [zLs_n, zLs_n, nA]; omega), zLs_k, if_neg (by rw [zLs_n, nA]; omega), if_neg (by rw [zLs_n, nA]; omega), zLs_k, if_neg (by rw [nA]; omega), if_neg (by rw [nA]; omega)]
    exact kA17
  let h' := zVw (zAl (zAl (zLs (zLs (zLs hA a 4) a 5) a 6) a 7 64 64) a 8 64 64) a 10
  have fA : ∀ y k, jF hA y k = jF h y k := fun _ _ => rfl
  have iA : ∀ y k, hI hA y k = zu (zu (zu (hI h) a 0 2) a 1 3) a 2 20 y k := fun _ _ => rfl
  have kAy : ∀ y, hK hA y = hK h y := fun _ => rfl
  have kk : ∀ y, hK h' y = if y < a + 1 then hK h y else if a + 12 ≤ y then none else if y = a + 9 then some (3, 0) else if y = a + 10 then some (70, 7) else if y = a + 11 then some (64, 7) else if y = a + 8 ∨ y = a + 7 then some (64, 64) else if y = a + 1 ∨ y = a + 3 ∨ y = a + 5 then some (2, 0) else some (68, 1) := fun y => by
    show hK (zVw _ a 10) y = _
    simp only [zVw_k, zAl_k, zLs_k, zAl_n, zLs_n, nA, kAy]
    by_cases c1 : y < a + 1
    · rw [if_pos c1]
      simp only [if_neg (show ¬ y = a + 1 by omega), if_neg (show ¬ y = a + 1 + 1 by omega), if_neg (show ¬ y = a + 1 + 2 by omega), if_neg (show ¬ y = a + 1 + 2 + 1 by omega), if_neg (show ¬ y = a + 1 + 2 + 2 by omega), if_neg (show ¬ y = a + 1 + 2 + 2 + 1 by omega), if_neg (show ¬ y = a + 1 + 2 + 2 + 2 by omega), if_neg (show ¬ y = a + 1 + 2 + 2 + 2 + 1 by omega), if_neg (show ¬ y = a + 1 + 2 + 2 + 2 + 1 + 1 by omega), if_neg (show ¬ y = a + 1 + 2 + 2 + 2 + 1 + 1 + 1 by omega), if_neg (show ¬ y = a + 1 + 2 + 2 + 2 + 1 + 1 + 2 by omega)]
    · rw [if_neg c1]
      by_cases c2 : a + 12 ≤ y
      · rw [if_pos c2]
        simp only [if_neg (show ¬ y = a + 1 by omega), if_neg (show ¬ y = a + 1 + 1 by omega), if_neg (show ¬ y = a + 1 + 2 by omega), if_neg (show ¬ y = a + 1 + 2 + 1 by omega), if_neg (show ¬ y = a + 1 + 2 + 2 by omega), if_neg (show ¬ y = a + 1 + 2 + 2 + 1 by omega), if_neg (show ¬ y = a + 1 + 2 + 2 + 2 by omega), if_neg (show ¬ y = a + 1 + 2 + 2 + 2 + 1 by omega), if_neg (show ¬ y = a + 1 + 2 + 2 + 2 + 1 + 1 by omega), if_neg (show ¬ y = a + 1 + 2 + 2 + 2 + 1 + 1 + 1 by omega), if_neg (show ¬ y = a + 1 + 2 + 2 + 2 + 1 + 1 + 2 by omega)]
        exact hf y (by omega)
      · rw [if_neg c2]
        obtain ⟨i, hi, rfl⟩ : ∃ i, i < 11 ∧ y = a + 1 + i := ⟨y - (a + 1), by omega, by omega⟩
        have : i = 0 ∨ i = 1 ∨ i = 2 ∨ i = 3 ∨ i = 4 ∨ i = 5 ∨ i = 6 ∨ i = 7 ∨ i = 8 ∨ i = 9 ∨ i = 10 := by omega
        rcases this with rfl | rfl | rfl | rfl | rfl | rfl | rfl | rfl | rfl | rfl | rfl <;> simp [Nat.add_assoc]
  have ff : ∀ y k, y ≠ a + 10 → jF h' y k = if y = a ∧ k = 10 then some (a + 1 + 2 + 2 + 2 + 1 + 1) else if y = a + 1 + 2 + 2 + 2 + 1 + 1 ∧ k = 0 then some (a + 1 + 2 + 2 + 2 + 1 + 1 + 2) else if y = a + 1 + 2 + 2 + 2 + 1 + 1 ∨ y = a + 1 + 2 + 2 + 2 + 1 + 1 + 2 then none else if y = a ∧ k = 8 then some (a + 1 + 2 + 2 + 2 + 1) else if y = a + 1 + 2 + 2 + 2 + 1 then none else if y = a ∧ k = 7 then some (a + 1 + 2 + 2 + 2) else if y = a + 1 + 2 + 2 + 2 then none else if y = a ∧ k = 6 then some (a + 1 + 2 + 2) else if y = a + 1 + 2 + 2 ∧ k = 1 then some (a + 1 + 2 + 2 + 1) else if y = a + 1 + 2 + 2 ∨ y = a + 1 + 2 + 2 + 1 then none else if y = a ∧ k = 5 then some (a + 1 + 2) else if y = a + 1 + 2 ∧ k = 1 then some (a + 1 + 2 + 1) else if y = a + 1 + 2 ∨ y = a + 1 + 2 + 1 then none else if y = a ∧ k = 4 then some (a + 1) else if y = a + 1 ∧ k = 1 then some (a + 1 + 1) else if y = a + 1 ∨ y = a + 1 + 1 then none else jF h y k := fun y k hy => by
    show jF (zVw _ a 10) y k = _
    rw [zVw_f _ _ (by rw [zAl_n, zAl_n, zLs_n, zLs_n, zLs_n, nA]; omega)]
    simp only [zAl_f, zLs_f, zAl_n, zLs_n, nA, fA]
  have ii : ∀ y k, hI h' y k = if a < y ∧ y < a + 12 then 0 else zu (zu (zu (hI h) a 0 2) a 1 3) a 2 20 y k := fun y k => by
    show hI (zVw _ a 10) y k = _
    have e : ∀ (s : zSt) (x f c len y : Nat), hI (zAl s x f c len) y k = if y = hN s then 0 else hI s y k := fun s x f c len y => by
      rw [zAl_i]
      split <;> rfl
    simp only [zVw_i, e, zLs_i, zAl_n, zLs_n, nA, iA]
    by_cases c1 : a < y ∧ y < a + 12
    · rw [if_pos c1]
      obtain ⟨i, hi, rfl⟩ : ∃ i, i < 11 ∧ y = a + 1 + i := ⟨y - (a + 1), by omega, by omega⟩
      have : i = 0 ∨ i = 1 ∨ i = 2 ∨ i = 3 ∨ i = 4 ∨ i = 5 ∨ i = 6 ∨ i = 7 ∨ i = 8 ∨ i = 9 ∨ i = 10 := by omega
      rcases this with rfl | rfl | rfl | rfl | rfl | rfl | rfl | rfl | rfl | rfl | rfl <;> simp [Nat.add_assoc]
    · rw [if_neg c1]
      repeat rw [if_neg (by omega)]
  have k17E : hK (zAl (zLs (zLs (zLs hA a 4) a 5) a 6) a 7 64 64) 17 = some (70, 7) := by
    rw [zAl_k, if_neg (by rw [zAl_n, zLs_n, zLs_n, zLs_n, nA]; omega)] at k17G
    exact k17G
  refine ⟨h', ?_, ?_, fun y hy => ?_, ⟨⟨?_, ?_, ?_, ?_, ?_⟩, ⟨?_, ?_, ?_, ?_, ?_, ?_⟩, ?_, ?_, ?_, ?_⟩, ⟨⟨?_, ?_, ?_⟩, ?_, ?_, ?_⟩, ?_, ⟨?_, ?_, ?_, ?_⟩, fun y hy => ⟨?_, ?_, ?_⟩, fun y p q => ?_⟩
  · have j1 : zsI (zsI (zsI h (zu (hI h) a 0 2)) (zu (hI (zsI h (zu (hI h) a 0 2))) a 1 3)) (zu (hI (zsI (zsI h (zu (hI h) a 0 2)) (zu (hI (zsI h (zu (hI h) a 0 2))) a 1 3))) a 2 20) = hA := rfl
    unfold F_X2_init
    rw [zka_eq ka, decide_eq_true h6, zg_true, zlet_e]
    rw [zka_eq (show hK (zsI h (zu (hI h) a 0 2)) a = some (1, 0) from ka), zlet_e]
    rw [zka_eq (show hK (zsI (zsI h (zu (hI h) a 0 2)) (zu (hI (zsI h (zu (hI h) a 0 2))) a 1 3)) a = some (1, 0) from ka), zlet_e, j1]
    rw [zLs_ok zA rfl, zLs_ok zB rfl, zLs_ok zC rfl]
    rw [zAl_ok zD, zAl_ok zE, zVw_ok zG rfl k17G]
    rfl
  · show hN (zVw _ a 10) = _
    rw [zVw_n, zAl_n, zAl_n, zLs_n, zLs_n, zLs_n, nA]
  · rw [kk, if_neg (by omega), if_pos hy]
  · rw [kk, if_pos (by omega)]; exact ka
  · rw [kk, if_neg (by omega), if_neg (by omega), if_neg (by omega), if_neg (by omega), if_neg (by omega), if_pos (by omega)]
  · rw [kk, if_neg (by omega), if_neg (by omega), if_neg (by omega), if_neg (by omega), if_neg (by omega), if_pos (by omega)]
  · rw [kk, if_neg (by omega), if_neg (by omega), if_pos rfl]
  · rw [kk, if_neg (by omega), if_neg (by omega), if_neg (by omega), if_neg (by omega), if_pos rfl]
  all_goals try (rw [ff _ _ (by omega)]; simp [Nat.add_assoc]; done)
  · rw [kk, if_neg (by omega), if_neg (by omega), if_neg (by omega), if_neg (by omega), if_neg (by omega), if_neg (by omega), if_pos (by omega)]
  · rw [kk, if_neg (by omega), if_neg (by omega), if_neg (by omega), if_neg (by omega), if_neg (by omega), if_neg (by omega), if_pos (by omega)]
  · rw [kk, if_neg (by omega), if_neg (by omega), if_neg (by omega), if_neg (by omega), if_neg (by omega), if_neg (by omega), if_pos (by omega)]
  · rw [kk, if_neg (by omega), if_neg (by omega), if_neg (by omega), if_neg (by omega), if_neg (by omega), if_neg (by omega), if_neg (by omega)]
  · rw [kk, if_neg (by omega), if_neg (by omega), if_neg (by omega), if_neg (by omega), if_neg (by omega), if_neg (by omega), if_neg (by omega)]
  · rw [kk, if_neg (by omega), if_neg (by omega), if_neg (by omega), if_neg (by omega), if_neg (by omega), if_neg (by omega), if_neg (by omega)]
  · rw [ff _ _ (by omega)]
    repeat rw [if_neg (by omega)]
    rw [fa]
  · rw [ii, if_neg (by omega), zu_off (by omega), zu_off (by omega), zu_same]
  · rw [ii, if_neg (by omega), zu_off (by omega), zu_same]
  · rw [ii, if_neg (by omega), zu_same]
  · rw [ii, if_neg (by omega), zu_off (by omega), zu_off (by omega), zu_off (by omega), ia]
  · rw [kk, if_pos (by omega)]
  · funext k
    rw [ff _ _ (by omega)]
    repeat rw [if_neg (by omega)]
  · funext k
    rw [ii, if_neg (by omega), zu_off (by omega), zu_off (by omega), zu_off (by omega)]
  · funext k
    rw [ii, if_pos ⟨p, q⟩]
end L57
