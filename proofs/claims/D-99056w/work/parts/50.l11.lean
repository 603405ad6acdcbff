/-! L11: the model's pack, unpack; years on -/
theorem nI_p (a k : Nat) {x : Int32} (h : x = nI k) : nI a + x = nI (a + k) := by rw [h]; exact nI_add a k
theorem nI_p3 (a : Nat) : nI a + 3 = nI (a + 3) := nI_add a 3
theorem nI_p2 (a : Nat) : nI a + 2 = nI (a + 2) := nI_add a 2
theorem nI_p8 (a : Nat) : nI a + 8 = nI (a + 8) := nI_add a 8
theorem nI_p16 (a : Nat) : nI a + 16 = nI (a + 16) := nI_add a 16
theorem nI_p6 (a : Nat) : nI a + 6 = nI (a + 6) := nI_add a 6
theorem nI_p12 (a : Nat) : nI a + 12 = nI (a + 12) := nI_add a 12
theorem nI_p18 (a : Nat) : nI a + 18 = nI (a + 18) := nI_add a 18
theorem nI_p24 (a : Nat) : nI a + 24 = nI (a + 24) := nI_add a 24
/-- the state in a row of the model, its bows elsewhere -/
def zrv (nf nb : Nat) (B R : Nat → Int32) (fr : Nat) : zS := fun r j => if j < zlm nf nb r then (if r < 3 then R (fr + 3 + 8 * r + j) else if r = 3 then B j else if r < 9 then R (fr + 27 + 6 * (r - 4) + j) else R (fr + j)) else 0
/-- what pack does -/
def zpkd (a0 fr : Nat) (I J : zId) : Prop := (∀ x, x ≠ a0 → J x = I x) ∧ (∀ k, k < fr ∨ fr + 57 ≤ k → J a0 k = I a0 k) ∧ (∀ j, j < 3 → J a0 (fr + j) = I 1860 (34 + j)) ∧ (∀ r j, r < 3 → j < 8 → J a0 (fr + 3 + 8 * r + j) = I (1875 + r) j) ∧ ∀ r j, r < 5 → j < 6 → J a0 (fr + 27 + 6 * r + j) = I (1878 + r) j
def zupd (a0 fr : Nat) (I J : zId) : Prop := (∀ x, (x < 1875 ∨ 1882 < x) → x ≠ 1860 → J x = I x) ∧ (∀ k, k < 34 ∨ 37 ≤ k → J 1860 k = I 1860 k) ∧ (∀ j, j < 3 → J 1860 (34 + j) = I a0 (fr + j)) ∧ (∀ r j, r < 3 → j < 8 → J (1875 + r) j = I a0 (fr + 3 + 8 * r + j)) ∧ ∀ r j, r < 5 → j < 6 → J (1878 + r) j = I a0 (fr + 27 + 6 * r + j)
section L11
variable {I : zId} {P : zP}
set_option maxHeartbeats 1000000 in
theorem F7_pack_ok {a0 n0 fr : Nat} (hn : fr + 57 ≤ n0) (hn2 : n0 < 100000) (ha : a0 ≠ 1860 ∧ (a0 < 1875 ∨ 1882 < a0)) : ∃ J, F_X7_pack a0 n0 (nI fr) I = some J ∧ zpkd a0 fr I J := by
  have zi : ∀ k, k < n0 → zin (nI k) n0 = true := fun k hk => zin_n hk (by omega)
  have cc : ∀ k, k < n0 → (nI k).toNatClampNeg = k := fun k hk => nI_c (by omega)
  let J0 : zId := zu (zu (zu I a0 fr (I 1860 34)) a0 (fr + 1) (I 1860 35)) a0 (fr + 2) (I 1860 36)
  have r0 : ∀ x, x ≠ a0 → J0 x = I x := fun x hx => by
    show zu (zu (zu I _ _ _) _ _ _) _ _ _ x = _
    rw [zu_row hx, zu_row hx, zu_row hx]
  have r1 : ∀ k, J0 a0 k = if k = fr + 2 then I 1860 36 else if k = fr + 1 then I 1860 35 else if k = fr then I 1860 34 else I a0 k := fun k => by
    show zu (zu (zu I _ _ _) _ _ _) _ _ _ a0 k = _
    simp only [zu, true_and]
  have s := zloop_up (body := fun s : Int32 × zId => F_X7_pack_L27 a0 n0 (nI fr) s.1 s.2) (fun i s => s.1 = nI i ∧ (∀ x, x ≠ a0 → s.2 x = I x) ∧ (∀ k, k < fr ∨ fr + 57 ≤ k → s.2 a0 k = I a0 k) ∧ (∀ j, j < 3 → s.2 a0 (fr + j) = I 1860 (34 + j)) ∧ ∀ r j, r < 3 → j < i → s.2 a0 (fr + 3 + 8 * r + j) = I (1875 + r) j) (fun t => (∀ x, x ≠ a0 → t x = I x) ∧ (∀ k, k < fr ∨ fr + 57 ≤ k → t a0 k = I a0 k) ∧ (∀ j, j < 3 → t a0 (fr + j) = I 1860 (34 + j)) ∧ ∀ r j, r < 3 → j < 8 → t a0 (fr + 3 + 8 * r + j) = I (1875 + r) j) 8 ?_ ?_ 0 (0, J0) (by decide) ⟨rfl, r0, fun k hk => ?_, fun j hj => ?_, fun r j _ hj => by omega⟩
  · obtain ⟨J1, h1, g1, g2, g3, g4⟩ := s
    have s := zloop_up (body := fun s : Int32 × zId => F_X7_pack_L94 a0 n0 (nI (fr + 27)) s.1 s.2) (fun i s => s.1 = nI i ∧ (∀ x, x ≠ a0 → s.2 x = I x) ∧ (∀ k, k < fr + 27 ∨ fr + 57 ≤ k → s.2 a0 k = J1 a0 k) ∧ ∀ r j, r < 5 → j < i → s.2 a0 (fr + 27 + 6 * r + j) = I (1878 + r) j) (fun t => (∀ x, x ≠ a0 → t x = I x) ∧ (∀ k, k < fr + 27 ∨ fr + 57 ≤ k → t a0 k = J1 a0 k) ∧ ∀ r j, r < 5 → j < 6 → t a0 (fr + 27 + 6 * r + j) = I (1878 + r) j) 6 ?_ ?_ 0 (0, J1) (by decide) ⟨rfl, g1, fun k hk => rfl, fun r j _ hj => by omega⟩
    · obtain ⟨J2, h2, m1, m2, m3⟩ := s
      refine ⟨J2, ?_, m1, fun k hk => (m2 k (by omega)).trans (g2 k hk), fun j hj => (m2 _ (by omega)).trans (g3 j hj), fun r j hr hj => (m2 _ (by omega)).trans (g4 r j hr hj), m3⟩
      simp (decide := true) only [F_X7_pack, zi fr (by omega), cc fr (by omega), zg_true, zlet_e, nI_1, nI_p2, zi (fr + 1) (by omega), cc (fr + 1) (by omega), zi (fr + 2) (by omega), cc (fr + 2) (by omega), zu_row (Ne.symm ha.1)]
      rw [show (zu (zu (zu I a0 fr (I 1860 34)) a0 (fr + 1) (I 1860 35)) a0 (fr + 2) (I 1860 36)) = J0 from rfl, h1]
      simp only [zb1_e, nI_p3, nI_p24]
      rw [show fr + 3 + 24 = fr + 27 from rfl, h2]
      rfl
    · rintro i ⟨_, J⟩ hi ⟨rfl, e1, e2, e3⟩
      dsimp only at e1 e2 e3
      refine Or.inl ⟨(nI (i + 1), zu (zu (zu (zu (zu J a0 (fr + 27 + i) (I 1878 i)) a0 (fr + 27 + 6 + i) (I 1879 i)) a0 (fr + 27 + 12 + i) (I 1880 i)) a0 (fr + 27 + 18 + i) (I 1881 i)) a0 (fr + 27 + 24 + i) (I 1882 i)), ?_, rfl, ?_, ?_, ?_⟩
      · dsimp only
        simp only [F_X7_pack_L94, if_neg (show ¬ (6 : Int32) ≤ nI i from nI_ge hi (by decide)), zin_n hi, zg_true, nI_add, nI_p6, nI_p12, nI_p18, nI_p24, zi (fr + 27 + i) (by omega), zi (fr + 27 + 6 + i) (by omega), zi (fr + 27 + 12 + i) (by omega), zi (fr + 27 + 18 + i) (by omega), zi (fr + 27 + 24 + i) (by omega), cc (fr + 27 + i) (by omega), cc (fr + 27 + 6 + i) (by omega), cc (fr + 27 + 12 + i) (by omega), cc (fr + 27 + 18 + i) (by omega), cc (fr + 27 + 24 + i) (by omega), nI_c (show i < 2147483648 by omega), zlet_e, zu_row (show 1879 ≠ a0 by omega), zu_row (show 1880 ≠ a0 by omega), zu_row (show 1881 ≠ a0 by omega), zu_row (show 1882 ≠ a0 by omega), e1 1878 (by omega), e1 1879 (by omega), e1 1880 (by omega), e1 1881 (by omega), e1 1882 (by omega), nI_1]
      · intro x hx
        dsimp only
        rw [zu_row hx, zu_row hx, zu_row hx, zu_row hx, zu_row hx]
        exact e1 x hx
      · intro k hk
        dsimp only
        rw [zu_off (by omega), zu_off (by omega), zu_off (by omega), zu_off (by omega), zu_off (by omega)]
        exact e2 k hk
      · intro r j hr hj
        dsimp only
        simp only [zu, true_and]
        by_cases hji : j = i
        · subst hji
          match r, hr with
          | 0, _ => rw [if_neg (by omega), if_neg (by omega), if_neg (by omega), if_neg (by omega), if_pos (by omega)]
          | 1, _ => rw [if_neg (by omega), if_neg (by omega), if_neg (by omega), if_pos (by omega)]
          | 2, _ => rw [if_neg (by omega), if_neg (by omega), if_pos (by omega)]
          | 3, _ => rw [if_neg (by omega), if_pos (by omega)]
          | 4, _ => rw [if_pos (by omega)]
          | r + 5, h => omega
        · rw [if_neg (by omega), if_neg (by omega), if_neg (by omega), if_neg (by omega), if_neg (by omega)]
          exact e3 r j hr (by omega)
    · rintro ⟨_, J⟩ ⟨rfl, e1, e2, e3⟩
      exact ⟨J, rfl, e1, e2, e3⟩
  · rintro i ⟨_, J⟩ hi ⟨rfl, e1, e2, e3, e4⟩
    dsimp only at e1 e2 e3 e4
    refine Or.inl ⟨(nI (i + 1), zu (zu (zu J a0 (fr + 3 + i) (I 1875 i)) a0 (fr + 3 + 8 + i) (I 1876 i)) a0 (fr + 3 + 16 + i) (I 1877 i)), ?_, rfl, ?_, ?_, ?_, ?_⟩
    · dsimp only
      simp only [F_X7_pack_L27, if_neg (show ¬ (8 : Int32) ≤ nI i from nI_ge hi (by decide)), zin_n hi, zg_true, nI_add, nI_p3, nI_p8, nI_p16, zi (fr + 3 + i) (by omega), zi (fr + 3 + 8 + i) (by omega), zi (fr + 3 + 16 + i) (by omega), cc (fr + 3 + i) (by omega), cc (fr + 3 + 8 + i) (by omega), cc (fr + 3 + 16 + i) (by omega), nI_c (show i < 2147483648 by omega), zlet_e, zu_row (show 1875 ≠ a0 by omega), zu_row (show 1876 ≠ a0 by omega), zu_row (show 1877 ≠ a0 by omega), e1 1875 (by omega), e1 1876 (by omega), e1 1877 (by omega), nI_1]
    · intro x hx
      dsimp only
      rw [zu_row hx, zu_row hx, zu_row hx]
      exact e1 x hx
    · intro k hk
      dsimp only
      rw [zu_off (by omega), zu_off (by omega), zu_off (by omega)]
      exact e2 k hk
    · intro j hj
      dsimp only
      rw [zu_off (by omega), zu_off (by omega), zu_off (by omega)]
      exact e3 j hj
    · intro r j hr hj
      dsimp only
      simp only [zu, true_and]
      by_cases hji : j = i
      · subst hji
        match r, hr with
        | 0, _ => rw [if_neg (by omega), if_neg (by omega), if_pos (by omega)]
        | 1, _ => rw [if_neg (by omega), if_pos (by omega)]
        | 2, _ => rw [if_pos (by omega)]
        | r + 3, h => omega
      · rw [if_neg (by omega), if_neg (by omega), if_neg (by omega)]
        exact e4 r j hr (by omega)
  · rintro ⟨_, J⟩ ⟨rfl, e1, e2, e3, e4⟩
    exact ⟨J, rfl, e1, e2, e3, e4⟩
  · dsimp only
    rw [r1, if_neg (by omega), if_neg (by omega), if_neg (by omega)]
  · dsimp only
    rw [r1]
    match j, hj with
    | 0, _ => rw [if_neg (by omega), if_neg (by omega), if_pos (by omega)]
    | 1, _ => rw [if_neg (by omega), if_pos (by omega)]
    | 2, _ => rw [if_pos (by omega)]
    | j + 3, h => omega
end L11
