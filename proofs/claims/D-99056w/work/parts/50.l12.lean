/-! L12: unpack -/
section L12
variable {I : zId} {P : zP}
set_option maxHeartbeats 1000000 in
theorem F7_unpack_ok {a0 n0 fr : Nat} (hn : fr + 57 ≤ n0) (hn2 : n0 < 100000) (ha : a0 ≠ 1860 ∧ (a0 < 1875 ∨ 1882 < a0)) : ∃ J, F_X7_unpack a0 n0 (nI fr) I = some J ∧ zupd a0 fr I J := by
  have zi : ∀ k, k < n0 → zin (nI k) n0 = true := fun k hk => zin_n hk (by omega)
  have cc : ∀ k, k < n0 → (nI k).toNatClampNeg = k := fun k hk => nI_c (by omega)
  let J0 : zId := zu (zu (zu I 1860 34 (I a0 fr)) 1860 35 (I a0 (fr + 1))) 1860 36 (I a0 (fr + 2))
  have r0 : ∀ x, x ≠ 1860 → J0 x = I x := fun x hx => by
    show zu (zu (zu I _ _ _) _ _ _) _ _ _ x = _
    rw [zu_row hx, zu_row hx, zu_row hx]
  have r1 : ∀ k, J0 1860 k = if k = 36 then I a0 (fr + 2) else if k = 35 then I a0 (fr + 1) else if k = 34 then I a0 fr else I 1860 k := fun k => by
    show zu (zu (zu I _ _ _) _ _ _) _ _ _ 1860 k = _
    simp only [zu, true_and]
  have s := zloop_up (body := fun s : Int32 × zId => F_X7_unpack_L27 a0 n0 (nI fr) s.1 s.2) (fun i s => s.1 = nI i ∧ (∀ x, (x < 1875 ∨ 1877 < x) → s.2 x = J0 x) ∧ ∀ r j, r < 3 → j < i → s.2 (1875 + r) j = I a0 (fr + 3 + 8 * r + j)) (fun t => (∀ x, (x < 1875 ∨ 1877 < x) → t x = J0 x) ∧ ∀ r j, r < 3 → j < 8 → t (1875 + r) j = I a0 (fr + 3 + 8 * r + j)) 8 ?_ ?_ 0 (0, J0) (by decide) ⟨rfl, fun x _ => rfl, fun r j _ hj => by omega⟩
  · obtain ⟨J1, h1, g1, g2⟩ := s
    have s := zloop_up (body := fun s : Int32 × zId => F_X7_unpack_L94 a0 n0 (nI (fr + 27)) s.1 s.2) (fun i s => s.1 = nI i ∧ (∀ x, (x < 1878 ∨ 1882 < x) → s.2 x = J1 x) ∧ ∀ r j, r < 5 → j < i → s.2 (1878 + r) j = I a0 (fr + 27 + 6 * r + j)) (fun t => (∀ x, (x < 1878 ∨ 1882 < x) → t x = J1 x) ∧ ∀ r j, r < 5 → j < 6 → t (1878 + r) j = I a0 (fr + 27 + 6 * r + j)) 6 ?_ ?_ 0 (0, J1) (by decide) ⟨rfl, fun x _ => rfl, fun r j _ hj => by omega⟩
    · obtain ⟨J2, h2, m1, m2⟩ := s
      refine ⟨J2, ?_, fun x hx hx2 => ?_, fun k hk => ?_, fun j hj => ?_, fun r j hr hj => by rw [m1 _ (by omega)]; exact g2 r j hr hj, m2⟩
      · simp (decide := true) only [F_X7_unpack, zi fr (by omega), cc fr (by omega), zg_true, zlet_e, nI_1, nI_p2, zi (fr + 1) (by omega), cc (fr + 1) (by omega), zi (fr + 2) (by omega), cc (fr + 2) (by omega), zu_row ha.1]
        rw [show (zu (zu (zu I 1860 34 (I a0 fr)) 1860 35 (I a0 (fr + 1))) 1860 36 (I a0 (fr + 2))) = J0 from rfl, h1]
        simp only [zb1_e, nI_p3, nI_p24]
        rw [show fr + 3 + 24 = fr + 27 from rfl, h2]
        rfl
      · rw [m1 x (by omega), g1 x (by omega), r0 x hx2]
      · rw [m1 _ (by omega), g1 _ (by omega), r1, if_neg (by omega), if_neg (by omega), if_neg (by omega)]
      · rw [m1 _ (by omega), g1 _ (by omega), r1]
        match j, hj with
        | 0, _ => rfl
        | 1, _ => rfl
        | 2, _ => rfl
        | j + 3, h => omega
    · rintro i ⟨_, J⟩ hi ⟨rfl, e1, e3⟩
      dsimp only at e1 e3
      have ea : J a0 = I a0 := by rw [e1 _ (by omega), g1 _ (by omega), r0 _ ha.1]
      refine Or.inl ⟨(nI (i + 1), zu (zu (zu (zu (zu J 1878 i (I a0 (fr + 27 + i))) 1879 i (I a0 (fr + 27 + 6 + i))) 1880 i (I a0 (fr + 27 + 12 + i))) 1881 i (I a0 (fr + 27 + 18 + i))) 1882 i (I a0 (fr + 27 + 24 + i))), ?_, rfl, ?_, ?_⟩
      · dsimp only
        simp only [F_X7_unpack_L94, if_neg (show ¬ (6 : Int32) ≤ nI i from nI_ge hi (by decide)), zin_n hi, zg_true, nI_add, nI_p6, nI_p12, nI_p18, nI_p24, zi (fr + 27 + i) (by omega), zi (fr + 27 + 6 + i) (by omega), zi (fr + 27 + 12 + i) (by omega), zi (fr + 27 + 18 + i) (by omega), zi (fr + 27 + 24 + i) (by omega), cc (fr + 27 + i) (by omega), cc (fr + 27 + 6 + i) (by omega), cc (fr + 27 + 12 + i) (by omega), cc (fr + 27 + 18 + i) (by omega), cc (fr + 27 + 24 + i) (by omega), nI_c (show i < 2147483648 by omega), zlet_e, zu_row (show a0 ≠ 1878 by omega), zu_row (show a0 ≠ 1879 by omega), zu_row (show a0 ≠ 1880 by omega), zu_row (show a0 ≠ 1881 by omega), ea, nI_1]
      · intro x hx
        dsimp only
        rw [zu_row (by omega), zu_row (by omega), zu_row (by omega), zu_row (by omega), zu_row (by omega)]
        exact e1 x hx
      · intro r j hr hj
        dsimp only
        simp only [zu]
        by_cases hji : j = i
        · subst hji
          match r, hr with
          | 0, _ => rw [if_neg (by omega), if_neg (by omega), if_neg (by omega), if_neg (by omega), if_pos (by omega)]
          | 1, _ => rw [if_neg (by omega), if_neg (by omega), if_neg (by omega), if_pos (by omega)]
          | 2, _ => rw [if_neg (by omega), if_neg (by omega), if_pos (by omega)]
          | 3, _ => rw [if_neg (by omega), if_pos (by omega)]
          | 4, _ => rw [if_pos (by omega)]
          | r + 5, h => omega
        · rw [if_neg (by omega), if_neg (by omega), if_neg (by omega), if_neg (by omega), if_neg (by omega)]
          exact e3 r j hr (by omega)
    · rintro ⟨_, J⟩ ⟨rfl, e1, e3⟩
      exact ⟨J, rfl, e1, e3⟩
  · rintro i ⟨_, J⟩ hi ⟨rfl, e1, e4⟩
    dsimp only at e1 e4
    have ea : J a0 = I a0 := by rw [e1 _ (by omega), r0 _ ha.1]
    refine Or.inl ⟨(nI (i + 1), zu (zu (zu J 1875 i (I a0 (fr + 3 + i))) 1876 i (I a0 (fr + 3 + 8 + i))) 1877 i (I a0 (fr + 3 + 16 + i))), ?_, rfl, ?_, ?_⟩
    · dsimp only
      simp only [F_X7_unpack_L27, if_neg (show ¬ (8 : Int32) ≤ nI i from nI_ge hi (by decide)), zin_n hi, zg_true, nI_add, nI_p3, nI_p8, nI_p16, zi (fr + 3 + i) (by omega), zi (fr + 3 + 8 + i) (by omega), zi (fr + 3 + 16 + i) (by omega), cc (fr + 3 + i) (by omega), cc (fr + 3 + 8 + i) (by omega), cc (fr + 3 + 16 + i) (by omega), nI_c (show i < 2147483648 by omega), zlet_e, zu_row (show a0 ≠ 1875 by omega), zu_row (show a0 ≠ 1876 by omega), ea, nI_1]
    · intro x hx
      dsimp only
      rw [zu_row (by omega), zu_row (by omega), zu_row (by omega)]
      exact e1 x hx
    · intro r j hr hj
      dsimp only
      simp only [zu]
      by_cases hji : j = i
      · subst hji
        match r, hr with
        | 0, _ => rw [if_neg (by omega), if_neg (by omega), if_pos (by omega)]
        | 1, _ => rw [if_neg (by omega), if_pos (by omega)]
        | 2, _ => rw [if_pos (by omega)]
        | r + 3, h => omega
      · rw [if_neg (by omega), if_neg (by omega), if_neg (by omega)]
        exact e4 r j hr (by omega)
  · rintro ⟨_, J⟩ ⟨rfl, e1, e4⟩
    exact ⟨J, rfl, e1, e4⟩
/-- a packed row is the state -/
theorem zpkd.rv {a0 fr nf nb : Nat} {J : zId} (h : zpkd a0 fr I J) (hf : nf ≤ 8) (hb : nb ≤ 6) (B : Nat → Int32) (hB : ∀ j, j < nb → B j = I 1868 j) : zrv nf nb B (J a0) fr = zmv2 nf nb I := by
  obtain ⟨h1, h2, h3, h4, h5⟩ := h
  funext r j
  unfold zrv zmv2
  by_cases hj : j < zlm nf nb r
  · rw [if_pos hj, if_pos hj]
    by_cases c1 : r < 3
    · have : j < nf := by simpa [zlm, c1] using hj
      rw [if_pos c1, if_pos (by omega), h4 r j c1 (by omega)]
      simp [zmrow, c1]
    · rw [if_neg c1]
      by_cases c2 : r = 3
      · subst c2
        rw [if_pos rfl]
        exact hB j hj
      · rw [if_neg c2]
        by_cases c3 : r < 9
        · have : j < nb := by simpa [zlm, c1, c3] using hj
          rw [if_pos c3, if_pos c3, h5 (r - 4) j (by omega) (by omega)]
          rw [show zmrow r = 1878 + (r - 4) by unfold zmrow; rw [if_neg c1, if_neg c2]; omega]
        · have hj3 : j < 3 := by
            by_cases c4 : r = 9
            · simpa [zlm, c4] using hj
            · have : ¬ (r < 3) := c1
              simp [zlm, c1, c3, c4] at hj
          rw [if_neg c3, if_neg c3, h3 j hj3]
  · rw [if_neg hj, if_neg hj]
/-- the state of an unpacked row -/
theorem zupd.mv {a0 fr nf nb : Nat} {J : zId} (h : zupd a0 fr I J) (hf : nf ≤ 8) (hb : nb ≤ 6) : zmv2 nf nb J = zrv nf nb (I 1868) (I a0) fr := by
  obtain ⟨h1, h2, h3, h4, h5⟩ := h
  funext r j
  unfold zrv zmv2
  by_cases hj : j < zlm nf nb r
  · rw [if_pos hj, if_pos hj]
    by_cases c1 : r < 3
    · have : j < nf := by simpa [zlm, c1] using hj
      rw [if_pos c1, if_pos (by omega), ← h4 r j c1 (by omega)]
      simp [zmrow, c1]
    · rw [if_neg c1]
      by_cases c2 : r = 3
      · subst c2
        rw [if_pos rfl, if_pos (by decide)]
        exact congrFun (h1 1868 (by decide) (by decide)) j
      · rw [if_neg c2]
        by_cases c3 : r < 9
        · have : j < nb := by simpa [zlm, c1, c3] using hj
          rw [if_pos c3, if_pos c3, ← h5 (r - 4) j (by omega) (by omega)]
          rw [show zmrow r = 1878 + (r - 4) by unfold zmrow; rw [if_neg c1, if_neg c2]; omega]
        · have hj3 : j < 3 := by
            by_cases c4 : r = 9
            · simpa [zlm, c4] using hj
            · simp [zlm, c1, c3, c4] at hj
          rw [if_neg c3, if_neg c3, h3 j hj3]
  · rw [if_neg hj, if_neg hj]
def sp_it (P : zP) (S : zS) : Nat → zS
  | 0 => S
  | n + 1 => sp_ye P (sp_it P S n)
theorem sInv_it (hp : pInv P) {S : zS} (h : sInv P S) : ∀ n, sInv P (sp_it P S n) := by
  intro n
  induction n with
  | zero => exact h
  | succ n ih => rw [sp_it]; exact sInv_ye hp ih
theorem F7_goOn_ok (hM : zML I P) (hp : pInv P) (hi : sInv P (zmv2 (pnf P) (pnb P) I)) {n : Nat} (hn : n < 2147483648) : ∃ J, F_X7_goOn (nI n) I = some J ∧ zmv2 (pnf P) (pnb P) J = sp_it P (zmv2 (pnf P) (pnb P) I) n ∧ zmfr I J := by
  have s := zloop_up (body := fun s : Int32 × zId => F_X7_goOn_L2 (nI n) s.1 s.2) (fun i s => s.1 = nI i ∧ zmv2 (pnf P) (pnb P) s.2 = sp_it P (zmv2 (pnf P) (pnb P) I) i ∧ zmfr I s.2) (fun t => zmv2 (pnf P) (pnb P) t = sp_it P (zmv2 (pnf P) (pnb P) I) n ∧ zmfr I t) n ?_ ?_ 0 (0, I) (Nat.zero_le _) ⟨rfl, rfl, zmfr.rf⟩
  · obtain ⟨J, h1, h2, h3⟩ := s
    exact ⟨J, by simp only [F_X7_goOn, h1, zb1_e], h2, h3⟩
  · rintro i ⟨_, J⟩ hib ⟨rfl, e1, e3⟩
    dsimp only at e1 e3
    have hiJ : sInv P (zmv2 (pnf P) (pnb P) J) := by rw [e1]; exact sInv_it hp hi i
    obtain ⟨J1, g1, g2, -, g4⟩ := F7_aYear_ok (hM.fr e3) hp hiJ
    refine Or.inl ⟨(nI (i + 1), J1), ?_, rfl, ?_, e3.tr g4⟩
    · dsimp only
      simp only [F_X7_goOn_L2, if_neg (nI_ge hib (show n < 2 ^ 31 by omega)), g1, zb1_e, zlet_e, nI_1]
    · dsimp only
      rw [g2, e1, sp_it]
  · rintro ⟨_, J⟩ ⟨rfl, e1, e3⟩
    refine ⟨J, ?_, e1, e3⟩
    dsimp only
    simp only [F_X7_goOn_L2, if_pos (nI_le (Nat.le_refl n) (show n < 2 ^ 31 by omega))]
end L12
