/-! L42: the component: spy -/
section L42
variable {K : zKd} {F : zFd} {I : zId} {L : zLd} {n a N : Nat} {P : zP} {X : zXd} {b : zBk}
theorem F_spy_ok (h : zCB K F I a N P X b) (hp : pInv P) (x y w : Int32) : ∃ I', F_X1_spy K F 1000 x y w I = some (qC (q_spy P b x y w).1, I') ∧ zCB K F I' a N P X (q_spy P b x y w).2 ∧ zaf a I I' := by
  have h0 := h
  have hnb := hp.2.1
  have hq := h.1
  unfold q_spy
  rcases zir_cases x (n := pnb P) (by omega) with ⟨k, hk, rfl⟩ | hx
  · rw [qa_ok hk (by omega)]
    have hba := F_bandAt_ok h.1 hp hk
    obtain ⟨h1, h2, h3, ⟨o, h4, h5⟩, h6, h9⟩ := h
    have hd := h1.2.2.2.2.2.2
    obtain ⟨k0, ⟨f0, f1, f2, f3, -⟩, -, -⟩ := h1
    have k13 := h3.2.1
    obtain ⟨v1, v2, v3, v5, v6, v7⟩ := h5
    have hn8 : nI (bSp b).1 = 8 ↔ (bSp b).1 = 8 := nI_eq (b := 8) (by have := h9.1; omega) (by decide)
    obtain ⟨r1, r2, r3⟩ := F_refuse_ok h0 (i := 2) (by decide)
    rw [show nI 2 = 2 from rfl] at r1
    by_cases c : (bSp b).1 = 8 ∨ zib y 0 20 = 0 ∨ zib w 0 9999 = 0
    · rw [if_pos c]
      refine ⟨_, ?_, r2, r3⟩
      by_cases c1 : (bSp b).1 = 8
      · have c8 : (nI (bSp b).1 = 8) = True := eq_true (hn8.mpr c1)
        simp only [F_X1_spy, ↓reduceIte, zg_true, zb1_e, zb2_e, zb3_e, zsum, zlet_e, nI_1, ↓zka_eq k0, d1000, f1, ↓zka_eq k13, show decide (600 ≤ 1013) = true from rfl, hba, v6.1, c8, r1, qC]
      · by_cases c2 : zib y 0 20 = 0
        · simp only [F_X1_spy, ↓reduceIte, zg_true, zb1_e, zb2_e, zb3_e, zsum, zlet_e, nI_1, ↓zka_eq k0, d1000, f1, ↓zka_eq k13, show decide (600 ≤ 1013) = true from rfl, hba, v6.1, hn8, c1, F_within_ok, c2, r1, qC]
        · have c3 := (c.resolve_left c1).resolve_left c2
          simp only [F_X1_spy, ↓reduceIte, zg_true, zb1_e, zb2_e, zb3_e, zsum, zlet_e, nI_1, ↓zka_eq k0, d1000, f1, ↓zka_eq k13, show decide (600 ≤ 1013) = true from rfl, hba, v6.1, hn8, c1, F_within_ok, c2, c3, not_true_eq_false, r1, qC]
    · rw [if_neg c]
      have c1 : ¬ (bSp b).1 = 8 := fun e => c (Or.inl e)
      have n8 : ¬ nI (bSp b).1 = 8 := fun e => c1 (hn8.mp e)
      have c2 : ¬ zib y 0 20 = 0 := fun e => c (Or.inr (Or.inl e))
      have c3 : ¬ zib w 0 9999 = 0 := fun e => c (Or.inr (Or.inr e))
      have hm8 : (bSp b).1 < 8 := by have := h9.1; omega
      obtain ⟨g0, g1, g2, g3, g4, g5⟩ := h3.2.2.1
      obtain ⟨k26, k27, k28, -⟩ := h3.2.2.2.2.2.1
      let m := (bSp b).1
      have hm : m < 8 := hm8
      let J := zu (zu (zu (zu I 1026 m (nI k)) 1027 m y) 1028 m w) 1013 7 (nI (m + 1))
      have hrow : ∀ z, z ≠ 1013 → z ≠ 1026 → z ≠ 1027 → z ≠ 1028 → J z = I z := fun z p1 p2 p3 p4 => by
        show zu (zu (zu (zu I _ _ _) _ _ _) _ _ _) _ _ _ z = _
        rw [zu_row p1, zu_row p4, zu_row p3, zu_row p2]
      have haf : zaf a I J := fun z p q => hrow z (by omega) (by omega) (by omega) (by omega)
      refine ⟨J, ?_, ⟨h0.1.af haf, h2, h3, ⟨o, h4, ?_⟩, h6, ⟨by show m + 1 ≤ 8; omega, fun j hj => ?_⟩⟩, haf⟩
      · have w1 : zu (zu (zu I 1026 m (nI k)) 1027 m y) 1028 m w 1013 7 = nI m := by
          rw [zu_row (by decide), zu_row (by decide), zu_row (by decide)]
          exact v6.1
        have w2 : zu (zu I 1026 m (nI k)) 1027 m y 1013 7 = nI m := by
          rw [zu_row (by decide), zu_row (by decide)]
          exact v6.1
        have w3 : zu I 1026 m (nI k) 1013 7 = nI m := by
          rw [zu_row (by decide)]
          exact v6.1
        simp only [F_X1_spy, ↓reduceIte, zg_true, zb1_e, zb2_e, zb3_e, zsum, zlet_e, nI_1, ↓zka_eq k0, d1000, f1, ↓zka_eq k13, show decide (600 ≤ 1013) = true from rfl, hba, v6.1, show ¬ nI m = 8 from n8, F_within_ok, c2, c3, not_false_eq_true, g2, g3, g4, ↓zka_eq k26, ↓zka_eq k27, ↓zka_eq k28, zin_n (show m < 8 by omega), nI_c (show m < 2147483648 by omega), show decide (600 ≤ 1013 + 13) = true from rfl, show decide (600 ≤ 1013 + 14) = true from rfl, show decide (600 ≤ 1013 + 15) = true from rfl, show nI (bSp b).1 = nI m from rfl, w1, w2, w3, zu_same, qC]
        try rfl
      · refine ⟨by rw [hrow _ (by decide) (by decide) (by decide) (by decide)]; exact v1, ?_, ⟨?_, v3.2⟩, fun j hj => ?_, ⟨zu_same, fun j hj => ?_⟩, fun j hj => by rw [hrow _ (by decide) (by decide) (by decide) (by decide)]; exact v7 j hj⟩
        · rw [zcv_row (I := I) fun z p q => hrow z (by omega) (by omega) (by omega) (by omega)]
          exact v2
        · show zu (zu (zu (zu I _ _ _) _ _ _) _ _ _) _ _ _ 1013 6 = _
          rw [zu_off (by omega), zu_row (by decide), zu_row (by decide), zu_row (by decide)]
          exact v3.1
        · have := h4.1 j (Nat.lt_of_lt_of_le hj h6.1)
          rw [zcv_row (I := I) fun z p q => hrow z (by omega) (by omega) (by omega) (by omega)]
          exact v5 j hj
        · have e1 : J 1026 = zu I 1026 m (nI k) 1026 := by
            show zu (zu (zu (zu I _ _ _) _ _ _) _ _ _) _ _ _ 1026 = _
            rw [zu_row (by decide), zu_row (by decide), zu_row (by decide)]
          have e2 : J 1027 = zu I 1027 m y 1027 := by
            show zu (zu (zu (zu I _ _ _) _ _ _) _ _ _) _ _ _ 1027 = _
            rw [zu_row (by decide), zu_row (by decide)]
            funext z
            simp only [zu, show ¬ 1027 = 1026 by decide, false_and, if_false]
          have e3 : J 1028 = zu I 1028 m w 1028 := by
            show zu (zu (zu (zu I _ _ _) _ _ _) _ _ _) _ _ _ 1028 = _
            rw [zu_row (by decide)]
            funext z
            simp only [zu, show ¬ 1028 = 1026 by decide, show ¬ 1028 = 1027 by decide, false_and, if_false]
          show J 1026 j = nI (zu1 (bSp b).2.1 m k j) ∧ J 1027 j = zu1 (bSp b).2.2.1 m y j ∧ J 1028 j = zu1 (bSp b).2.2.2 m w j
          rw [e1, e2, e3]
          have hj' : j < m + 1 := hj
          unfold zu zu1
          by_cases e : j = m
          · simp only [e, true_and, if_true, and_self]
          · simp only [e, and_false, if_false]
            exact v6.2 j (show j < m by omega)
      · show zu1 (bSp b).2.1 m k j < pnb P
        have hj' : j < m + 1 := hj
        unfold zu1
        split
        · exact hk
        · exact h9.2 j (show j < m by omega)
  · rw [qa_no hx]
    have k0 := h.1.1
    refine ⟨I, ?_, h, zaf.rf⟩
    simp only [F_X1_spy, ↓reduceIte, zg_true, zb1_e, zb2_e, zb3_e, zsum, zlet_e, nI_1, ↓zka_eq k0, F_bandAt_no h.1 hx, qC]
end L42
