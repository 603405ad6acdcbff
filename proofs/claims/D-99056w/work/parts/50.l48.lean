/-! L48: the model: years, undo, spy, forget -/
section L48
variable {I J : zId} {P : zP} {X : zXd} {b b' : zBk}
theorem nlt_le {x y : Int32} : ¬ x < y ↔ y ≤ x := by
  rw [iL, iLe]
  omega
theorem F7_years_ok (h : zMB I P X b) (hp : pInv P) (hb : bOk P b) (x : Int32) : ∃ J, F_X7_years x I = some ((q_years P b x).1, J) ∧ zMB J P X (q_years P b x).2 ∧ zma I J := by
  have hnf := hp.1
  have hnb := hp.2.1
  obtain ⟨h1, e1⟩ := h.c1 hp (v := 0)
  have hI : F_X7_isIn x.toInt64 1 30 (zu I 1860 1 0) = some (zib x 1 30) := F7_isIn_ok x 1 30
  have s0 : zu I 1860 1 0 1860 34 = bS b 9 0 := by rw [← h1.2.1]; rfl
  unfold q_years
  by_cases c : zib x 1 30 = 0 ∨ 999 < bS b 9 0 + x
  · rw [if_pos c]
    obtain ⟨J, g1, g2, g3, g4⟩ := F7_refuse_ok h1 (i := 1) (by decide)
    rw [show nI 1 = 1 from rfl] at g1
    refine ⟨J, ?_, g3, e1.tr g4⟩
    by_cases c1 : zib x 1 30 = 0
    · simp only [F_X7_years, ↓reduceIte, zg_true, zb1_e, zb2_e, zb3_e, zsum, zlet_e, nI_1, hI, c1, g1]
    · have c2 := c.resolve_left c1
      have c3 : ¬ bS b 9 0 + x ≤ 999 := fun q => nlt_le.mpr q c2
      simp only [F_X7_years, ↓reduceIte, zg_true, zb1_e, zb2_e, zb3_e, zsum, zlet_e, nI_1, hI, c1, s0, c3, g1]
  · rw [if_neg c]
    have c1 : ¬ zib x 1 30 = 0 := fun e => c (Or.inl e)
    have c2 : bS b 9 0 + x ≤ 999 := nlt_le.mp fun e => c (Or.inr e)
    obtain ⟨q1, q2⟩ := zib_rg c1
    rw [show (1 : Int32).toInt = 1 from rfl] at q1
    rw [show (30 : Int32).toInt = 30 from rfl] at q2
    obtain ⟨m, hm, rfl⟩ : ∃ m, m < 31 ∧ x = nI m := by
      obtain ⟨m, h1, h2⟩ := nI_of (x := x) (fun q => by have := iL.mp q; rw [show (0 : Int32).toInt = 0 from rfl] at this; omega)
      subst h2
      rw [nI_toInt (by omega)] at q2
      exact ⟨m, by omega, rfl⟩
    rw [nI_c (by omega)]
    obtain ⟨J, g1, g2, g3, g4, g5⟩ := F7_keep_ok h1 hp hb.1.1
    have hz : zmv2 (pnf P) (pnb P) J = bS b := g2.2.1
    obtain ⟨J2, u1, u2, u3⟩ := F7_goOn_ok g2.1.1 hp (by rw [hz]; exact hb.1.2.1) (n := m) (by omega)
    rw [hz] at u2
    have s1 := g2.st u3.ma u2 (u3.row fun k => by simp [zdyn]) (fun k hk => u3 1860 k (by rcases hk with rfl | rfl <;> simp [zdyn])) ⟨u3.row fun k => by simp [zdyn], u3.row fun k => by simp [zdyn], u3.row fun k => by simp [zdyn]⟩ (u3.row fun k => by simp [zdyn])
    refine ⟨J2, ?_, s1, (e1.tr g3).tr u3.ma⟩
    have s9 : J2 1860 34 = sp_it P (bS b) m 9 0 := by rw [← u2]; rfl
    simp only [F_X7_years, ↓reduceIte, zg_true, zb1_e, zb2_e, zb3_e, zsum, zlet_e, nI_1, hI, c1, s0, c2, g1, u1, s9]
theorem F7_forget_ok (h : zMB I P X b) (hp : pInv P) : ∃ J, F_X7_forget I = some J ∧ zMB J P X (q_forget b) ∧ zma I J ∧ J 1860 1 = 0 := by
  obtain ⟨h1, e1⟩ := h.c1 hp (v := 0)
  have e2 : zma (zu I 1860 1 0) (zu (zu I 1860 1 0) 1860 38 0) := zma.rf.zu (by simp [zmac])
  refine ⟨zu (zu I 1860 1 0) 1860 38 0, rfl, ?_, e1.tr e2, by rw [zu_off (by omega), zu_same]⟩
  obtain ⟨g1, g2, g3, g4, g5, g6⟩ := h1
  exact ⟨g1.ma e2, by rw [zmvo (by simp [zmok])]; exact g2, by rw [zu_off (by omega)]; exact g3, fun k hk => by rw [zu_row (by decide), zu_row (by decide)]; exact g4 k hk, ⟨zu_same, fun k hk => absurd hk (Nat.not_lt_zero k)⟩, fun i hi => by rw [zu_row (by decide)]; exact g6 i hi⟩
theorem F7_undo_ok (h : zMB I P X b) (hp : pInv P) (hb : bOk P b) : ∃ J, F_X7_undo I = some ((q_undo b).1, J) ∧ zMB J P X (q_undo b).2 ∧ zma I J := by
  obtain ⟨h1, e1⟩ := h.c1 hp (v := 0)
  have h40 := hb.1.1
  have h3 := h1.2.2.1
  unfold q_undo
  by_cases c : bA b = 0
  · rw [if_pos c]
    refine ⟨_, ?_, h1, e1⟩
    rw [c] at h3
    have e : nI 0 = 0 := nI_0
    simp only [F_X7_undo, ↓reduceIte, zg_true, zb1_e, zb2_e, zb3_e, zsum, zlet_e, nI_1, h3, e, not_true_eq_false]
  · rw [if_neg c]
    obtain ⟨m, hm⟩ : ∃ m, bA b = m + 1 := ⟨bA b - 1, by omega⟩
    rw [hm, Nat.add_sub_cancel]
    rw [hm] at h3
    let I1 := zu (zu I 1860 1 0) 1860 37 (nI m)
    have e2 : zma (zu I 1860 1 0) I1 := zma.rf.zu (by simp [zmac])
    obtain ⟨J, g1, g2⟩ := F7_unpack_ok (I := I1) (a0 := 1883) (n0 := 2280) (fr := 57 * m) (by omega) (by decide) (by decide)
    have r : ∀ x, (x < 1875 ∨ 1882 < x) → x ≠ 1860 → J x = zu I 1860 1 0 x := fun x p q => by rw [g2.1 x p q]; exact zu_row q
    have k37 : J 1860 37 = nI m := by rw [g2.2.1 37 (by omega)]; exact zu_same
    have e3 : zma I1 J := fun x k hx => by
      by_cases cx : x = 1860
      · rw [cx]
        refine g2.2.1 k ?_
        simp only [zmac, Bool.or_eq_false_iff, Bool.and_eq_false_iff, decide_eq_false_iff_not, beq_eq_false_iff_ne, ne_eq] at hx
        omega
      · refine congrFun (g2.1 x ?_ cx) k
        simp only [zmac, Bool.or_eq_false_iff, Bool.and_eq_false_iff, decide_eq_false_iff_not, beq_eq_false_iff_ne, ne_eq] at hx
        omega
    refine ⟨J, ?_, ?_, (e1.tr e2).tr e3⟩
    · have n1 : ¬ nI (m + 1) = 0 := nI_ne0 (by omega) (by omega)
      have j1 : zu (zu I 1860 1 0) 1860 37 (nI m) = I1 := rfl
      have j2 : I1 1860 37 = nI m := zu_same
      simp only [F_X7_undo, ↓reduceIte, zg_true, zb1_e, zb2_e, zb3_e, zsum, zlet_e, nI_1, h3, n1, not_false_eq_true, nI_pred, j1, j2, e57 m (by omega), g1, k37]
    · obtain ⟨q1, q2, q3, q4, ⟨q5, q5b⟩, q6⟩ := h1
      refine ⟨(q1.ma e2).ma e3, ?_, k37, fun k (hk : k < m) => ?_, ⟨?_, fun k hk => ?_⟩, fun i hi => by rw [r _ (by decide) (by decide)]; exact q6 i hi⟩
      · rw [g2.mv hp.1 hp.2.1]
        show zrv _ _ (zu _ _ _ _ 1868) (zu _ _ _ _ 1883) _ = bP b m
        rw [zu_row (by decide), zu_row (by decide)]
        exact q4 m (by omega)
      · rw [r _ (by decide) (by decide), r _ (by decide) (by decide)]
        exact q4 k (by omega)
      · rw [g2.2.1 38 (by omega)]
        show zu _ _ _ _ 1860 38 = _
        rw [zu_off (by omega)]
        exact q5
      · rw [r _ (by decide) (by decide), r _ (by decide) (by decide), r _ (by decide) (by decide)]
        exact q5b k hk
theorem F7_spy_ok (h : zMB I P X b) (hp : pInv P) (hb : bOk P b) (x y w : Int32) : zActM (F_X7_spy x y w) I P X (q_spy P b x y w) := by
  have hnb := hp.2.1
  obtain ⟨h1, e1⟩ := h.c1 hp (v := 0)
  have c0 : zu I 1860 1 0 1860 1 = 0 := zu_same
  unfold zActM q_spy
  rcases zir_cases x (n := pnb P) (by omega) with ⟨k, hk, rfl⟩ | hx
  · rw [qa_ok hk (by omega)]
    have hB := F7_isB_ok (I := zu I 1860 1 0) (by omega) h1.nf.2 hk
    have hI1 := F7_isIn_0 (I := zu I 1860 1 0) (h64 := 20) y 20 rfl
    have hI2 := F7_isIn_0 (I := zu I 1860 1 0) (h64 := 9999) w 9999 rfl
    have h9 := hb.2
    have q5 := h1.2.2.2.2.1
    have hn8 : nI (bSp b).1 = 8 ↔ (bSp b).1 = 8 := nI_eq (b := 8) (by have := h9.1; omega) (by decide)
    by_cases c : (bSp b).1 = 8 ∨ zib y 0 20 = 0 ∨ zib w 0 9999 = 0
    · rw [if_pos c]
      obtain ⟨J, g1, g2, g3, g4⟩ := F7_refuse_ok h1 (i := 2) (by decide)
      rw [show nI 2 = 2 from rfl] at g1
      refine ⟨J, ?_, by rw [g2]; exact c0, g3, e1.tr g4⟩
      by_cases c1 : (bSp b).1 = 8
      · have c8 : (nI (bSp b).1 = 8) = True := eq_true (hn8.mpr c1)
        simp only [F_X7_spy, ↓reduceIte, zg_true, zb1_e, zb2_e, zb3_e, zsum, zlet_e, nI_1, hB, n10, not_false_eq_true, q5.1, c8, g1, qV]
      · have c8 : ¬ nI (bSp b).1 = 8 := fun e => c1 (hn8.mp e)
        by_cases c2 : zib y 0 20 = 0
        · simp only [F_X7_spy, ↓reduceIte, zg_true, zb1_e, zb2_e, zb3_e, zsum, zlet_e, nI_1, hB, n10, not_false_eq_true, q5.1, c8, hI1, c2, g1, qV]
        · have c3 := (c.resolve_left c1).resolve_left c2
          simp only [F_X7_spy, ↓reduceIte, zg_true, zb1_e, zb2_e, zb3_e, zsum, zlet_e, nI_1, hB, n10, not_false_eq_true, q5.1, c8, hI1, c2, hI2, c3, not_true_eq_false, g1, qV]
    · rw [if_neg c]
      have c1 : ¬ (bSp b).1 = 8 := fun e => c (Or.inl e)
      have c8 : ¬ nI (bSp b).1 = 8 := fun e => c1 (hn8.mp e)
      have c2 : ¬ zib y 0 20 = 0 := fun e => c (Or.inr (Or.inl e))
      have c3 : ¬ zib w 0 9999 = 0 := fun e => c (Or.inr (Or.inr e))
      have hm8 : (bSp b).1 < 8 := by have := h9.1; omega
      let m := (bSp b).1
      have hm : m < 8 := hm8
      let I1 := zu I 1860 1 0
      have i38 : I1 1860 38 = nI m := q5.1
      let J := zu (zu (zu (zu I1 1890 m (nI k)) 1891 m y) 1892 m w) 1860 38 (nI (m + 1))
      have e2 : zma I1 J := (((zma.rf.zu (by simp [zmac])).zu (by simp [zmac])).zu (by simp [zmac])).zu (by simp [zmac])
      have r : ∀ z, z ≠ 1860 → z ≠ 1890 → z ≠ 1891 → z ≠ 1892 → J z = I1 z := fun z p1 p2 p3 p4 => by
        show zu (zu (zu (zu I1 _ _ _) _ _ _) _ _ _) _ _ _ z = _
        rw [zu_row p1, zu_row p4, zu_row p3, zu_row p2]
      have r0 : ∀ k, k ≠ 38 → J 1860 k = I1 1860 k := fun k hk => by
        show zu (zu (zu (zu I1 _ _ _) _ _ _) _ _ _) _ _ _ 1860 k = _
        rw [zu_off (by omega), zu_row (by decide), zu_row (by decide), zu_row (by decide)]
      refine ⟨J, ?_, by rw [r0 _ (by decide)]; exact c0, ?_, e1.tr e2⟩
      · have w1 : zu (zu (zu I1 1890 m (nI k)) 1891 m y) 1892 m w 1860 38 = nI m := by
          rw [zu_row (by decide), zu_row (by decide), zu_row (by decide)]; exact i38
        have w2 : zu (zu I1 1890 m (nI k)) 1891 m y 1860 38 = nI m := by
          rw [zu_row (by decide), zu_row (by decide)]; exact i38
        have w3 : zu I1 1890 m (nI k) 1860 38 = nI m := by
          rw [zu_row (by decide)]; exact i38
        have j1 : zu I 1860 1 0 = I1 := rfl
        rw [j1] at hB hI1 hI2
        simp only [F_X7_spy, ↓reduceIte, zg_true, zb1_e, zb2_e, zb3_e, zsum, zlet_e, nI_1, j1, hB, n10, not_false_eq_true, i38, show ¬ nI m = 8 from c8, hI1, c2, hI2, c3, zin_n (show m < 8 by omega), nI_c (show m < 2147483648 by omega), w1, w2, w3, zu_same, qV]
        try rfl
      · obtain ⟨q1, q2, q3, q4, ⟨q5, q5b⟩, q6⟩ := h1
        refine ⟨q1.ma e2, ?_, by rw [r0 _ (by decide)]; exact q3, fun j hj => by rw [r _ (by decide) (by decide) (by decide) (by decide), r _ (by decide) (by decide) (by decide) (by decide)]; exact q4 j hj, ⟨zu_same, fun j hj => ?_⟩, fun i hi => by rw [r _ (by decide) (by decide) (by decide) (by decide)]; exact q6 i hi⟩
        · show zmv2 _ _ (zu (zu (zu (zu I1 _ _ _) _ _ _) _ _ _) _ _ _) = _
          rw [zmvo (by simp [zmok]), zmvo (by simp [zmok]), zmvo (by simp [zmok]), zmvo (by simp [zmok])]
          exact q2
        · have e1 : J 1890 = zu I1 1890 m (nI k) 1890 := by
            show zu (zu (zu (zu I1 _ _ _) _ _ _) _ _ _) _ _ _ 1890 = _
            rw [zu_row (by decide), zu_row (by decide), zu_row (by decide)]
          have e2 : J 1891 = zu I1 1891 m y 1891 := by
            show zu (zu (zu (zu I1 _ _ _) _ _ _) _ _ _) _ _ _ 1891 = _
            rw [zu_row (by decide), zu_row (by decide)]
            funext z
            simp only [zu, show ¬ 1891 = 1890 by decide, false_and, if_false]
          have e3 : J 1892 = zu I1 1892 m w 1892 := by
            show zu (zu (zu (zu I1 _ _ _) _ _ _) _ _ _) _ _ _ 1892 = _
            rw [zu_row (by decide)]
            funext z
            simp only [zu, show ¬ 1892 = 1890 by decide, show ¬ 1892 = 1891 by decide, false_and, if_false]
          show J 1890 j = nI (zu1 (bSp b).2.1 m k j) ∧ J 1891 j = zu1 (bSp b).2.2.1 m y j ∧ J 1892 j = zu1 (bSp b).2.2.2 m w j
          rw [e1, e2, e3]
          have hj' : j < m + 1 := hj
          unfold zu zu1
          by_cases e : j = m
          · simp only [e, true_and, if_true, and_self]
          · simp only [e, and_false, if_false]
            exact q5b j (show j < m by omega)
  · rw [qa_no hx]
    have hB := F7_isB_no (I := zu I 1860 1 0) (n := pnb P) (by omega) h1.nf.2 hx
    obtain ⟨J, g1, g2, g3, g4⟩ := zactM_no h1 hp
    refine ⟨J, ?_, g2, g3, e1.tr g4⟩
    simp only [F_X7_spy, ↓reduceIte, zg_true, zb1_e, zb2_e, zb3_e, zsum, zlet_e, nI_1, hB, not_true_eq_false, g1, qV]
end L48
