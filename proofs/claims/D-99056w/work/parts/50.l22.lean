/-! L22: where, counted: the model -/
section L22
variable {I : zId} {P : zP} {X : zXd}
/-- what a band owes behind n years; the row is put back -/
theorem F7_owesIn_ok (hp : pInv P) {I1 J : zId} (hpk : zpkd 1886 0 I I1) (hQ : zMQ I P X) (hi : sInv P (zmv2 (pnf P) (pnb P) J)) (hr : J 1886 = I1 1886) (hB : J 1868 = I 1868) (hf : zmf I J) (h1 : J 1860 1 = I 1860 1) {b n : Nat} (hb : b < pnb P) (hn : n < 2147483648) : ∃ J2, F_X7_owesIn (nI b) (nI n) J = some (sp_it P (zmv2 (pnf P) (pnb P) J) n 7 b, J2) ∧ zmv2 (pnf P) (pnb P) J2 = zmv2 (pnf P) (pnb P) I ∧ zmf I J2 ∧ J2 1860 1 = I 1860 1 ∧ J2 1868 = I 1868 ∧ J2 1886 = I1 1886 := by
  have hnb := hp.2.1
  obtain ⟨L, r1, r2, r3⟩ := F7_goOn_ok (hQ.mf hf).1 hp hi hn
  obtain ⟨b1, b2, b3, b4⟩ := r3.k
  obtain ⟨J2, s1, s2, s3, s4, s5, s6⟩ := F7_back_ok hp hpk (J := L) (b1.trans hr) (fun j _ => by rw [b2, hB]) (hf.tr r3.mf) (by rw [b3, h1])
  refine ⟨J2, ?_, s2, s3, s4, by rw [s5, b2, hB], by rw [s6 _ (by decide) (by decide), b1, hr]⟩
  have e1 : L 1881 b = sp_it P (zmv2 (pnf P) (pnb P) J) n 7 b := by rw [← r2]; exact (zmv27 hb).symm
  simp only [F_X7_owesIn, r1, ↓reduceIte, zg_true, zb1_e, zb2_e, zb3_e, zsum, zlet_e, nI_1, zin_n (show b < 6 by omega), nI_c (show b < 2147483648 by omega), e1, s1]
theorem F7_where_ok (hQ : zMQ I P X) (hp : pInv P) (hi : sInv P (zmv2 (pnf P) (pnb P) I)) (x y w : Int32) : ∃ J, F_X7_where x y w I = some (qV (q_where P (zmv2 (pnf P) (pnb P) I) x y w), J) ∧ J 1860 1 = qE (q_where P (zmv2 (pnf P) (pnb P) I) x y w) ∧ zmv2 (pnf P) (pnb P) J = zmv2 (pnf P) (pnb P) I ∧ zmf I J := by
  have hc := zmf_c1 (I := I) (v := 0)
  have hQ1 := hQ.mf hc
  have em : zmv2 (pnf P) (pnb P) (zu I 1860 1 0) = zmv2 (pnf P) (pnb P) I := zmv2_c1
  have hnf := hp.1
  have hnb := hp.2.1
  unfold q_where
  rcases zir_cases x (n := pnb P) (by omega) with ⟨b, hb, rfl⟩ | hx
  · rw [q_fa_ok hb (by omega)]
    have hF := F7_isB_ok (by omega) hQ1.1.2.1 hb
    have h10 : ¬ (1 : Int32) = 0 := by decide
    rcases zib_cases w 1 (by decide) with ⟨w, hw, rfl⟩ | ⟨hw, hw2⟩
    · rw [q_in_ok hw (by decide)]
      have c0 : ¬ nI w < 0 := nI_pos (by omega)
      have c1 : nI w ≤ 1 := nI_le hw (by decide)
      have hw0 : (nI w = 0) ↔ w = 0 := nI_eq (b := 0) (by omega) (by omega)
      rcases zib1_cases y 20 (by decide) with ⟨n, hn1, hn, rfl, hn2⟩ | ⟨hy, hy2⟩
      · rw [q_i1_ok hn1 hn (by decide)]
        have hz := F7_isIn_ok (I := zu I 1860 1 0) (nI n) 1 20
        rw [show zib (nI n) 1 20 = 1 from hn2] at hz
        obtain ⟨I1, g1, g2, g3, g4, g5, g6⟩ := F7_ahead_ok hQ1 hp (by rw [em]; exact hi)
        rw [em] at g3
        have hnf0 : 0 < pnf P := by have := (hi.at' hp hb).2; omega
        have hob : ∀ i, sp_ob P (zmv2 (pnf P) (pnb P) I) b i ((zmv2 (pnf P) (pnb P) I) 5 b) n = sp_it P (zu (zmv2 (pnf P) (pnb P) I) 4 b (nI i)) n 7 b := fun i => by
          unfold sp_ob
          have : (zmv2 (pnf P) (pnb P) I) 5 b = zu (zmv2 (pnf P) (pnb P) I) 4 b (nI i) 5 b := (zu_off (by omega)).symm
          rw [this, zu_self]
        have h9 : ∀ i, i < pnf P → (sp_ob P (zmv2 (pnf P) (pnb P) I) b i ((zmv2 (pnf P) (pnb P) I) 5 b) n).toInt < 100000 := fun i hif => by
          rw [hob]
          have := ((sInv_it hp (sInv_at hi hif (b := b)) n).1 b hb).2.2.2.2.2
          omega
        have s := zloop_up (body := fun s : Int32 × Int32 × Int32 × zId => F_X7_where_L65 (nI b) (nI n) s.1 s.2.1 s.2.2.1 s.2.2.2) (fun i s => ((i = 0 ∧ s.1 = -1 ∧ s.2.1 = 100000) ∨ (0 < i ∧ (s.1, s.2.1) = zwh (fun f => sp_ob P (zmv2 (pnf P) (pnb P) I) b f ((zmv2 (pnf P) (pnb P) I) 5 b) n) i)) ∧ s.2.2.1 = nI i ∧ zmv2 (pnf P) (pnb P) s.2.2.2 = (zmv2 (pnf P) (pnb P) I) ∧ zmf (zu I 1860 1 0) s.2.2.2 ∧ s.2.2.2 1860 1 = 0 ∧ s.2.2.2 1868 = I 1868 ∧ s.2.2.2 1886 = I1 1886) (fun t => (t.1, t.2.1) = zwh (fun f => sp_ob P (zmv2 (pnf P) (pnb P) I) b f ((zmv2 (pnf P) (pnb P) I) 5 b) n) (pnf P) ∧ zmv2 (pnf P) (pnb P) t.2.2 = (zmv2 (pnf P) (pnb P) I) ∧ zmf (zu I 1860 1 0) t.2.2 ∧ t.2.2 1860 1 = 0) (pnf P) ?_ ?_ 0 (-1, 100000, 0, I1) (Nat.zero_le _) ⟨Or.inl ⟨rfl, rfl, rfl⟩, rfl, g3, g4, by dsimp only; rw [g6]; exact zu_same, by dsimp only; rw [g5]; exact zu_row (by decide), rfl⟩
        · obtain ⟨⟨t1, t2, J⟩, s1, s2, s3, s4, s5⟩ := s
          dsimp only at s2 s3 s4 s5
          refine ⟨J, ?_, s5, s3, hc.tr s4⟩
          simp only [F_X7_where, hF, ↓reduceIte, zg_true, zb1_e, zb2_e, zb3_e, zsum, zlet_e, nI_1, if_neg h10, if_neg c0, if_pos c1, hw0, g1, s1, zn3, qV, ← s2]
          rw [show F_X7_isIn (nI n).toInt64 1 20 (zu I 1860 1 0) = some 1 from hz]
          simp only [zb1_e, if_pos h10]
          by_cases c : w = 0
          · rw [if_neg (fun h => h c), if_pos c]
          · rw [if_pos c, if_neg c]
        · rintro i ⟨t1, t2, _, J⟩ hif ⟨e1, rfl, e2, e3, e4, e5, e6⟩
          dsimp only at e1 e2 e3 e4 e5 e6
          have hm : zmv2 (pnf P) (pnb P) (zu J 1878 b (nI i)) = zu (zmv2 (pnf P) (pnb P) I) 4 b (nI i) := by rw [zmvu4 hb, e2]
          obtain ⟨J2, r1, r2, r3, r4, r5, r6⟩ := F7_owesIn_ok hp g2 hQ1 (J := zu J 1878 b (nI i)) (by rw [hm]; exact sInv_at hi hif) (by rw [zu_row (by decide)]; exact e6) (by rw [zu_row (by decide), zu_row (by decide)]; exact e5) (e3.zu (by simp [zmsc])) (by rw [zu_off (by omega), zu_same]; exact e4) hb (n := n) (by omega)
          rw [hm, ← hob] at r1
          rw [em] at r2
          rw [zu_same] at r4
          rw [zu_row (by decide)] at r5
          have e0 := (hQ1.mf e3).1.1
          have h9i := h9 i hif
          rcases e1 with ⟨q1, rfl, rfl⟩ | ⟨q1, q2⟩
          · refine Or.inl ⟨(nI i, sp_ob P (zmv2 (pnf P) (pnb P) I) b i ((zmv2 (pnf P) (pnb P) I) 5 b) n, nI (i + 1), J2), ?_, ⟨Or.inr ⟨by omega, ?_⟩, rfl, r2, r3, r4, r5, r6⟩⟩
            · dsimp only
              simp only [F_X7_where_L65, e0, nI_ge hif (show pnf P < 2 ^ 31 by omega), ↓reduceIte, zg_true, zb1_e, zb2_e, zb3_e, zsum, zlet_e, nI_1, zin_n (show b < 6 by omega), nI_c (show b < 2147483648 by omega), r1, zb2_e, if_pos (show sp_ob P (zmv2 (pnf P) (pnb P) I) b i ((zmv2 (pnf P) (pnb P) I) 5 b) n < 100000 from iL.mpr h9i)]
            · subst q1
              rw [zwh, if_pos (show (zwh (fun f => sp_ob P (zmv2 (pnf P) (pnb P) I) b f ((zmv2 (pnf P) (pnb P) I) 5 b) n) 0).1 = -1 ∨ _ from Or.inl rfl)]
          · obtain ⟨j, rfl⟩ : ∃ j, i = j + 1 := ⟨i - 1, by omega⟩
            have hn1' := zwh_1 (v := fun f => sp_ob P (zmv2 (pnf P) (pnb P) I) b f ((zmv2 (pnf P) (pnb P) I) 5 b) n) j (by omega)
            by_cases c2 : sp_ob P (zmv2 (pnf P) (pnb P) I) b (j + 1) ((zmv2 (pnf P) (pnb P) I) 5 b) n < t2
            · refine Or.inl ⟨(nI (j + 1), sp_ob P (zmv2 (pnf P) (pnb P) I) b (j + 1) ((zmv2 (pnf P) (pnb P) I) 5 b) n, nI (j + 1 + 1), J2), ?_, ⟨Or.inr ⟨by omega, ?_⟩, rfl, r2, r3, r4, r5, r6⟩⟩
              · dsimp only
                simp only [F_X7_where_L65, e0, nI_ge hif (show pnf P < 2 ^ 31 by omega), ↓reduceIte, zg_true, zb1_e, zb2_e, zb3_e, zsum, zlet_e, nI_1, zin_n (show b < 6 by omega), nI_c (show b < 2147483648 by omega), r1, zb2_e, if_pos c2]
              · rw [zwh, ← q2, if_pos (Or.inr c2)]
            · refine Or.inl ⟨(t1, t2, nI (j + 1 + 1), J2), ?_, ⟨Or.inr ⟨by omega, ?_⟩, rfl, r2, r3, r4, r5, r6⟩⟩
              · dsimp only
                simp only [F_X7_where_L65, e0, nI_ge hif (show pnf P < 2 ^ 31 by omega), ↓reduceIte, zg_true, zb1_e, zb2_e, zb3_e, zsum, zlet_e, nI_1, zin_n (show b < 6 by omega), nI_c (show b < 2147483648 by omega), r1, zb2_e, if_neg c2]
              · rw [← q2] at hn1'
                rw [zwh, ← q2, if_neg (fun q => q.elim hn1' c2)]
        · rintro ⟨t1, t2, _, J⟩ ⟨e1, rfl, e2, e3, e4, e5, e6⟩
          have e0 := (hQ1.mf e3).1.1
          refine ⟨(t1, t2, J), ?_, ?_, e2, e3, e4⟩
          · dsimp only at e0 ⊢
            simp only [F_X7_where_L65, e0, ↓reduceIte, nI_le (Nat.le_refl (pnf P)) (show pnf P < 2 ^ 31 by omega)]
          · rcases e1 with ⟨q1, -⟩ | ⟨-, q2⟩
            · omega
            · exact q2
      · rw [q_i1_no hy2]
        have hz := F7_isIn_ok (I := zu I 1860 1 0) y 1 20
        rw [show zib y 1 20 = 0 from hy] at hz
        have hz' : F_X7_isIn y.toInt64 1 20 (zu I 1860 1 0) = some 0 := hz
        (obtain ⟨J, g1, g2, g3, g4⟩ := F7_fail_ok (P := P) 2 2 rfl hc em; refine ⟨J, ?_, g2, g3, g4⟩; simp only [F_X7_where, zlet_e, zb1_e, g1, zb2_e, qV, hF, if_neg h10, if_neg c0, if_pos c1, hz']; try first | rfl | exact zlt_if (n := 1) (by assumption))
    · rw [q_in_no hw2]
      (obtain ⟨J, g1, g2, g3, g4⟩ := F7_fail_ok (P := P) 1 1 rfl hc em; refine ⟨J, ?_, g2, g3, g4⟩; simp only [F_X7_where, zlet_e, zb1_e, g1, zb2_e, qV, hF, if_neg h10]; try first | rfl | exact zlt_if (n := 1) (by assumption))
  · rw [q_fa_no hx]
    have hF := F7_isB_no (by omega) hQ1.1.2.1 hx
    (obtain ⟨J, g1, g2, g3, g4⟩ := F7_fail_ok (P := P) 1 1 rfl hc em; refine ⟨J, ?_, g2, g3, g4⟩; simp only [F_X7_where, zlet_e, zb1_e, g1, zb2_e, qV, hF, if_true]; try first | rfl | exact zlt_if (n := 1) (by assumption))
theorem F7_counted_ok (hQ : zMQ I P X) (hp : pInv P) (hi : sInv P (zmv2 (pnf P) (pnb P) I)) (x y : Int32) : ∃ J, F_X7_counted x y I = some (qV (q_counted P (zmv2 (pnf P) (pnb P) I) x y), J) ∧ J 1860 1 = qE (q_counted P (zmv2 (pnf P) (pnb P) I) x y) ∧ zmv2 (pnf P) (pnb P) J = zmv2 (pnf P) (pnb P) I ∧ zmf I J := by
  have hc := zmf_c1 (I := I) (v := 0)
  have hQ1 := hQ.mf hc
  have em : zmv2 (pnf P) (pnb P) (zu I 1860 1 0) = zmv2 (pnf P) (pnb P) I := zmv2_c1
  have hnf := hp.1
  have hnb := hp.2.1
  unfold q_counted
  rcases zir_cases x (n := pnb P) (by omega) with ⟨b, hb, rfl⟩ | hx
  · rw [q_fa_ok hb (by omega)]
    have hF := F7_isB_ok (by omega) hQ1.1.2.1 hb
    rcases zib1_cases y 20 (by decide) with ⟨n, hn1, hn, rfl, hn2⟩ | ⟨hy, hy2⟩
    · rw [q_i1_ok hn1 hn (by decide)]
      have hz := F7_isIn_ok (I := zu I 1860 1 0) (nI n) 1 20
      rw [show zib (nI n) 1 20 = 1 from hn2] at hz
      have hz' : F_X7_isIn (nI n).toInt64 1 20 (zu I 1860 1 0) = some 1 := hz
      obtain ⟨I1, g1, g2, g3, g4, g5, g6⟩ := F7_ahead_ok hQ1 hp (by rw [em]; exact hi)
      rw [em] at g3
      have ea := (hi.at' hp hb).1
      have hob : ∀ v, sp_ob P (zmv2 (pnf P) (pnb P) I) b (sp_f (zmv2 (pnf P) (pnb P) I) b) v n = sp_it P (zu (zmv2 (pnf P) (pnb P) I) 5 b v) n 7 b := fun v => by
        unfold sp_ob
        rw [← ea, zu_self]
      let OK : zId → Prop := fun J => zmv2 (pnf P) (pnb P) J = (zmv2 (pnf P) (pnb P) I) ∧ zmf (zu I 1860 1 0) J ∧ J 1860 1 = 0 ∧ J 1868 = I 1868 ∧ J 1886 = I1 1886
      have step : ∀ m, m ≤ 30 → ∀ J, OK J → ∃ J', OK J' ∧ ((sp_ob P (zmv2 (pnf P) (pnb P) I) b (sp_f (zmv2 (pnf P) (pnb P) I) b) (nI m) n = 0 ∧ F_X7_counted_L49 (nI b) (nI n) (nI m) J = some (.inr (.inr (nI m, J')))) ∨ (¬ sp_ob P (zmv2 (pnf P) (pnb P) I) b (sp_f (zmv2 (pnf P) (pnb P) I) b) (nI m) n = 0 ∧ F_X7_counted_L49 (nI b) (nI n) (nI m) J = some (.inl (nI m - 1, J')))) := by
        rintro m hm J ⟨e2, e3, e4, e5, e6⟩
        have hm2 : zmv2 (pnf P) (pnb P) (zu J 1879 b (nI m)) = zu (zmv2 (pnf P) (pnb P) I) 5 b (nI m) := by rw [zmvu5 hb, e2]
        obtain ⟨J2, r1, r2, r3, r4, r5, r6⟩ := F7_owesIn_ok hp g2 hQ1 (J := zu J 1879 b (nI m)) (by rw [hm2]; exact sInv_seen hi (rg_nI hm (by decide))) (by rw [zu_row (by decide)]; exact e6) (by rw [zu_row (by decide), zu_row (by decide)]; exact e5) (e3.zu (by simp [zmsc])) (by rw [zu_off (by omega), zu_same]; exact e4) hb (n := n) (by omega)
        rw [hm2, ← hob] at r1
        rw [em] at r2
        rw [zu_same] at r4
        rw [zu_row (by decide)] at r5
        have em1 : nI m + -1 = nI m - 1 := (Int32.sub_eq_add_neg _ _).symm
        refine ⟨J2, ⟨r2, r3, r4, r5, r6⟩, ?_⟩
        by_cases c : sp_ob P (zmv2 (pnf P) (pnb P) I) b (sp_f (zmv2 (pnf P) (pnb P) I) b) (nI m) n = 0
        · refine Or.inl ⟨c, ?_⟩
          simp only [F_X7_counted_L49, if_neg (nI_pos (show m < 2 ^ 31 by omega)), ↓reduceIte, zg_true, zb1_e, zb2_e, zb3_e, zsum, zlet_e, nI_1, zin_n (show b < 6 by omega), nI_c (show b < 2147483648 by omega), r1, zb2_e, c, not_true_eq_false, if_false]
        · refine Or.inr ⟨c, ?_⟩
          simp only [F_X7_counted_L49, if_neg (nI_pos (show m < 2 ^ 31 by omega)), ↓reduceIte, zg_true, zb1_e, zb2_e, zb3_e, zsum, zlet_e, nI_1, zin_n (show b < 6 by omega), nI_c (show b < 2147483648 by omega), r1, zb2_e, if_pos c, em1]
      have key : ∀ m, m ≤ 30 → ∀ J, OK J → (∃ J', zloop (fun s : Int32 × zId => F_X7_counted_L49 (nI b) (nI n) s.1 s.2) (nI m, J) = some (.inl J') ∧ OK J' ∧ zdo (fun s => decide (sp_ob P (zmv2 (pnf P) (pnb P) I) b (sp_f (zmv2 (pnf P) (pnb P) I) b) (nI s) n = 0)) m = -1) ∨ ∃ J', zloop (fun s : Int32 × zId => F_X7_counted_L49 (nI b) (nI n) s.1 s.2) (nI m, J) = some (.inr (zdo (fun s => decide (sp_ob P (zmv2 (pnf P) (pnb P) I) b (sp_f (zmv2 (pnf P) (pnb P) I) b) (nI s) n = 0)) m, J')) ∧ OK J' := by
        intro m
        induction m with
        | zero =>
          intro hm J e3
          obtain ⟨J', g1, ⟨g2, g3⟩ | ⟨g2, g3⟩⟩ := step 0 hm J e3
          · refine Or.inr ⟨J', ?_, g1⟩
            rw [zloop_end (t := .inr (nI 0, J')) g3, zdo, if_pos (decide_eq_true g2)]
            rfl
          · refine Or.inl ⟨J', ?_, g1, ?_⟩
            · rw [zloop_step (s' := (nI 0 - 1, J')) g3]
              exact zloop_end (by dsimp only; simp only [F_X7_counted_L49, if_pos (show nI 0 - 1 < 0 by decide)])
            · rw [zdo, decide_eq_false g2]
              rfl
        | succ m ih =>
          intro hm J e3
          obtain ⟨J', g1, ⟨g2, g3⟩ | ⟨g2, g3⟩⟩ := step (m + 1) hm J e3
          · refine Or.inr ⟨J', ?_, g1⟩
            rw [zloop_end (t := .inr (nI (m + 1), J')) g3, zdo, if_pos (decide_eq_true g2)]
          · rw [nI_pred] at g3
            rw [zloop_step (s' := (nI m, J')) g3, zdo, decide_eq_false g2, if_neg (by decide)]
            exact ih (by omega) J' g1
      have h10 : ¬ (1 : Int32) = 0 := by decide
      rcases key 30 (Nat.le_refl _) I1 ⟨g3, g4, by rw [g6]; exact zu_same, by rw [g5]; exact zu_row (by decide), rfl⟩ with ⟨J, k1, ⟨k2, k3, k4, -⟩, k5⟩ | ⟨J, k1, ⟨k2, k3, k4, -⟩⟩
      · refine ⟨J, ?_, k4, k2, hc.tr k3⟩
        rw [k5]
        simp only [F_X7_counted, hF, ↓reduceIte, zg_true, zb1_e, zb2_e, zb3_e, zsum, zlet_e, nI_1, if_pos h10, hz', g1, qV]
        rw [show (30 : Int32) = nI 30 from rfl, k1]
        rfl
      · refine ⟨J, ?_, k4, k2, hc.tr k3⟩
        simp only [F_X7_counted, hF, ↓reduceIte, zg_true, zb1_e, zb2_e, zb3_e, zsum, zlet_e, nI_1, if_pos h10, hz', g1, qV]
        rw [show (30 : Int32) = nI 30 from rfl, k1]
        rfl
    · rw [q_i1_no hy2]
      have hz := F7_isIn_ok (I := zu I 1860 1 0) y 1 20
      rw [show zib y 1 20 = 0 from hy] at hz
      have hz' : F_X7_isIn y.toInt64 1 20 (zu I 1860 1 0) = some 0 := hz
      (obtain ⟨J, g1, g2, g3, g4⟩ := F7_fail_ok (P := P) 2 2 rfl hc em; refine ⟨J, ?_, g2, g3, g4⟩; simp only [F_X7_counted, zlet_e, zb1_e, g1, zb2_e, qV, hF, hz']; try first | rfl | exact zlt_if (n := 1) (by assumption))
  · rw [q_fa_no hx]
    have hF := F7_isB_no (by omega) hQ1.1.2.1 hx
    (obtain ⟨J, g1, g2, g3, g4⟩ := F7_fail_ok (P := P) 1 1 rfl hc em; refine ⟨J, ?_, g2, g3, g4⟩; simp only [F_X7_counted, zlet_e, zb1_e, g1, zb2_e, qV, hF]; try first | rfl | exact zlt_if (n := 1) (by assumption))
end L22
