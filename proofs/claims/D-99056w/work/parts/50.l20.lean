/-! L20: empty, lastBlack, resting, forEver, blackest: the model -/
theorem d1000 : decide (600 ≤ 1000) = true := rfl
theorem d1014 : decide (600 ≤ 1014) = true := rfl
theorem d1847 : decide (600 ≤ 1847) = true := rfl
section L20
variable {I : zId} {P : zP} {X : zXd}
theorem F7_empty_ok (hQ : zMQ I P X) (hp : pInv P) (hi : sInv P (zmv2 (pnf P) (pnb P) I)) (x : Int32) : ∃ J, F_X7_empty x I = some (qV (q_empty P (zmv2 (pnf P) (pnb P) I) x), J) ∧ J 1860 1 = qE (q_empty P (zmv2 (pnf P) (pnb P) I) x) ∧ zmv2 (pnf P) (pnb P) J = zmv2 (pnf P) (pnb P) I ∧ zmf I J := by
  have hc := zmf_c1 (I := I) (v := 0)
  have hQ1 := hQ.mf hc
  have em : zmv2 (pnf P) (pnb P) (zu I 1860 1 0) = zmv2 (pnf P) (pnb P) I := zmv2_c1
  have hnf := hp.1
  have hnb := hp.2.1
  unfold q_empty
  rcases zir_cases x (n := pnf P) (by omega) with ⟨f, hf, rfl⟩ | hx
  · rw [q_fa_ok hf (by omega)]
    have hF := F7_isF_ok (by omega) hQ1.1.1 hf
    obtain ⟨I1, g1, g2, g3, g4, g5, g6⟩ := F7_ahead_ok hQ1 hp (by rw [em]; exact hi)
    rw [em] at g3
    generalize hS : (zmv2 (pnf P) (pnb P) I) = S at *
    have s := zloop_up (body := fun s : Int32 × Int32 × zId => F_X7_empty_L32 (nI f) s.1 s.2.1 s.2.2) (fun k s => s.2.1 = nI k ∧ zmfr I1 s.2.2 ∧ ((s.1 = -1 ∧ zmv2 (pnf P) (pnb P) s.2.2 = sp_it P S k ∧ ∀ j, j < k → decide (sp_it P S j 0 f = 0) = false) ∨ s.1 = zfi (fun k => decide (sp_it P S k 0 f = 0)) 51 0 ∧ ¬ s.1 = -1)) (fun t => zmfr I1 t.2 ∧ t.1 = zfi (fun k => decide (sp_it P S k 0 f = 0)) 51 0) 51 ?_ ?_ 0 (-1, 0, I1) (Nat.zero_le _) ⟨rfl, zmfr.rf, Or.inl ⟨rfl, g3, fun j hj => by omega⟩⟩
    · obtain ⟨⟨b, J⟩, r1, r3, r2⟩ := s
      dsimp only at r2 r3
      obtain ⟨b1, b2, b3, b4⟩ := r3.k
      obtain ⟨J2, s1, s2, s3, s4, -⟩ := F7_back_ok hp g2 b1 (fun j _ => by rw [b2, g5]) (g4.tr r3.mf) (by rw [b3, g6])
      refine ⟨J2, ?_, by rw [s4, zu_same]; rfl, by rw [s2, em], hc.tr s3⟩
      simp only [F_X7_empty, hF, ↓reduceIte, zg_true, zb1_e, zb2_e, zb3_e, zsum, zlet_e, nI_1, g1, r1, s1, zn2, qV, r2]
      rfl
    · rintro i ⟨b, _, J⟩ hi51 ⟨rfl, e1, e2⟩
      dsimp only at e1 e2
      rcases e2 with ⟨rfl, e2, e3⟩ | ⟨e2, e3⟩
      · have hr : J 1875 f = sp_it P S i 0 f := by rw [← e2]; exact (zmv20 hf).symm
        obtain ⟨J1, m1, m2, -, m4⟩ := F7_aYear_ok ((hQ1.mf g4).1.fr e1) hp (by rw [e2]; exact sInv_it hp hi i)
        by_cases c : sp_it P S i 0 f = 0
        · refine Or.inl ⟨(nI i, nI (i + 1), J1), ?_, rfl, e1.tr m4, Or.inr ⟨(zfi_at e3 (decide_eq_true c) hi51).symm, nI_m1 (by omega)⟩⟩
          dsimp only
          simp only [F_X7_empty_L32, ↓reduceIte, (show ¬ (50 : Int32) < nI (i) from nI_nlt (a := 50) (by omega) (by decide)), not_true_eq_false, if_false, zin_n (show f < 8 by omega), nI_c (show f < 2147483648 by omega), ↓reduceIte, zg_true, zb1_e, zb2_e, zb3_e, zsum, zlet_e, nI_1, hr, c, m1]
        · refine Or.inl ⟨(-1, nI (i + 1), J1), ?_, rfl, e1.tr m4, Or.inl ⟨rfl, by rw [sp_it, ← e2]; exact m2, fun j hj => ?_⟩⟩
          · dsimp only
            simp only [F_X7_empty_L32, ↓reduceIte, (show ¬ (50 : Int32) < nI (i) from nI_nlt (a := 50) (by omega) (by decide)), not_true_eq_false, if_false, zin_n (show f < 8 by omega), nI_c (show f < 2147483648 by omega), ↓reduceIte, zg_true, zb1_e, zb2_e, zb3_e, zsum, zlet_e, nI_1, hr, c, not_false_eq_true, if_true, m1]
          · by_cases e : j = i
            · rw [e]; exact decide_eq_false c
            · exact e3 j (by omega)
      · refine Or.inr ⟨(b, J), ?_, e1, e2⟩
        dsimp only
        simp only [F_X7_empty_L32, ↓reduceIte, (show ¬ (50 : Int32) < nI (i) from nI_nlt (a := 50) (by omega) (by decide)), if_pos e3]
    · rintro ⟨b, _, J⟩ ⟨rfl, e1, e2⟩
      dsimp only at e1 e2
      refine ⟨(b, J), rfl, e1, ?_⟩
      rcases e2 with ⟨rfl, e2, e3⟩ | ⟨e2, e3⟩
      · exact (zfi_no e3).symm
      · exact e2
  · rw [q_fa_no hx]
    have hF := F7_isF_no (by omega) hQ1.1.1 hx
    (obtain ⟨J, g1, g2, g3, g4⟩ := F7_fail_ok (P := P) 1 1 rfl hc em; refine ⟨J, ?_, g2, g3, g4⟩; simp only [F_X7_empty, zlet_e, zb1_e, g1, zb2_e, qV, hF]; try first | rfl | exact zlt_if (n := 1) (by assumption))
theorem F7_last_ok (hQ : zMQ I P X) (hp : pInv P) (hi : sInv P (zmv2 (pnf P) (pnb P) I)) (w : Int32) : ∃ J, F_X7_lastBlack w I = some (qV (q_last P (zmv2 (pnf P) (pnb P) I) w), J) ∧ J 1860 1 = qE (q_last P (zmv2 (pnf P) (pnb P) I) w) ∧ zmv2 (pnf P) (pnb P) J = zmv2 (pnf P) (pnb P) I ∧ zmf I J := by
  have hc := zmf_c1 (I := I) (v := 0)
  have hQ1 := hQ.mf hc
  have em : zmv2 (pnf P) (pnb P) (zu I 1860 1 0) = zmv2 (pnf P) (pnb P) I := zmv2_c1
  have hnf := hp.1
  have hnb := hp.2.1
  unfold q_last
  rcases zib_cases w 1 (by decide) with ⟨w, hw, rfl⟩ | ⟨hw, hw2⟩
  · rw [q_in_ok hw (by decide)]
    have c0 : ¬ nI w < 0 := nI_pos (by omega)
    have c1 : nI w ≤ 1 := nI_le hw (by decide)
    have hw0 : (nI w = 0) ↔ w = 0 := nI_eq (b := 0) (by omega) (by omega)
    obtain ⟨I1, g1, g2, g3, g4, g5, g6⟩ := F7_ahead_ok hQ1 hp (by rw [em]; exact hi)
    rw [em] at g3
    generalize hS : (zmv2 (pnf P) (pnb P) I) = S at *
    have s := zloop_up (body := fun s : Int32 × Int32 × Int32 × zId => F_X7_lastBlack_L36 s.1 s.2.1 s.2.2.1 s.2.2.2) (fun k s => (s.1, s.2.1) = sp_lbs P S k ∧ s.2.2.1 = nI (k + 1) ∧ zmv2 (pnf P) (pnb P) s.2.2.2 = sp_it P S k ∧ zmfr I1 s.2.2.2) (fun t => (t.1, t.2.1) = sp_lbs P S 50 ∧ zmfr I1 t.2.2) 50 ?_ ?_ 0 (-1, -1, 1, I1) (Nat.zero_le _) ⟨rfl, rfl, g3, zmfr.rf⟩
    · obtain ⟨⟨t1, t2, J⟩, r1, r2, r3⟩ := s
      dsimp only at r2 r3
      obtain ⟨b1, b2, b3, b4⟩ := r3.k
      obtain ⟨J2, s1, s2, s3, s4, -⟩ := F7_back_ok hp g2 b1 (fun j _ => by rw [b2, g5]) (g4.tr r3.mf) (by rw [b3, g6])
      refine ⟨J2, ?_, by rw [s4, zu_same]; rfl, by rw [s2, em], hc.tr s3⟩
      simp only [F_X7_lastBlack, if_neg c0, if_pos c1, ↓reduceIte, zg_true, zb1_e, zb2_e, zb3_e, zsum, zlet_e, nI_1, g1, r1, zn3, s1, qV, hw0, ← r2]
      by_cases c : w = 0
      · rw [if_neg (fun h => h c), if_pos c]
      · rw [if_pos c, if_neg c]
    · rintro i ⟨t1, t2, _, J⟩ hi51 ⟨e1, rfl, e2, e3⟩
      dsimp only at e1 e2 e3
      obtain ⟨J1, m1, m2, m3, m4⟩ := F7_aYear_ok ((hQ1.mf g4).1.fr e3) hp (by rw [e2]; exact sInv_it hp hi i)
      rw [e2] at m2 m3
      by_cases c : sp_lb P (sp_it P S i) = -1
      · refine Or.inl ⟨(t1, t2, nI (i + 1 + 1), J1), ?_, ?_, rfl, m2, e3.tr m4⟩
        · dsimp only
          simp only [F_X7_lastBlack_L36, ↓reduceIte, (show ¬ (50 : Int32) < nI (i + 1) from nI_nlt (a := 50) (by omega) (by decide)), ↓reduceIte, zg_true, zb1_e, zb2_e, zb3_e, zsum, zlet_e, nI_1, m1, m3, c, not_true_eq_false, if_false]
        · rw [sp_lbs, if_pos c]
          exact e1
      · refine Or.inl ⟨(nI (i + 1), sp_lb P (sp_it P S i), nI (i + 1 + 1), J1), ?_, ?_, rfl, m2, e3.tr m4⟩
        · dsimp only
          simp only [F_X7_lastBlack_L36, ↓reduceIte, (show ¬ (50 : Int32) < nI (i + 1) from nI_nlt (a := 50) (by omega) (by decide)), ↓reduceIte, zg_true, zb1_e, zb2_e, zb3_e, zsum, zlet_e, nI_1, m1, m3, c, not_false_eq_true, if_true]
        · rw [sp_lbs, if_neg c]
    · rintro ⟨t1, t2, _, J⟩ ⟨e1, rfl, e2, e3⟩
      exact ⟨(t1, t2, J), rfl, e1, e3⟩
  · rw [q_in_no hw2]
    (obtain ⟨J, g1, g2, g3, g4⟩ := F7_fail_ok (P := P) 1 1 rfl hc em; refine ⟨J, ?_, g2, g3, g4⟩; simp only [F_X7_lastBlack, zlet_e, zb1_e, g1, zb2_e, qV]; try first | rfl | exact zlt_if (n := 1) (by assumption))
theorem F7_grown_ok (hM : zML I P) (hp : pInv P) {f : Nat} (hf : f < pnf P) (m : Int32) : F_X7_grown (nI f) m I = some (sp_grn P f m) := by
  have hnf := hp.1
  obtain ⟨-, -, -, -, -, mr, -⟩ := hM
  obtain ⟨q1, q2⟩ := mr f hf
  simp only [F_X7_grown, zin_n (show f < 16 by omega), zg_true, nI_c (show f < 2147483648 by omega), q1, q2, sp_grn]
theorem F7_resting_ok (hQ : zMQ I P X) (hp : pInv P) (hi : sInv P (zmv2 (pnf P) (pnb P) I)) (x y : Int32) : ∃ J, F_X7_resting x y I = some (qV (q_resting P (zmv2 (pnf P) (pnb P) I) x y), J) ∧ J 1860 1 = qE (q_resting P (zmv2 (pnf P) (pnb P) I) x y) ∧ zmv2 (pnf P) (pnb P) J = zmv2 (pnf P) (pnb P) I ∧ zmf I J := by
  have hc := zmf_c1 (I := I) (v := 0)
  have hQ1 := hQ.mf hc
  have em : zmv2 (pnf P) (pnb P) (zu I 1860 1 0) = zmv2 (pnf P) (pnb P) I := zmv2_c1
  have hnf := hp.1
  have hnb := hp.2.1
  unfold q_resting
  rcases zir_cases x (n := pnf P) (by omega) with ⟨f, hf, rfl⟩ | hx
  · rw [q_fa_ok hf (by omega)]
    have hF := F7_isF_ok (by omega) hQ1.1.1 hf
    rcases zib_cases y 999 (by decide) with ⟨n, hn, rfl⟩ | ⟨hy, hy2⟩
    · rw [q_in_ok hn (by decide)]
      have hz := F7_isIn_0 (I := zu I 1860 1 0) (nI n) 999 (h64 := 999) rfl
      rw [show zib (nI n) 0 999 = 1 from zib_nI hn (by decide)] at hz
      have hg := fun m => F7_grown_ok hQ1.1 hp hf m
      have hm : (zmv2 (pnf P) (pnb P) I) 0 f = zu I 1860 1 0 1875 f := by rw [← em]; exact zmv20 hf
      rw [hm]
      have s := zloop_up (body := fun s : Int32 × Int32 => F_X7_resting_L47 (nI f) (nI n) (zu I 1860 1 0) s.1 s.2) (fun k s => s = (sp_gi P f (zu I 1860 1 0 1875 f) k, nI k) ∧ ∀ j, j < k → decide (¬ sp_gi P f (zu I 1860 1 0 1875 f) j < nI n) = false) (fun t => match t with | .inl _ => zfi (fun k => decide (¬ sp_gi P f (zu I 1860 1 0 1875 f) k < nI n)) 51 0 = -1 | .inr z => z = (zfi (fun k => decide (¬ sp_gi P f (zu I 1860 1 0 1875 f) k < nI n)) 51 0, zu I 1860 1 0)) 51 ?_ ?_ 0 (zu I 1860 1 0 1875 f, 0) (Nat.zero_le _) ⟨rfl, fun j hj => by omega⟩
      · obtain ⟨t, s1, s2⟩ := s
        refine ⟨zu I 1860 1 0, ?_, zu_same, em, hc⟩
        cases t with
        | inl u =>
          simp only [F_X7_resting, hF, ↓reduceIte, zg_true, zb1_e, zb2_e, zb3_e, zsum, zlet_e, nI_1, hz, zin_n (show f < 8 by omega), nI_c (show f < 2147483648 by omega), s1, zs1, qV]
          rw [s2]
          rfl
        | inr z =>
          simp only [F_X7_resting, hF, ↓reduceIte, zg_true, zb1_e, zb2_e, zb3_e, zsum, zlet_e, nI_1, hz, zin_n (show f < 8 by omega), nI_c (show f < 2147483648 by omega), s1, zs1, qV]
          rw [s2]
          rfl
      · rintro i s hi51 ⟨rfl, e3⟩
        dsimp only
        by_cases c : sp_gi P f (zu I 1860 1 0 1875 f) i < nI n
        · refine Or.inl ⟨(sp_gi P f (zu I 1860 1 0 1875 f) (i + 1), nI (i + 1)), ?_, rfl, fun j hj => ?_⟩
          · simp only [F_X7_resting_L47, ↓reduceIte, (show ¬ (50 : Int32) < nI (i) from nI_nlt (a := 50) (by omega) (by decide)), if_pos c, hg, ↓reduceIte, zg_true, zb1_e, zb2_e, zb3_e, zsum, zlet_e, nI_1, sp_gi]
          · by_cases e : j = i
            · rw [e]; simp [c]
            · exact e3 j (by omega)
        · refine Or.inr ⟨.inr (nI i, zu I 1860 1 0), ?_, ?_⟩
          · simp only [F_X7_resting_L47, ↓reduceIte, (show ¬ (50 : Int32) < nI (i) from nI_nlt (a := 50) (by omega) (by decide)), if_neg c]
          · rw [zfi_at e3 (decide_eq_true c) hi51]
      · rintro s ⟨rfl, e3⟩
        exact ⟨.inl (), rfl, zfi_no e3⟩
    · rw [q_in_no hy2]
      have hz := F7_isIn_0 (I := zu I 1860 1 0) y 999 (h64 := 999) rfl
      rw [show zib y 0 999 = 0 from hy] at hz
      (obtain ⟨J, g1, g2, g3, g4⟩ := F7_fail_ok (P := P) 2 2 rfl hc em; refine ⟨J, ?_, g2, g3, g4⟩; simp only [F_X7_resting, zlet_e, zb1_e, g1, zb2_e, qV, hF, hz]; try first | rfl | exact zlt_if (n := 1) (by assumption))
  · rw [q_fa_no hx]
    have hF := F7_isF_no (by omega) hQ1.1.1 hx
    (obtain ⟨J, g1, g2, g3, g4⟩ := F7_fail_ok (P := P) 1 1 rfl hc em; refine ⟨J, ?_, g2, g3, g4⟩; simp only [F_X7_resting, zlet_e, zb1_e, g1, zb2_e, qV, hF]; try first | rfl | exact zlt_if (n := 1) (by assumption))
theorem F7_bears_ok (hM : zML I P) (hp : pInv P) {f : Nat} (hf : f < pnf P) (t : Int32) : F_X7_bears (nI f) t I = some (sp_br P f t 30 (I 1875 f)) := by
  have hnf := hp.1
  have hg := fun m => F7_grown_ok hM hp hf m
  have s := zloop_up (body := fun s : Int32 × Int32 => F_X7_bears_L10 (nI f) t I s.1 s.2) (fun k s => s = (sp_bk P f t (I 1875 f) k, nI k) ∧ ∀ j, j < k → t ≤ sp_bk P f t (I 1875 f) j) (fun r => match r with | .inl _ => sp_br P f t 30 (I 1875 f) = 1 | .inr z => z = sp_br P f t 30 (I 1875 f)) 30 ?_ ?_ 0 (I 1875 f, 0) (Nat.zero_le _) ⟨rfl, fun j hj => by omega⟩
  · obtain ⟨r, s1, s2⟩ := s
    cases r with
    | inl u =>
      simp only [F_X7_bears, ↓reduceIte, zg_true, zb1_e, zb2_e, zb3_e, zsum, zlet_e, nI_1, zin_n (show f < 8 by omega), nI_c (show f < 2147483648 by omega), s1, zs1]
      exact congrArg some s2.symm
    | inr z =>
      simp only [F_X7_bears, ↓reduceIte, zg_true, zb1_e, zb2_e, zb3_e, zsum, zlet_e, nI_1, zin_n (show f < 8 by omega), nI_c (show f < 2147483648 by omega), s1, zs1]
      exact congrArg some s2
  · rintro i s hi30 ⟨rfl, e3⟩
    dsimp only
    by_cases c : t ≤ sp_bk P f t (I 1875 f) i
    · refine Or.inl ⟨(sp_bk P f t (I 1875 f) (i + 1), nI (i + 1)), ?_, rfl, fun j hj => ?_⟩
      · simp only [F_X7_bears_L10, if_neg (show ¬ (30 : Int32) ≤ nI i from nI_ge hi30 (by decide)), if_pos c, ↓reduceIte, zg_true, zb1_e, zb2_e, zb3_e, zsum, zlet_e, nI_1, hg, sp_bk]
      · by_cases e : j = i
        · rw [e]; exact c
        · exact e3 j (by omega)
    · refine Or.inr ⟨.inr 0, ?_, ?_⟩
      · simp only [F_X7_bears_L10, if_neg (show ¬ (30 : Int32) ≤ nI i from nI_ge hi30 (by decide)), if_neg c]
      · have := sp_br_bk (P := P) (f := f) (t := t) (m := I 1875 f) i (30 - i) e3
        have e2 : sp_br P f t (30 - i) (sp_bk P f t (I 1875 f) i) = 0 := by rw [show 30 - i = (29 - i) + 1 by omega, sp_br, if_neg c]
        rw [show i + (30 - i) = 30 by omega, e2] at this
        exact this.symm
  · rintro s ⟨rfl, e3⟩
    exact ⟨.inl (), rfl, sp_br_bk 30 0 e3⟩
theorem F7_ever_ok (hQ : zMQ I P X) (hp : pInv P) (hi : sInv P (zmv2 (pnf P) (pnb P) I)) (x : Int32) : ∃ J, F_X7_forEver x I = some (qV (q_ever P (zmv2 (pnf P) (pnb P) I) x), J) ∧ J 1860 1 = qE (q_ever P (zmv2 (pnf P) (pnb P) I) x) ∧ zmv2 (pnf P) (pnb P) J = zmv2 (pnf P) (pnb P) I ∧ zmf I J := by
  have hc := zmf_c1 (I := I) (v := 0)
  have hQ1 := hQ.mf hc
  have em : zmv2 (pnf P) (pnb P) (zu I 1860 1 0) = zmv2 (pnf P) (pnb P) I := zmv2_c1
  have hnf := hp.1
  have hnb := hp.2.1
  unfold q_ever
  rcases zir_cases x (n := pnf P) (by omega) with ⟨f, hf, rfl⟩ | hx
  · rw [q_fa_ok hf (by omega)]
    have hF := F7_isF_ok (by omega) hQ1.1.1 hf
    have hm : (zmv2 (pnf P) (pnb P) I) 0 f = zu I 1860 1 0 1875 f := by rw [← em]; exact zmv20 hf
    have hr := (hi.2 f hf).1
    have hb := fun t => F7_bears_ok hQ1.1 hp hf t
    rw [hm] at hr
    obtain ⟨m, em1, em2⟩ := nI_of (x := zu I 1860 1 0 1875 f) (by rw [iL, i_0]; have := hr.1; omega)
    have hm999 : m ≤ 999 := by have := hr.2; rw [em2, nI_toInt (by omega)] at this; omega
    refine ⟨zu I 1860 1 0, ?_, zu_same, em, hc⟩
    rw [hm]
    have hmin : zmin 999 (zu I 1860 1 0 1875 f) = nI m := by
      rw [em2]
      apply i_ext
      rw [i_min, nI_toInt (by omega), show (999 : Int32).toInt = 999 from rfl]
      omega
    have hto := zdn_to (p := fun t => decide (sp_br P f (nI t) 30 (zu I 1860 1 0 1875 f) = 1)) (s := m) 999 hm999 (fun k h1 h2 => by
      rw [em2, sp_br_no (by rw [nI_toInt (by omega), nI_toInt (by omega)]; omega)]
      rfl)
    have s := zloop_dn (body := fun s : Int32 => F_X7_forEver_L32 (nI f) (zu I 1860 1 0) s) (fun t => decide (sp_br P f (nI t) 30 (zu I 1860 1 0 1875 f) = 1)) m ?_ ?_ ?_
    · simp only [F_X7_forEver, hF, ↓reduceIte, zg_true, zb1_e, zb2_e, zb3_e, zsum, zlet_e, nI_1, zin_n (show f < 8 by omega), nI_c (show f < 2147483648 by omega), hmin, s, qV]
      rw [hto]
      rfl
    · intro k hk hpk
      have := of_decide_eq_true hpk
      simp only [F_X7_forEver_L32, hb, zb1_e, this, if_pos (show ¬ (1 : Int32) = 0 by decide)]
    · intro k hk hpk
      have := (sp_br_01 (P := P) (f := f) (t := nI (k + 1)) 30 (zu I 1860 1 0 1875 f)).resolve_right (of_decide_eq_false hpk)
      have e : nI (k + 1) + -1 = nI k := by rw [← nI_pred k]; exact (Int32.sub_eq_add_neg _ _).symm
      simp only [F_X7_forEver_L32, hb, zb1_e, this, not_true_eq_false, if_false, zlet_e, e]
    · exact decide_eq_true (sp_br_0 hp hf 30 _ hr)
  · rw [q_fa_no hx]
    have hF := F7_isF_no (by omega) hQ1.1.1 hx
    (obtain ⟨J, g1, g2, g3, g4⟩ := F7_fail_ok (P := P) 1 1 rfl hc em; refine ⟨J, ?_, g2, g3, g4⟩; simp only [F_X7_forEver, zlet_e, zb1_e, g1, zb2_e, qV, hF]; try first | rfl | exact zlt_if (n := 1) (by assumption))
theorem F7_black_ok (hQ : zMQ I P X) (hp : pInv P) (hi : sInv P (zmv2 (pnf P) (pnb P) I)) : ∃ J, F_X7_blackest I = some (q_black P (zmv2 (pnf P) (pnb P) I), J) ∧ J 1860 1 = 0 ∧ zmv2 (pnf P) (pnb P) J = (zmv2 (pnf P) (pnb P) I) ∧ zmf I J := by
  have hc := zmf_c1 (I := I) (v := 0)
  have hQ1 := hQ.mf hc
  have em : zmv2 (pnf P) (pnb P) (zu I 1860 1 0) = zmv2 (pnf P) (pnb P) I := zmv2_c1
  have hnf := hp.1
  have hnb := hp.2.1
  refine ⟨zu I 1860 1 0, ?_, zu_same, em, hc⟩
  unfold q_black
  have hv : ∀ i, i < pnf P → zu I 1860 1 0 1876 i = (zmv2 (pnf P) (pnb P) I) 1 i := fun i hi => by rw [← em]; exact (zmv21 hi).symm
  generalize (zmv2 (pnf P) (pnb P) I) 1 = v at hv
  have s := zloop_up (body := fun s : Int32 × Int32 × Int32 => F_X7_blackest_L11 (zu I 1860 1 0) s.1 s.2.1 s.2.2) (fun i s => s = ((zbst v i).1, (zbst v i).2, nI i)) (fun t => t = (zbst v (pnf P)).1) (pnf P) ?_ ?_ 0 (-1, 0, 0) (Nat.zero_le _) rfl
  · obtain ⟨t, t1, rfl⟩ := s
    simp only [F_X7_blackest, ↓reduceIte, zg_true, zb1_e, zb2_e, zb3_e, zsum, zlet_e, nI_1, t1]
  · rintro i s hib rfl
    dsimp only
    refine Or.inl ⟨((zbst v (i + 1)).1, (zbst v (i + 1)).2, nI (i + 1)), ?_, rfl⟩
    simp only [F_X7_blackest_L11, hQ1.1.1, nI_ge hib (show pnf P < 2 ^ 31 by omega), zin_n (show i < 8 by omega), nI_c (show i < 2147483648 by omega), ↓reduceIte, zg_true, zb1_e, zb2_e, zb3_e, zsum, zlet_e, nI_1, hv i hib, zbst]
    by_cases c : v i ≤ (zbst v i).2
    · rw [if_pos c, if_neg]
      intro h
      have h1 := iL.mp h
      have h2 := iLe.mp c
      omega
    · rw [if_neg c, if_pos]
      have h2 := mt iLe.mpr c
      exact iL.mpr (by omega)
  · rintro s rfl
    dsimp only
    simp only [F_X7_blackest_L11, hQ1.1.1, ↓reduceIte, nI_le (Nat.le_refl (pnf P)) (show pnf P < 2 ^ 31 by omega)]
    exact ⟨_, rfl, rfl⟩
end L20
