/-! L47: the model's acts -/
def zActM (op : zId → Option (Int32 × zId)) (I : zId) (P : zP) (X : zXd) (q : (Int32 ⊕ Nat) × zBk) : Prop := ∃ J, op I = some (qV q.1, J) ∧ J 1860 1 = qE q.1 ∧ zMB J P X q.2 ∧ zma I J
section L47
variable {I J : zId} {P : zP} {X : zXd} {b b' : zBk}
theorem zMB.c1 (h : zMB I P X b) (hp : pInv P) {v : Int32} : zMB (zu I 1860 1 v) P X b ∧ zma I (zu I 1860 1 v) := ⟨h.q hp zmf_c1 zmv2_c1, zma.rf.zu (by simp [zmac])⟩
theorem zMB.set (h : zMB I P X b) {r j : Nat} (hr : r < 9) (h3 : r ≠ 3) (hj : j < zlm (pnf P) (pnb P) r) (v : Int32) : zMB (zu I (zmrow r) j v) P X (bSt b (zu (bS b) r j v)) ∧ zma I (zu I (zmrow r) j v) := by
  have hz : 1875 ≤ zmrow r ∧ zmrow r ≤ 1882 := by
    unfold zmrow
    repeat' split
    all_goals omega
  have e : zma I (zu I (zmrow r) j v) := zma.rf.zu (by
    simp only [zmac, hz.1, hz.2, decide_true, Bool.and_true, Bool.true_or])
  refine ⟨h.st e ?_ (zu_row (by omega)) (fun k _ => by rw [zu_row (by omega)]) ⟨zu_row (by omega), zu_row (by omega), zu_row (by omega)⟩ (zu_row (by omega)), e⟩
  rw [zmv2_zu r hr hj, h.2.1]
theorem zMB.nf (h : zMB I P X b) : I 1862 0 = nI (pnf P) ∧ I 1862 2 = nI (pnb P) := ⟨h.1.1.1, h.1.1.2.1⟩
theorem zactM_no (h : zMB I P X b) (hp : pInv P) : ∃ J, F_X7_fail 1 I = some (0, J) ∧ J 1860 1 = 1 ∧ zMB J P X b ∧ zma I J := ⟨zu I 1860 1 1, rfl, zu_same, (h.c1 hp).1, (h.c1 hp).2⟩
/-- refused -/
theorem zsetM_0 (h : zMB I P X b) (r j : Nat) (v w : Int32) {c : Int32} (hc : c = 0) : ∃ J, F_X7_refuse 1 I = some (-1, J) ∧ J 1860 = I 1860 ∧ zMB J P X (q_set b r j c v w).2 ∧ (q_set b r j c v w).1 = .inl (-1) ∧ zma I J := by
  subst hc
  obtain ⟨J, g1, g2, g3, g4⟩ := F7_refuse_ok h (i := 1) (by decide)
  exact ⟨J, g1, g2, g3, rfl, g4⟩
/-- kept and set -/
theorem zsetM_1 (h : zMB I P X b) (hp : pInv P) (hb : bOk P b) {r j : Nat} (hr : r < 9) (h3 : r ≠ 3) (hj : j < zlm (pnf P) (pnb P) r) (v w : Int32) {c : Int32} (hc : ¬ c = 0) : ∃ J, F_X7_keep I = some J ∧ J (zmrow r) j = bS b r j ∧ J 1860 1 = I 1860 1 ∧ zMB (zu J (zmrow r) j v) P X (q_set b r j c v w).2 ∧ (q_set b r j c v w).1 = .inl w ∧ zma I (zu J (zmrow r) j v) ∧ zu J (zmrow r) j v 1860 1 = I 1860 1 := by
  obtain ⟨J, g1, g2, g3, g4, g5⟩ := F7_keep_ok h hp hb.1.1
  obtain ⟨s1, s2⟩ := g2.set hr h3 hj v
  have hz := zmrow_ne hr
  refine ⟨J, g1, ?_, g5 1 (by decide), ?_, ?_, g3.tr s2, by rw [zu_row (Ne.symm hz)]; exact g5 1 (by decide)⟩
  · have e := g2.2.1
    rw [bS_keep] at e
    rw [← e]
    unfold zmv2
    rw [if_pos hj, if_pos hr]
  · unfold q_set
    rw [if_neg hc]
    exact s1
  · unfold q_set
    rw [if_neg hc]
theorem F7_bows_ok (h : zMB I P X b) (hp : pInv P) (hb : bOk P b) (x y : Int32) : zActM (F_X7_bows x y) I P X (q_bows P b x y) := by
  have hnb := hp.2.1
  obtain ⟨h1, e1⟩ := h.c1 hp (v := 0)
  have c0 : zu I 1860 1 0 1860 1 = 0 := zu_same
  unfold zActM q_bows
  rcases zir_cases x (n := pnb P) (by omega) with ⟨k, hk, rfl⟩ | hx
  · rw [qa_ok hk (by omega)]
    have hB := F7_isB_ok (I := zu I 1860 1 0) (by omega) h1.nf.2 hk
    have hI := F7_isIn_0 (I := zu I 1860 1 0) (h64 := 30) y 30 rfl
    by_cases c : zib y 0 30 = 0
    · obtain ⟨J, g1, g2, g3, g4, g5⟩ := zsetM_0 h1 5 k y (bS b 5 k) c
      refine ⟨J, ?_, by rw [g2, g4]; exact c0, g3, e1.tr g5⟩
      rw [g4]
      simp only [F_X7_bows, ↓reduceIte, zg_true, zb1_e, zb2_e, zb3_e, zsum, zlet_e, nI_1, hB, hI, n10, not_false_eq_true, c, not_true_eq_false, g1, qV]
    · obtain ⟨J, g1, g2, g3, g4, g5, g6, g7⟩ := zsetM_1 h1 hp hb (r := 5) (j := k) (by decide) (by decide) hk y (bS b 5 k) c
      refine ⟨_, ?_, by rw [g7, g5]; exact c0, g4, e1.tr g6⟩
      rw [g5]
      have g2' : J 1879 k = bS b 5 k := g2
      simp only [F_X7_bows, ↓reduceIte, zg_true, zb1_e, zb2_e, zb3_e, zsum, zlet_e, nI_1, hB, hI, n10, not_false_eq_true, c, g1, zin_n (show k < 6 by omega), nI_c (show k < 2147483648 by omega), g2', qV]
      rfl
  · rw [qa_no hx]
    have hB := F7_isB_no (I := zu I 1860 1 0) (n := pnb P) (by omega) h1.nf.2 hx
    obtain ⟨J, g1, g2, g3, g4⟩ := zactM_no h1 hp
    refine ⟨J, ?_, g2, g3, e1.tr g4⟩
    simp only [F_X7_bows, ↓reduceIte, zg_true, zb1_e, zb2_e, zb3_e, zsum, zlet_e, nI_1, hB, not_true_eq_false, g1, qV]
theorem F7_rest_ok (h : zMB I P X b) (hp : pInv P) (hb : bOk P b) (x y : Int32) : zActM (F_X7_rest x y) I P X (q_rest P b x y) := by
  have hnf := hp.1
  have hnb := hp.2.1
  obtain ⟨h1, e1⟩ := h.c1 hp (v := 0)
  have c0 : zu I 1860 1 0 1860 1 = 0 := zu_same
  unfold zActM q_rest
  rcases zir_cases x (n := pnf P) (by omega) with ⟨k, hk, rfl⟩ | hx
  · rw [qa_ok hk (by omega)]
    have hB := F7_isF_ok (I := zu I 1860 1 0) (by omega) h1.nf.1 hk
    have hI := F7_isIn_0 (I := zu I 1860 1 0) (h64 := 50) y 50 rfl
    by_cases c : zib y 0 50 = 0
    · obtain ⟨J, g1, g2, g3, g4, g5⟩ := zsetM_0 h1 2 k y (bS b 2 k) c
      refine ⟨J, ?_, by rw [g2, g4]; exact c0, g3, e1.tr g5⟩
      rw [g4]
      simp only [F_X7_rest, ↓reduceIte, zg_true, zb1_e, zb2_e, zb3_e, zsum, zlet_e, nI_1, hB, hI, n10, not_false_eq_true, c, not_true_eq_false, g1, qV]
    · obtain ⟨J, g1, g2, g3, g4, g5, g6, g7⟩ := zsetM_1 h1 hp hb (r := 2) (j := k) (by decide) (by decide) hk y (bS b 2 k) c
      refine ⟨_, ?_, by rw [g7, g5]; exact c0, g4, e1.tr g6⟩
      rw [g5]
      have g2' : J 1877 k = bS b 2 k := g2
      simp only [F_X7_rest, ↓reduceIte, zg_true, zb1_e, zb2_e, zb3_e, zsum, zlet_e, nI_1, hB, hI, n10, not_false_eq_true, c, g1, zin_n (show k < 8 by omega), nI_c (show k < 2147483648 by omega), g2', qV]
      rfl
  · rw [qa_no hx]
    have hB := F7_isF_no (I := zu I 1860 1 0) (n := pnf P) (by omega) h1.nf.1 hx
    obtain ⟨J, g1, g2, g3, g4⟩ := zactM_no h1 hp
    refine ⟨J, ?_, g2, g3, e1.tr g4⟩
    simp only [F_X7_rest, ↓reduceIte, zg_true, zb1_e, zb2_e, zb3_e, zsum, zlet_e, nI_1, hB, not_true_eq_false, g1, qV]
theorem F7_dye_ok (h : zMB I P X b) (hp : pInv P) (hb : bOk P b) (x y : Int32) : zActM (F_X7_dye x y) I P X (q_dye P b x y) := by
  have hnf := hp.1
  have hnb := hp.2.1
  obtain ⟨h1, e1⟩ := h.c1 hp (v := 0)
  have c0 : zu I 1860 1 0 1860 1 = 0 := zu_same
  unfold zActM q_dye
  rcases zir_cases x (n := pnb P) (by omega) with ⟨k, hk, rfl⟩ | hx
  · rw [qa_ok hk (by omega)]
    have hB := F7_isB_ok (I := zu I 1860 1 0) (by omega) h1.nf.2 hk
    have hI : F_X7_isIn y.toInt64 1 99 (zu I 1860 1 0) = some (zib y 1 99) := F7_isIn_ok y 1 99
    by_cases c : zib y 1 99 = 0
    · obtain ⟨J, g1, g2, g3, g4, g5⟩ := zsetM_0 h1 6 k (zmin 9999 (bS b 6 k + y)) (zmin 9999 (bS b 6 k + y)) c
      refine ⟨J, ?_, by rw [g2, g4]; exact c0, g3, e1.tr g5⟩
      rw [g4]
      simp only [F_X7_dye, ↓reduceIte, zg_true, zb1_e, zb2_e, zb3_e, zsum, zlet_e, nI_1, hB, hI, n10, not_false_eq_true, c, not_true_eq_false, g1, qV]
    · obtain ⟨J, g1, g2, g3, g4, g5, g6, g7⟩ := zsetM_1 h1 hp hb (r := 6) (j := k) (by decide) (by decide) hk (zmin 9999 (bS b 6 k + y)) (zmin 9999 (bS b 6 k + y)) c
      refine ⟨_, ?_, by rw [g7, g5]; exact c0, g4, e1.tr g6⟩
      rw [g5]
      have g2' : J 1880 k = bS b 6 k := g2
      simp only [F_X7_dye, ↓reduceIte, zg_true, zb1_e, zb2_e, zb3_e, zsum, zlet_e, nI_1, hB, hI, n10, not_false_eq_true, c, g1, zin_n (show k < 6 by omega), nI_c (show k < 2147483648 by omega), g2', qV, zu_same]
      rfl
  · rw [qa_no hx]
    have hB := F7_isB_no (I := zu I 1860 1 0) (n := pnb P) (by omega) h1.nf.2 hx
    obtain ⟨J, g1, g2, g3, g4⟩ := zactM_no h1 hp
    refine ⟨J, ?_, g2, g3, e1.tr g4⟩
    simp only [F_X7_dye, ↓reduceIte, zg_true, zb1_e, zb2_e, zb3_e, zsum, zlet_e, nI_1, hB, not_true_eq_false, g1, qV]
theorem F7_forgive_ok (h : zMB I P X b) (hp : pInv P) (hb : bOk P b) (x : Int32) : zActM (F_X7_forgive x) I P X (q_forgive P b x) := by
  have hnf := hp.1
  have hnb := hp.2.1
  obtain ⟨h1, e1⟩ := h.c1 hp (v := 0)
  have c0 : zu I 1860 1 0 1860 1 = 0 := zu_same
  unfold zActM q_forgive
  rcases zir_cases x (n := pnb P) (by omega) with ⟨k, hk, rfl⟩ | hx
  · rw [qa_ok hk (by omega)]
    have hB := F7_isB_ok (I := zu I 1860 1 0) (by omega) h1.nf.2 hk
    have s0 : zu I 1860 1 0 1881 k = bS b 7 k := by rw [← h1.2.1]; exact (zmv27 hk).symm
    have hge := (hb.1.2.1.1 k hk).2.2.2.2.1
    by_cases c : bS b 7 k = 0
    · have c' : (if bS b 7 k ≤ 0 then (0 : Int32) else 1) = 0 := if_pos (by rw [c]; decide)
      obtain ⟨J, g1, g2, g3, g4, g5⟩ := zsetM_0 h1 7 k 0 (bS b 7 k) c'
      refine ⟨J, ?_, by rw [g2, g4]; exact c0, g3, e1.tr g5⟩
      rw [g4]
      simp only [F_X7_forgive, ↓reduceIte, zg_true, zb1_e, zb2_e, zb3_e, zsum, zlet_e, nI_1, hB, n10, not_false_eq_true, not_true_eq_false, g1, qV, zin_n (show k < 6 by omega), nI_c (show k < 2147483648 by omega), s0, c]
    · have c' : ¬ (if bS b 7 k ≤ 0 then (0 : Int32) else 1) = 0 := by
        rw [if_neg fun q => c (i_ext (by have := iLe.mp q; rw [show (0 : Int32).toInt = 0 from rfl] at this ⊢; omega))]
        decide
      obtain ⟨J, g1, g2, g3, g4, g5, g6, g7⟩ := zsetM_1 h1 hp hb (r := 7) (j := k) (by decide) (by decide) hk 0 (bS b 7 k) c'
      refine ⟨_, ?_, by rw [g7, g5]; exact c0, g4, e1.tr g6⟩
      rw [g5]
      have g2' : J 1881 k = bS b 7 k := g2
      simp only [F_X7_forgive, ↓reduceIte, zg_true, zb1_e, zb2_e, zb3_e, zsum, zlet_e, nI_1, hB, n10, not_false_eq_true, c, g1, zin_n (show k < 6 by omega), nI_c (show k < 2147483648 by omega), s0, g2', qV]
      rfl
  · rw [qa_no hx]
    have hB := F7_isB_no (I := zu I 1860 1 0) (n := pnb P) (by omega) h1.nf.2 hx
    obtain ⟨J, g1, g2, g3, g4⟩ := zactM_no h1 hp
    refine ⟨J, ?_, g2, g3, e1.tr g4⟩
    simp only [F_X7_forgive, ↓reduceIte, zg_true, zb1_e, zb2_e, zb3_e, zsum, zlet_e, nI_1, hB, not_true_eq_false, g1, qV]
theorem e8m : ∀ i, i < 8 → ∀ j, j < 8 → (8 : Int32) * nI i + nI j = nI (8 * i + j) := by decide
theorem F7_move_ok (h : zMB I P X b) (hp : pInv P) (hb : bOk P b) (hw : zwd (pnf P) (xrv X)) (x y : Int32) : zActM (F_X7_move x y) I P X (q_move P X b x y) := by
  have hnf := hp.1
  have hnb := hp.2.1
  obtain ⟨h1, e1⟩ := h.c1 hp (v := 0)
  have c0 : zu I 1860 1 0 1860 1 = 0 := zu_same
  unfold zActM q_move
  rcases zir_cases x (n := pnb P) (by omega) with ⟨k, hk, rfl⟩ | hx
  · rw [qa_ok hk (by omega)]
    have hB := F7_isB_ok (I := zu I 1860 1 0) (by omega) h1.nf.2 hk
    rcases zir_cases y (n := pnf P) (by omega) with ⟨f, hf, rfl⟩ | hy
    · rw [qa_ok hf (by omega)]
      have hF := F7_isF_ok (I := zu I 1860 1 0) (by omega) h1.nf.1 hf
      obtain ⟨t4, t4b⟩ := hb.1.2.1.at' hp hk
      have s0 : zu I 1860 1 0 1878 k = nI (sp_f (bS b) k) := by rw [← t4, ← h1.2.1]; exact (zmv24 hk).symm
      have e8 := e8m (sp_f (bS b) k) (by omega) f (by omega)
      have hr : zu I 1860 1 0 1867 (8 * sp_f (bS b) k + f) = xrv X (sp_f (bS b) k) f := h1.1.2.2.2.2 _ _ t4b hf
      have hge := hw _ _ t4b hf
      by_cases c : xrv X (sp_f (bS b) k) f = 0
      · have c' : (if xrv X (sp_f (bS b) k) f ≤ 0 then (0 : Int32) else 1) = 0 := if_pos (by rw [c]; decide)
        obtain ⟨J, g1, g2, g3, g4, g5⟩ := zsetM_0 h1 4 k (nI f) (bS b 4 k) c'
        refine ⟨J, ?_, by rw [g2, g4]; exact c0, g3, e1.tr g5⟩
        rw [g4]
        simp only [F_X7_move, ↓reduceIte, zg_true, zb1_e, zb2_e, zb3_e, zsum, zlet_e, nI_1, hB, hF, n10, not_false_eq_true, not_true_eq_false, g1, qV, zin_n (show k < 6 by omega), nI_c (show k < 2147483648 by omega), s0, e8, zin_n (show 8 * sp_f (bS b) k + f < 128 by omega), nI_c (show 8 * sp_f (bS b) k + f < 2147483648 by omega), hr, c]
      · have c' : ¬ (if xrv X (sp_f (bS b) k) f ≤ 0 then (0 : Int32) else 1) = 0 := by
          rw [if_neg fun q => c (i_ext (by have := iLe.mp q; have := hge.1; rw [show (0 : Int32).toInt = 0 from rfl] at *; omega))]
          decide
        obtain ⟨J, g1, g2, g3, g4, g5, g6, g7⟩ := zsetM_1 h1 hp hb (r := 4) (j := k) (by decide) (by decide) hk (nI f) (bS b 4 k) c'
        refine ⟨_, ?_, by rw [g7, g5]; exact c0, g4, e1.tr g6⟩
        rw [g5]
        have g2' : J 1878 k = bS b 4 k := g2
        simp only [F_X7_move, ↓reduceIte, zg_true, zb1_e, zb2_e, zb3_e, zsum, zlet_e, nI_1, hB, hF, n10, not_false_eq_true, c, g1, zin_n (show k < 6 by omega), nI_c (show k < 2147483648 by omega), s0, e8, zin_n (show 8 * sp_f (bS b) k + f < 128 by omega), nI_c (show 8 * sp_f (bS b) k + f < 2147483648 by omega), hr, g2', qV]
        rfl
    · rw [qa_no hy]
      have hF := F7_isF_no (I := zu I 1860 1 0) (n := pnf P) (by omega) h1.nf.1 hy
      obtain ⟨J, g1, g2, g3, g4⟩ := zactM_no h1 hp
      refine ⟨J, ?_, g2, g3, e1.tr g4⟩
      simp only [F_X7_move, ↓reduceIte, zg_true, zb1_e, zb2_e, zb3_e, zsum, zlet_e, nI_1, hB, hF, n10, not_true_eq_false, g1, qV]
  · rw [qa_no hx]
    have hB := F7_isB_no (I := zu I 1860 1 0) (n := pnb P) (by omega) h1.nf.2 hx
    obtain ⟨J, g1, g2, g3, g4⟩ := zactM_no h1 hp
    refine ⟨J, ?_, g2, g3, e1.tr g4⟩
    simp only [F_X7_move, ↓reduceIte, zg_true, zb1_e, zb2_e, zb3_e, zsum, zlet_e, nI_1, hB, not_true_eq_false, g1, qV]
end L47
