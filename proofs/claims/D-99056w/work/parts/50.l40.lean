/-! L40: the component's acts -/
section L40
variable {K : zKd} {F : zFd} {I : zId} {L : zLd} {n a N : Nat} {P : zP} {X : zXd} {b : zBk}
theorem zact_no (h : zCB K F I a N P X b) : ∃ F' I', some ((1, 6), ((.inr ("java/util/NoSuchElementException", 0) : Int32 ⊕ (String × Nat)), ((n, K, F, I, L) : zSt))) = some (qcc (.inr 1), (qC (.inr 1), (n, K, F', I', L))) ∧ zCB K F' I' a N P X b ∧ (∀ x, x ≠ 1025 → F' x = F x) ∧ zaf a I I' := ⟨F, I, rfl, h, fun _ _ => rfl, zaf.rf⟩
theorem zxc_1 {α : Type} (s : String) : zxc (Sum.inr (s, 0) : α ⊕ (String × Nat)) = 1 := rfl
theorem zxs_1 {α : Type} (s : String) : zxs (Sum.inr (s, 0) : α ⊕ (String × Nat)) = 6 := rfl
theorem zxc_l {α : Type} (w : α) : zxc (Sum.inl w : α ⊕ (String × Nat)) = 0 ∧ zxs (Sum.inl w : α ⊕ (String × Nat)) = 0 := ⟨rfl, rfl⟩
theorem n10 : ¬ (1 : Int32) = 0 := by decide
theorem F_bows_ok (h : zCB K F I a N P X b) (hp : pInv P) (x y : Int32) : zActC (F_X1_bows 1000 x y) n K F I L a N P X (q_bows P b x y) := by
  have hnf := hp.1
  have hnb := hp.2.1
  have hq := h.1
  obtain ⟨k0, ⟨f0, f1, f2, f3, -⟩, -, ⟨sN, -⟩, -⟩ := hq
  have k14 := sN.2.1
  unfold zActC q_bows
  rcases zir_cases x (n := pnb P) (by omega) with ⟨k, hk, rfl⟩ | hx
  · rw [qa_ok hk (by omega)]
    obtain ⟨F', I', g1, g2, g3, g4, g5⟩ := zset_ok (n := n) (L := L) h hp (r := 5) (j := k) (by decide) hk (v := y) (w := bS b 5 k) (zib_01 y 0 30) (fun e => sInv_seen h.si (by have := zib_rg (x := y) (lo := 0) (hi := 30) (by rw [e]; decide); exact this))
    rcases zib_01 y 0 30 with e | e
    · obtain ⟨s1, s2⟩ := g4 e
      refine ⟨F', I', ?_, s1, g2, g3⟩
      rw [s2]
      rw [e] at g1
      simp only [F_X1_bows, hK, jF, hI, hN, hL, zsFI, zsI, zsF, ↓reduceIte, ↓zka_eq k0, ↓zka_eq k14, d1000, d1014, zg_true, zb1_e, zb2_e, zb3_e, zsum, zlet_e, f0, f3, nI_1, zpay_e, zc1_e, zn2, (zxc_l _).1, (zxc_l _).2, F_within_ok, not_true_eq_false, not_false_eq_true, n10, qcc, qC, F_bandAt_ok h.1 hp hk, g1, e]
    · obtain ⟨s1, s2, s3, s4⟩ := g5 e
      refine ⟨F', _, ?_, s2, g2, s4⟩
      rw [s3]
      rw [e] at g1
      have f3' : F' 1000 3 = some 1014 := by rw [g2 1000 (by decide)]; exact f3
      have t5 : F' 1014 5 = some 1020 := by rw [g2 1014 (by decide)]; exact sN.2.2.1.2.2.2.2.2.1
      have k5 : K 1020 = some (64, 6) := sN.2.2.2.2.2.2.2.2.1
      have s1' : I' 1020 k = bS b 5 k := s1
      simp only [F_X1_bows, hK, jF, hI, hN, hL, zsFI, zsI, zsF, ↓reduceIte, ↓zka_eq k0, ↓zka_eq k14, d1000, d1014, zg_true, zb1_e, zb2_e, zb3_e, zsum, zlet_e, f0, f3, nI_1, zpay_e, zc1_e, zn2, (zxc_l _).1, (zxc_l _).2, F_within_ok, not_true_eq_false, not_false_eq_true, n10, qcc, qC, F_bandAt_ok h.1 hp hk, g1, e, f3', t5, ↓zka_eq k5, zin_n (show k < 6 by omega), nI_c (show k < 2147483648 by omega), s1', show decide (600 ≤ 1020) = true from rfl]
  · rw [qa_no hx]
    have e := F_bandAt_no h.1 hx
    have := zact_no (n := n) (L := L) h
    simp only [F_X1_bows, hK, jF, hI, hN, hL, zsFI, zsI, zsF, ↓reduceIte, ↓zka_eq k0, ↓zka_eq k14, d1000, d1014, zg_true, zb1_e, zb2_e, zb3_e, zsum, zlet_e, f0, f3, nI_1, zpay_e, zc1_e, zn2, (zxc_l _).1, (zxc_l _).2, F_within_ok, not_true_eq_false, not_false_eq_true, n10, qcc, qC, e, zxc_1, zxs_1]
    exact this
theorem F_rest_ok (h : zCB K F I a N P X b) (hp : pInv P) (x y : Int32) : zActC (F_X1_rest 1000 x y) n K F I L a N P X (q_rest P b x y) := by
  have hnf := hp.1
  have hnb := hp.2.1
  have hq := h.1
  obtain ⟨k0, ⟨f0, f1, f2, f3, -⟩, -, ⟨sN, -⟩, -⟩ := hq
  have k14 := sN.2.1
  unfold zActC q_rest
  rcases zir_cases x (n := pnf P) (by omega) with ⟨k, hk, rfl⟩ | hx
  · rw [qa_ok hk (by omega)]
    obtain ⟨o, ho, -⟩ := F_forestAt_ok h.1 hp hk
    obtain ⟨F', I', g1, g2, g3, g4, g5⟩ := zset_ok (n := n) (L := L) h hp (r := 2) (j := k) (by decide) hk (v := y) (w := bS b 2 k) (zib_01 y 0 50) (fun e => sInv_rest h.si (by have := zib_rg (x := y) (lo := 0) (hi := 50) (by rw [e]; decide); exact this))
    rcases zib_01 y 0 50 with e | e
    · obtain ⟨s1, s2⟩ := g4 e
      refine ⟨F', I', ?_, s1, g2, g3⟩
      rw [s2]
      rw [e] at g1
      simp only [F_X1_rest, hK, jF, hI, hN, hL, zsFI, zsI, zsF, ↓reduceIte, ↓zka_eq k0, ↓zka_eq k14, d1000, d1014, zg_true, zb1_e, zb2_e, zb3_e, zsum, zlet_e, f0, f3, nI_1, zpay_e, zc1_e, zn2, (zxc_l _).1, (zxc_l _).2, F_within_ok, not_true_eq_false, not_false_eq_true, n10, qcc, qC, ho, g1, e]
    · obtain ⟨s1, s2, s3, s4⟩ := g5 e
      refine ⟨F', _, ?_, s2, g2, s4⟩
      rw [s3]
      rw [e] at g1
      have f3' : F' 1000 3 = some 1014 := by rw [g2 1000 (by decide)]; exact f3
      have t5 : F' 1014 2 = some 1017 := by rw [g2 1014 (by decide)]; exact sN.2.2.1.2.2.1
      have k5 : K 1017 = some (64, 8) := sN.2.2.2.2.2.1
      have s1' : I' 1017 k = bS b 2 k := s1
      simp only [F_X1_rest, hK, jF, hI, hN, hL, zsFI, zsI, zsF, ↓reduceIte, ↓zka_eq k0, ↓zka_eq k14, d1000, d1014, zg_true, zb1_e, zb2_e, zb3_e, zsum, zlet_e, f0, f3, nI_1, zpay_e, zc1_e, zn2, (zxc_l _).1, (zxc_l _).2, F_within_ok, not_true_eq_false, not_false_eq_true, n10, qcc, qC, ho, g1, e, f3', t5, ↓zka_eq k5, zin_n (show k < 8 by omega), nI_c (show k < 2147483648 by omega), s1', show decide (600 ≤ 1017) = true from rfl]
  · rw [qa_no hx]
    have e := F_forestAt_no h.1 hx
    have := zact_no (n := n) (L := L) h
    simp only [F_X1_rest, hK, jF, hI, hN, hL, zsFI, zsI, zsF, ↓reduceIte, ↓zka_eq k0, ↓zka_eq k14, d1000, d1014, zg_true, zb1_e, zb2_e, zb3_e, zsum, zlet_e, f0, f3, nI_1, zpay_e, zc1_e, zn2, (zxc_l _).1, (zxc_l _).2, F_within_ok, not_true_eq_false, not_false_eq_true, n10, qcc, qC, e, zxc_1, zxs_1]
    exact this
theorem F_dye_ok (h : zCB K F I a N P X b) (hp : pInv P) (x y : Int32) : zActC (F_X1_dye 1000 x y) n K F I L a N P X (q_dye P b x y) := by
  have hnf := hp.1
  have hnb := hp.2.1
  have hq := h.1
  obtain ⟨k0, ⟨f0, f1, f2, f3, -⟩, -, ⟨sN, -⟩, -⟩ := hq
  have k14 := sN.2.1
  unfold zActC q_dye
  rcases zir_cases x (n := pnb P) (by omega) with ⟨k, hk, rfl⟩ | hx
  · rw [qa_ok hk (by omega)]
    have hst := (h.si.1 k hk).2.2.2.1
    obtain ⟨F', I', g1, g2, g3, g4, g5⟩ := zset_ok (n := n) (L := L) h hp (r := 6) (j := k) (by decide) hk (v := zmin 9999 (bS b 6 k + y)) (w := zmin 9999 (bS b 6 k + y)) (zib_01 y 1 99) (fun e => sInv_store h.si (by
      have q := zib_rg (x := y) (lo := 1) (hi := 99) (by rw [e]; decide)
      have q1 : 1 ≤ y.toInt := q.1
      have q2 : y.toInt ≤ 99 := q.2
      obtain ⟨q3, q4⟩ := hst
      unfold rg
      rw [i_min, i_add (by omega) (by omega)]
      rw [show (9999 : Int32).toInt = 9999 from rfl]
      omega))
    rcases zib_01 y 1 99 with e | e
    · obtain ⟨s1, s2⟩ := g4 e
      refine ⟨F', I', ?_, s1, g2, g3⟩
      rw [s2]
      rw [e] at g1
      simp only [F_X1_dye, hK, jF, hI, hN, hL, zsFI, zsI, zsF, ↓reduceIte, ↓zka_eq k0, ↓zka_eq k14, d1000, d1014, zg_true, zb1_e, zb2_e, zb3_e, zsum, zlet_e, f0, f3, nI_1, zpay_e, zc1_e, zn2, (zxc_l _).1, (zxc_l _).2, F_within_ok, not_true_eq_false, not_false_eq_true, n10, qcc, qC, F_bandAt_ok h.1 hp hk, g1, e]
    · obtain ⟨s1, s2, s3, s4⟩ := g5 e
      refine ⟨F', _, ?_, s2, g2, s4⟩
      rw [s3]
      rw [e] at g1
      have f3' : F' 1000 3 = some 1014 := by rw [g2 1000 (by decide)]; exact f3
      have t5 : F' 1014 6 = some 1021 := by rw [g2 1014 (by decide)]; exact sN.2.2.1.2.2.2.2.2.2.1
      have k5 : K 1021 = some (64, 6) := sN.2.2.2.2.2.2.2.2.2.1
      have s1' : I' 1021 k = bS b 6 k := s1
      simp only [F_X1_dye, hK, jF, hI, hN, hL, zsFI, zsI, zsF, ↓reduceIte, ↓zka_eq k0, ↓zka_eq k14, d1000, d1014, zg_true, zb1_e, zb2_e, zb3_e, zsum, zlet_e, f0, f3, nI_1, zpay_e, zc1_e, zn2, (zxc_l _).1, (zxc_l _).2, F_within_ok, not_true_eq_false, not_false_eq_true, n10, qcc, qC, F_bandAt_ok h.1 hp hk, g1, e, f3', t5, ↓zka_eq k5, zin_n (show k < 6 by omega), nI_c (show k < 2147483648 by omega), s1', show decide (600 ≤ 1021) = true from rfl, zu_same]
  · rw [qa_no hx]
    have e := F_bandAt_no h.1 hx
    have := zact_no (n := n) (L := L) h
    simp only [F_X1_dye, hK, jF, hI, hN, hL, zsFI, zsI, zsF, ↓reduceIte, ↓zka_eq k0, ↓zka_eq k14, d1000, d1014, zg_true, zb1_e, zb2_e, zb3_e, zsum, zlet_e, f0, f3, nI_1, zpay_e, zc1_e, zn2, (zxc_l _).1, (zxc_l _).2, F_within_ok, not_true_eq_false, not_false_eq_true, n10, qcc, qC, e, zxc_1, zxs_1]
    exact this
theorem F_forgive_ok (h : zCB K F I a N P X b) (hp : pInv P) (x : Int32) : zActC (F_X1_forgive 1000 x) n K F I L a N P X (q_forgive P b x) := by
  have hnf := hp.1
  have hnb := hp.2.1
  have hq := h.1
  obtain ⟨k0, ⟨f0, f1, f2, f3, -⟩, -, ⟨sN, -⟩, -⟩ := hq
  have k14 := sN.2.1
  unfold zActC q_forgive
  rcases zir_cases x (n := pnb P) (by omega) with ⟨k, hk, rfl⟩ | hx
  · rw [qa_ok hk (by omega)]
    have t7 : F 1014 7 = some 1022 := sN.2.2.1.2.2.2.2.2.2.2.1
    have k5 : K 1022 = some (64, 6) := sN.2.2.2.2.2.2.2.2.2.2.1
    have s0 : I 1022 k = bS b 7 k := by rw [← h.now]; exact (zcv7 hk).symm
    have hc01 : (if bS b 7 k ≤ 0 then (0 : Int32) else 1) = 0 ∨ (if bS b 7 k ≤ 0 then (0 : Int32) else 1) = 1 := by
      split
      · exact Or.inl rfl
      · exact Or.inr rfl
    obtain ⟨F', I', g1, g2, g3, g4, g5⟩ := zset_ok (n := n) (L := L) h hp (r := 7) (j := k) (by decide) hk (v := 0) (w := bS b 7 k) hc01 (fun e => sInv_owes h.si ⟨by decide, by decide⟩)
    by_cases c : bS b 7 k ≤ 0
    · rw [if_pos c] at g1 g4 g5
      rw [if_pos c]
      obtain ⟨s1, s2⟩ := g4 rfl
      refine ⟨F', I', ?_, s1, g2, g3⟩
      rw [s2]
      simp only [F_X1_forgive, hK, jF, hI, hN, hL, zsFI, zsI, zsF, ↓reduceIte, ↓zka_eq k0, ↓zka_eq k14, d1000, d1014, zg_true, zb1_e, zb2_e, zb3_e, zsum, zlet_e, f0, f3, nI_1, zpay_e, zc1_e, zn2, (zxc_l _).1, (zxc_l _).2, F_within_ok, not_true_eq_false, not_false_eq_true, n10, qcc, qC, F_bandAt_ok h.1 hp hk, g1, t7, ↓zka_eq k5, zin_n (show k < 6 by omega), nI_c (show k < 2147483648 by omega), s0, c]
    · rw [if_neg c] at g1 g4 g5
      rw [if_neg c]
      obtain ⟨s1, s2, s3, s4⟩ := g5 rfl
      refine ⟨F', _, ?_, s2, g2, s4⟩
      rw [s3]
      have f3' : F' 1000 3 = some 1014 := by rw [g2 1000 (by decide)]; exact f3
      have t5 : F' 1014 7 = some 1022 := by rw [g2 1014 (by decide)]; exact t7
      simp only [F_X1_forgive, hK, jF, hI, hN, hL, zsFI, zsI, zsF, ↓reduceIte, ↓zka_eq k0, ↓zka_eq k14, d1000, d1014, zg_true, zb1_e, zb2_e, zb3_e, zsum, zlet_e, f0, f3, nI_1, zpay_e, zc1_e, zn2, (zxc_l _).1, (zxc_l _).2, F_within_ok, not_true_eq_false, not_false_eq_true, n10, qcc, qC, F_bandAt_ok h.1 hp hk, g1, t7, f3', t5, ↓zka_eq k5, zin_n (show k < 6 by omega), nI_c (show k < 2147483648 by omega), s0, c, show decide (600 ≤ 1022) = true from rfl]
  · rw [qa_no hx]
    have e := F_bandAt_no h.1 hx
    have := zact_no (n := n) (L := L) h
    simp only [F_X1_forgive, hK, jF, hI, hN, hL, zsFI, zsI, zsF, ↓reduceIte, ↓zka_eq k0, ↓zka_eq k14, d1000, d1014, zg_true, zb1_e, zb2_e, zb3_e, zsum, zlet_e, f0, f3, nI_1, zpay_e, zc1_e, zn2, (zxc_l _).1, (zxc_l _).2, F_within_ok, not_true_eq_false, not_false_eq_true, n10, qcc, qC, e, zxc_1, zxs_1]
    exact this
theorem F_move_ok (h : zCB K F I a N P X b) (hp : pInv P) (x y : Int32) : zActC (F_X1_move 1000 x y) n K F I L a N P X (q_move P X b x y) := by
  have hnf := hp.1
  have hnb := hp.2.1
  have hq := h.1
  obtain ⟨k0, ⟨f0, f1, f2, f3, -⟩, -, ⟨sN, -⟩, -⟩ := hq
  have k14 := sN.2.1
  unfold zActC q_move
  rcases zir_cases x (n := pnb P) (by omega) with ⟨k, hk, rfl⟩ | hx
  · rw [qa_ok hk (by omega)]
    rcases zir_cases y (n := pnf P) (by omega) with ⟨f, hf, rfl⟩ | hy
    · rw [qa_ok hf (by omega)]
      obtain ⟨o, ho, -⟩ := F_forestAt_ok h.1 hp hf
      obtain ⟨t4, t4b⟩ := h.si.at' hp hk
      have ht : F 1014 4 = some 1019 := sN.2.2.1.2.2.2.2.1
      have k5 : K 1019 = some (64, 6) := sN.2.2.2.2.2.2.2.1
      have s0 : I 1019 k = nI (sp_f (bS b) k) := by rw [← t4, ← h.now]; exact (zcv4 hk).symm
      have hLL := h.1.2.2.2.2.1
      have hLQ := h.1.2.2.2.2.2.1
      have kA := hLL.2.2.1
      have hr := F_hr_ok (J := I) kA hLL.1 hLQ.2.2.2.1.1 hLQ.2.2.2.1.2.1 (i := sp_f (bS b) k) (j := f) (by omega) (by omega)
      rw [(hLQ.2.2.2.2 _ _ t4b hf).1] at hr
      have hc01 : (if xrv X (sp_f (bS b) k) f ≤ 0 then (0 : Int32) else 1) = 0 ∨ (if xrv X (sp_f (bS b) k) f ≤ 0 then (0 : Int32) else 1) = 1 := by
        split
        · exact Or.inl rfl
        · exact Or.inr rfl
      obtain ⟨F', I', g1, g2, g3, g4, g5⟩ := zset_ok (n := n) (L := L) h hp (r := 4) (j := k) (by decide) hk (v := nI f) (w := bS b 4 k) hc01 (fun e => sInv_at h.si hf)
      by_cases c : xrv X (sp_f (bS b) k) f ≤ 0
      · rw [if_pos c] at g1 g4 g5 hr
        rw [if_pos c]
        obtain ⟨s1, s2⟩ := g4 rfl
        refine ⟨F', I', ?_, s1, g2, g3⟩
        rw [s2]
        simp only [F_X1_move, hK, jF, hI, hN, hL, zsFI, zsI, zsF, ↓reduceIte, ↓zka_eq k0, ↓zka_eq k14, d1000, d1014, zg_true, zb1_e, zb2_e, zb3_e, zsum, zlet_e, f0, f3, nI_1, zpay_e, zc1_e, zn2, (zxc_l _).1, (zxc_l _).2, F_within_ok, not_true_eq_false, not_false_eq_true, n10, qcc, qC, F_bandAt_ok h.1 hp hk, ho, hr, ↓zka_eq kA, g1, ht, ↓zka_eq k5, zin_n (show k < 6 by omega), nI_c (show k < 2147483648 by omega), s0]
      · rw [if_neg c] at g1 g4 g5 hr
        rw [if_neg c]
        obtain ⟨s1, s2, s3, s4⟩ := g5 rfl
        refine ⟨F', _, ?_, s2, g2, s4⟩
        rw [s3, t4]
        have f3' : F' 1000 3 = some 1014 := by rw [g2 1000 (by decide)]; exact f3
        have t5 : F' 1014 4 = some 1019 := by rw [g2 1014 (by decide)]; exact ht
        simp only [F_X1_move, hK, jF, hI, hN, hL, zsFI, zsI, zsF, ↓reduceIte, ↓zka_eq k0, ↓zka_eq k14, d1000, d1014, zg_true, zb1_e, zb2_e, zb3_e, zsum, zlet_e, f0, f3, nI_1, zpay_e, zc1_e, zn2, (zxc_l _).1, (zxc_l _).2, F_within_ok, not_true_eq_false, not_false_eq_true, n10, qcc, qC, F_bandAt_ok h.1 hp hk, ho, hr, ↓zka_eq kA, g1, ht, f3', t5, ↓zka_eq k5, zin_n (show k < 6 by omega), nI_c (show k < 2147483648 by omega), s0, show decide (600 ≤ 1019) = true from rfl]
    · rw [qa_no hy]
      have e := F_forestAt_no h.1 hy
      have := zact_no (n := n) (L := L) h
      simp only [F_X1_move, hK, jF, hI, hN, hL, zsFI, zsI, zsF, ↓reduceIte, ↓zka_eq k0, ↓zka_eq k14, d1000, d1014, zg_true, zb1_e, zb2_e, zb3_e, zsum, zlet_e, f0, f3, nI_1, zpay_e, zc1_e, zn2, (zxc_l _).1, (zxc_l _).2, F_within_ok, not_true_eq_false, not_false_eq_true, n10, qcc, qC, F_bandAt_ok h.1 hp hk, e, zxc_1, zxs_1]
      exact this
  · rw [qa_no hx]
    have e := F_bandAt_no h.1 hx
    have := zact_no (n := n) (L := L) h
    simp only [F_X1_move, hK, jF, hI, hN, hL, zsFI, zsI, zsF, ↓reduceIte, ↓zka_eq k0, ↓zka_eq k14, d1000, d1014, zg_true, zb1_e, zb2_e, zb3_e, zsum, zlet_e, f0, f3, nI_1, zpay_e, zc1_e, zn2, (zxc_l _).1, (zxc_l _).2, F_within_ok, not_true_eq_false, not_false_eq_true, n10, qcc, qC, e, zxc_1, zxs_1]
    exact this
end L40
