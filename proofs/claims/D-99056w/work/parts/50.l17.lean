/-! L17: the model: then, paid, hostages, owing -/
section L17
variable {I : zId} {P : zP} {X : zXd}
theorem zpkd.row {a0 fr : Nat} {J : zId} (h : zpkd a0 fr I J) {x : Nat} (hx : x ≠ a0) : J x = I x := h.1 x hx
/-- the row kept, years on; what was known is known -/
theorem F7_ahead_ok (hQ : zMQ I P X) (hp : pInv P) (hi : sInv P (zmv2 (pnf P) (pnb P) I)) : ∃ I1, F_X7_pack 1886 57 0 I = some I1 ∧ zpkd 1886 0 I I1 ∧ zmv2 (pnf P) (pnb P) I1 = zmv2 (pnf P) (pnb P) I ∧ zmf I I1 ∧ I1 1868 = I 1868 ∧ I1 1860 = I 1860 := by
  obtain ⟨I1, h1, h2⟩ := F7_pack_ok (I := I) (a0 := 1886) (n0 := 57) (fr := 0) (by decide) (by decide) (by decide)
  refine ⟨I1, h1, h2, ?_, h2.mf, h2.row (by decide), h2.row (by decide)⟩
  exact zmv2_cg fun x k hk => by rw [h2.row (by intro e; subst e; simp [zmok] at hk)]
theorem F7_back_ok (hp : pInv P) {I1 J : zId} (hpk : zpkd 1886 0 I I1) (hr : J 1886 = I1 1886) (hB : ∀ j, j < pnb P → J 1868 j = I 1868 j) (hf : zmf I J) (h1 : J 1860 1 = I 1860 1) : ∃ J2, F_X7_unpack 1886 57 0 J = some J2 ∧ zmv2 (pnf P) (pnb P) J2 = zmv2 (pnf P) (pnb P) I ∧ zmf I J2 ∧ J2 1860 1 = I 1860 1 ∧ J2 1868 = J 1868 ∧ (∀ x, (x < 1875 ∨ 1882 < x) → x ≠ 1860 → J2 x = J x) := by
  obtain ⟨J2, g1, g2⟩ := F7_unpack_ok (I := J) (a0 := 1886) (n0 := 57) (fr := 0) (by decide) (by decide) (by decide)
  refine ⟨J2, g1, ?_, hf.tr g2.mf, by rw [g2.2.1 1 (by omega)]; exact h1, g2.1 _ (by decide) (by decide), g2.1⟩
  rw [g2.mv hp.1 hp.2.1, hr]
  exact hpk.rv hp.1 hp.2.1 _ hB
theorem zmfr.k {J : zId} (h : zmfr I J) : J 1886 = I 1886 ∧ J 1868 = I 1868 ∧ J 1860 1 = I 1860 1 ∧ J 1862 = I 1862 := ⟨h.row fun k => by simp [zdyn], h.row fun k => by simp [zdyn], h 1860 1 (by simp [zdyn]), h.row fun k => by simp [zdyn]⟩
theorem zmv2_c1 {nf nb : Nat} {v : Int32} : zmv2 nf nb (zu I 1860 1 v) = zmv2 nf nb I := zmvo (by simp [zmok])
theorem zmf_c1 {v : Int32} : zmf I (zu I 1860 1 v) := zmf.rf.zu (by simp [zmsc])
theorem F7_fail_ok {J : zId} (c : Nat) (v : Int32) (hc : nI c = v) (h : zmf I J) (hm : zmv2 (pnf P) (pnb P) J = zmv2 (pnf P) (pnb P) I) : ∃ J2, F_X7_fail v J = some (0, J2) ∧ J2 1860 1 = nI c ∧ zmv2 (pnf P) (pnb P) J2 = zmv2 (pnf P) (pnb P) I ∧ zmf I J2 :=
  ⟨zu J 1860 1 v, rfl, by rw [zu_same, hc], by rw [zmv2_c1]; exact hm, h.tr zmf_c1⟩
theorem F7_then_ok (hQ : zMQ I P X) (hp : pInv P) (hi : sInv P (zmv2 (pnf P) (pnb P) I)) (x y : Int32) : ∃ J, F_X7_then x y I = some (qV (q_then P (zmv2 (pnf P) (pnb P) I) x y), J) ∧ J 1860 1 = qE (q_then P (zmv2 (pnf P) (pnb P) I) x y) ∧ zmv2 (pnf P) (pnb P) J = zmv2 (pnf P) (pnb P) I ∧ zmf I J := by
  have hnf := hp.1
  have hc := zmf_c1 (I := I) (v := 0)
  have hQ1 := hQ.mf hc
  have em : zmv2 (pnf P) (pnb P) (zu I 1860 1 0) = zmv2 (pnf P) (pnb P) I := zmv2_c1
  unfold q_then
  rcases zir_cases x (n := pnf P) (by omega) with ⟨f, hf, rfl⟩ | hx
  · rw [q_fa_ok hf (by omega)]
    have hF := F7_isF_ok (by omega) hQ1.1.1 hf
    rcases zib_cases y 50 (by decide) with ⟨n, hn, rfl⟩ | ⟨hy, hy2⟩
    · rw [q_in_ok hn (by decide)]
      obtain ⟨I1, g1, g2, g3, g4, g5, g6⟩ := F7_ahead_ok hQ1 hp (by rw [em]; exact hi)
      obtain ⟨J, r1, r2, r3⟩ := F7_goOn_ok (hQ1.mf g4).1 hp (by rw [g3, em]; exact hi) (n := n) (by omega)
      obtain ⟨b1, b2, b3, b4⟩ := r3.k
      obtain ⟨J2, s1, s2, s3, s4, -⟩ := F7_back_ok hp g2 b1 (fun j _ => by rw [b2, g5]) (g4.tr r3.mf) (by rw [b3, g6])
      refine ⟨J2, ?_, by rw [s4, zu_same]; rfl, by rw [s2, em], hc.tr s3⟩
      have e1 : J 1875 f = sp_it P (zmv2 (pnf P) (pnb P) I) n 0 f := by rw [← em, ← g3, ← r2]; exact (zmv20 hf).symm
      have hz := F7_isIn_0 (I := zu I 1860 1 0) (nI n) 50 (h64 := 50) rfl
      rw [show zib (nI n) 0 50 = 1 from zib_nI hn (by decide)] at hz
      simp only [F_X7_then, zlet_e, hF, zb1_e, hz, g1, r1, s1, zin_n (show f < 8 by omega), zg_true, nI_c (show f < 2147483648 by omega), qV, e1]
      rfl
    · rw [q_in_no hy2]
      obtain ⟨J, g1, g2, g3, g4⟩ := F7_fail_ok (P := P) 2 2 rfl hc em
      refine ⟨J, ?_, g2, g3, g4⟩
      have hz := F7_isIn_0 (I := zu I 1860 1 0) y 50 (h64 := 50) rfl
      rw [show zib y 0 50 = 0 from hy] at hz
      simp only [F_X7_then, zlet_e, hF, zb1_e, hz, g1, zb2_e, qV]
      rfl
  · rw [q_fa_no hx]
    obtain ⟨J, g1, g2, g3, g4⟩ := F7_fail_ok (P := P) 1 1 rfl hc em
    refine ⟨J, ?_, g2, g3, g4⟩
    simp only [F_X7_then, zlet_e, F7_isF_no (by omega) hQ1.1.1 hx, zb1_e, g1, zb2_e, qV]
    rfl
theorem zlt_if {α : Type} {x : Int32} {n : Nat} {p q : α} (h : x < 0 ∨ nI n < x) : (if x < 0 then p else if x ≤ nI n then q else p) = p := by
  rcases h with h | h
  · rw [if_pos h]
  · split
    · rfl
    · rw [if_neg]
      intro c
      have h1 := iL.mp h
      have h2 := iLe.mp c
      omega
theorem F7_paid_ok (hQ : zMQ I P X) (hp : pInv P) (hi : sInv P (zmv2 (pnf P) (pnb P) I)) (y w : Int32) : ∃ J, F_X7_paid y w I = some (qV (q_paid P (zmv2 (pnf P) (pnb P) I) y w), J) ∧ J 1860 1 = qE (q_paid P (zmv2 (pnf P) (pnb P) I) y w) ∧ zmv2 (pnf P) (pnb P) J = zmv2 (pnf P) (pnb P) I ∧ zmf I J := by
  have hc := zmf_c1 (I := I) (v := 0)
  have hQ1 := hQ.mf hc
  have em : zmv2 (pnf P) (pnb P) (zu I 1860 1 0) = zmv2 (pnf P) (pnb P) I := zmv2_c1
  unfold q_paid
  rcases zib_cases w 1 (by decide) with ⟨w, hw, rfl⟩ | ⟨hw, hw2⟩
  · rw [q_in_ok hw (by decide)]
    have c0 : ¬ nI w < 0 := nI_pos (by omega)
    have c1 : nI w ≤ 1 := nI_le hw (by decide)
    have hw0 : (nI w = 0) ↔ w = 0 := nI_eq (b := 0) (by omega) (by omega)
    rcases zib_cases y 50 (by decide) with ⟨n, hn, rfl⟩ | ⟨hy, hy2⟩
    · rw [q_in_ok hn (by decide)]
      obtain ⟨I1, g1, g2, g3, g4, g5, g6⟩ := F7_ahead_ok hQ1 hp (by rw [em]; exact hi)
      obtain ⟨J, r1, r2, r3⟩ := F7_goOn_ok (hQ1.mf g4).1 hp (by rw [g3, em]; exact hi) (n := n) (by omega)
      obtain ⟨b1, b2, b3, b4⟩ := r3.k
      obtain ⟨J2, s1, s2, s3, s4, -⟩ := F7_back_ok hp g2 b1 (fun j _ => by rw [b2, g5]) (g4.tr r3.mf) (by rw [b3, g6])
      refine ⟨J2, ?_, by rw [s4, zu_same]; rfl, by rw [s2, em], hc.tr s3⟩
      have e1 : J 1860 35 = sp_it P (zmv2 (pnf P) (pnb P) I) n 9 1 := by rw [← em, ← g3, ← r2]; rfl
      have e2 : J 1860 36 = sp_it P (zmv2 (pnf P) (pnb P) I) n 9 2 := by rw [← em, ← g3, ← r2]; rfl
      have e3 : J2 1860 35 = zmv2 (pnf P) (pnb P) I 9 1 := by rw [← em, ← s2]; rfl
      have e4 : J2 1860 36 = zmv2 (pnf P) (pnb P) I 9 2 := by rw [← em, ← s2]; rfl
      have hz := F7_isIn_0 (I := zu I 1860 1 0) (nI n) 50 (h64 := 50) rfl
      rw [show zib (nI n) 0 50 = 1 from zib_nI hn (by decide)] at hz
      simp only [F_X7_paid, zlet_e, if_neg c0, if_pos c1, zb1_e, hz, g1, r1, s1, e1, e2, e3, e4, hw0, qV]
      rw [if_pos (show ¬ (1 : Int32) = 0 by decide)]
      by_cases c : w = 0
      · rw [if_neg (fun h => h c), if_pos c]
      · rw [if_pos c, if_neg c]
    · rw [q_in_no hy2]
      obtain ⟨J, g1, g2, g3, g4⟩ := F7_fail_ok (P := P) 2 2 rfl hc em
      refine ⟨J, ?_, g2, g3, g4⟩
      have hz := F7_isIn_0 (I := zu I 1860 1 0) y 50 (h64 := 50) rfl
      rw [show zib y 0 50 = 0 from hy] at hz
      simp only [F_X7_paid, zlet_e, if_neg c0, if_pos c1, zb1_e, hz, g1, zb2_e, qV]
      rfl
  · rw [q_in_no hw2]
    obtain ⟨J, g1, g2, g3, g4⟩ := F7_fail_ok (P := P) 1 1 rfl hc em
    refine ⟨J, ?_, g2, g3, g4⟩
    simp only [F_X7_paid, zlet_e, g1, zb2_e]
    exact zlt_if (n := 1) hw2
theorem F7_allDead_ok {nb nf : Nat} {J : zId} (e : J 1862 2 = nI nb) (hb : nb ≤ 6) : F_X7_allDead J = some (zsm (zmv2 nf nb J 8) nb) := by
  have s := zloop_up (body := fun s : Int32 × Int32 => F_X7_allDead_L4 J s.1 s.2) (fun i s => s = (zsm (zmv2 nf nb J 8) i, nI i)) (fun t => t = zsm (zmv2 nf nb J 8) nb) nb ?_ ?_ 0 (0, 0) (Nat.zero_le _) rfl
  · obtain ⟨t, h1, rfl⟩ := s
    simp only [F_X7_allDead, h1, zb1_e]
  · rintro i s hib rfl
    refine Or.inl ⟨(zsm (zmv2 nf nb J 8) (i + 1), nI (i + 1)), ?_, rfl⟩
    dsimp only
    simp only [F_X7_allDead_L4, e, if_neg (nI_ge hib (show nb < 2 ^ 31 by omega)), zg_true, zin_n (show i < 6 by omega), nI_c (show i < 2147483648 by omega), zlet_e, nI_1, zsm, zmv28 hib]
  · rintro s rfl
    dsimp only
    simp only [F_X7_allDead_L4, e, if_pos (nI_le (Nat.le_refl _) (show nb < 2 ^ 31 by omega))]
    exact ⟨_, rfl, rfl⟩
theorem F7_host_ok (hQ : zMQ I P X) (hp : pInv P) (hi : sInv P (zmv2 (pnf P) (pnb P) I)) (y : Int32) : ∃ J, F_X7_hostages y I = some (qV (q_host P (zmv2 (pnf P) (pnb P) I) y), J) ∧ J 1860 1 = qE (q_host P (zmv2 (pnf P) (pnb P) I) y) ∧ zmv2 (pnf P) (pnb P) J = zmv2 (pnf P) (pnb P) I ∧ zmf I J := by
  have hc := zmf_c1 (I := I) (v := 0)
  have hQ1 := hQ.mf hc
  have em : zmv2 (pnf P) (pnb P) (zu I 1860 1 0) = zmv2 (pnf P) (pnb P) I := zmv2_c1
  unfold q_host
  rcases zib_cases y 50 (by decide) with ⟨n, hn, rfl⟩ | ⟨hy, hy2⟩
  · rw [q_in_ok hn (by decide)]
    obtain ⟨I1, g1, g2, g3, g4, g5, g6⟩ := F7_ahead_ok hQ1 hp (by rw [em]; exact hi)
    obtain ⟨J, r1, r2, r3⟩ := F7_goOn_ok (hQ1.mf g4).1 hp (by rw [g3, em]; exact hi) (n := n) (by omega)
    obtain ⟨b1, b2, b3, b4⟩ := r3.k
    obtain ⟨J2, s1, s2, s3, s4, -⟩ := F7_back_ok hp g2 b1 (fun j _ => by rw [b2, g5]) (g4.tr r3.mf) (by rw [b3, g6])
    refine ⟨J2, ?_, by rw [s4, zu_same]; rfl, by rw [s2, em], hc.tr s3⟩
    have d1 := F7_allDead_ok (nf := pnf P) ((hQ1.mf (g4.tr r3.mf)).1.2.1) hp.2.1
    have d2 := F7_allDead_ok (nf := pnf P) ((hQ1.mf s3).1.2.1) hp.2.1
    rw [r2, g3, em] at d1
    rw [s2, em] at d2
    have hz := F7_isIn_0 (I := zu I 1860 1 0) (nI n) 50 (h64 := 50) rfl
    rw [show zib (nI n) 0 50 = 1 from zib_nI hn (by decide)] at hz
    simp only [F_X7_hostages, zlet_e, zb1_e, hz, g1, r1, s1, d1, d2, qV]
    rfl
  · rw [q_in_no hy2]
    obtain ⟨J, g1, g2, g3, g4⟩ := F7_fail_ok (P := P) 1 1 rfl hc em
    refine ⟨J, ?_, g2, g3, g4⟩
    have hz := F7_isIn_0 (I := zu I 1860 1 0) y 50 (h64 := 50) rfl
    rw [show zib y 0 50 = 0 from hy] at hz
    simp only [F_X7_hostages, zlet_e, zb1_e, hz, g1, zb2_e, qV]
    rfl
theorem F7_owing_ok (hQ : zMQ I P X) (hp : pInv P) (hi : sInv P (zmv2 (pnf P) (pnb P) I)) (y : Int32) : ∃ J, F_X7_owing y I = some (qV (q_owing P (zmv2 (pnf P) (pnb P) I) y), J) ∧ J 1860 1 = qE (q_owing P (zmv2 (pnf P) (pnb P) I) y) ∧ zmv2 (pnf P) (pnb P) J = zmv2 (pnf P) (pnb P) I ∧ zmf I J := by
  have hnb := hp.2.1
  have hc := zmf_c1 (I := I) (v := 0)
  have hQ1 := hQ.mf hc
  have em : zmv2 (pnf P) (pnb P) (zu I 1860 1 0) = zmv2 (pnf P) (pnb P) I := zmv2_c1
  unfold q_owing
  rcases zib_cases y 50 (by decide) with ⟨n, hn, rfl⟩ | ⟨hy, hy2⟩
  · rw [q_in_ok hn (by decide)]
    obtain ⟨I1, g1, g2, g3, g4, g5, g6⟩ := F7_ahead_ok hQ1 hp (by rw [em]; exact hi)
    obtain ⟨J, r1, r2, r3⟩ := F7_goOn_ok (hQ1.mf g4).1 hp (by rw [g3, em]; exact hi) (n := n) (by omega)
    obtain ⟨b1, b2, b3, b4⟩ := r3.k
    obtain ⟨J2, s1, s2, s3, s4, -⟩ := F7_back_ok hp g2 b1 (fun j _ => by rw [b2, g5]) (g4.tr r3.mf) (by rw [b3, g6])
    refine ⟨J2, ?_, by rw [s4, zu_same]; rfl, by rw [s2, em], hc.tr s3⟩
    have e2 := (hQ1.mf (g4.tr r3.mf)).1.2.1
    have hv : ∀ i, i < pnb P → J 1881 i = sp_it P (zmv2 (pnf P) (pnb P) I) n 7 i := fun i hib => by rw [← em, ← g3, ← r2]; exact (zmv27 hib).symm
    generalize sp_it P (zmv2 (pnf P) (pnb P) I) n 7 = v at hv
    have s := zloop_up (body := fun s : Int32 × Int32 × Int32 => F_X7_owing_L44 J s.1 s.2.1 s.2.2) (fun i s => s = ((zbst v i).1, (zbst v i).2, nI i)) (fun t => t = (zbst v (pnb P)).1) (pnb P) ?_ ?_ 0 (-1, 0, 0) (Nat.zero_le _) rfl
    · obtain ⟨t, t1, rfl⟩ := s
      have hz := F7_isIn_0 (I := zu I 1860 1 0) (nI n) 50 (h64 := 50) rfl
      rw [show zib (nI n) 0 50 = 1 from zib_nI hn (by decide)] at hz
      simp only [F_X7_owing, zlet_e, zb1_e, hz, g1, r1, t1, s1, qV]
      rfl
    · rintro i s hib rfl
      dsimp only
      refine Or.inl ⟨((zbst v (i + 1)).1, (zbst v (i + 1)).2, nI (i + 1)), ?_, rfl⟩
      simp only [F_X7_owing_L44, e2, if_neg (nI_ge hib (show pnb P < 2 ^ 31 by omega)), zin_n (show i < 6 by omega), zg_true, nI_c (show i < 2147483648 by omega), hv i hib, zlet_e, nI_1, zbst]
      by_cases c : v i ≤ (zbst v i).2
      · rw [if_pos c, if_neg]
        intro h
        have h1 := iL.mp h
        have h2 := iLe.mp c
        omega
      · rw [if_neg c, if_pos]
        have h2 := mt iLe.mpr c
        exact iL.mpr (by omega)
    · rintro s rfl
      dsimp only
      simp only [F_X7_owing_L44, e2, if_pos (nI_le (Nat.le_refl _) (show pnb P < 2 ^ 31 by omega))]
      exact ⟨_, rfl, rfl⟩
  · rw [q_in_no hy2]
    obtain ⟨J, g1, g2, g3, g4⟩ := F7_fail_ok (P := P) 1 1 rfl hc em
    refine ⟨J, ?_, g2, g3, g4⟩
    have hz := F7_isIn_0 (I := zu I 1860 1 0) y 50 (h64 := 50) rfl
    rw [show zib y 0 50 = 0 from hy] at hz
    simp only [F_X7_owing, zlet_e, zb1_e, hz, g1, zb2_e, qV]
    rfl
end L17
