/-! L16: questions of years ahead: then, paid, hostages, owing -/
def q_fa (n : Nat) (x : Int32) (q : Nat → Int32 ⊕ Nat) : Int32 ⊕ Nat := if x < 0 ∨ nI n ≤ x then .inr 1 else q x.toNatClampNeg
def q_in (x : Int32) (n c : Nat) (q : Nat → Int32 ⊕ Nat) : Int32 ⊕ Nat := if x < 0 ∨ nI n < x then .inr c else q x.toNatClampNeg
theorem q_fa_ok {n f : Nat} {q : Nat → Int32 ⊕ Nat} (h : f < n) (hn : n < 1000) : q_fa n (nI f) q = q f := by
  unfold q_fa
  rw [if_neg, nI_c (by omega)]
  intro h2
  rcases h2 with h2 | h2
  · exact nI_pos (by omega) h2
  · exact nI_ge h (by omega) h2
theorem q_fa_no {n : Nat} {x : Int32} {q : Nat → Int32 ⊕ Nat} (h : x < 0 ∨ nI n ≤ x) : q_fa n x q = .inr 1 := if_pos h
theorem q_in_ok {n k c : Nat} {q : Nat → Int32 ⊕ Nat} (h : k ≤ n) (hn : n < 100000) : q_in (nI k) n c q = q k := by
  unfold q_in
  rw [if_neg, nI_c (by omega)]
  intro h2
  rcases h2 with h2 | h2
  · exact nI_pos (by omega) h2
  · exact nI_nlt h (by omega) h2
theorem q_in_no {n c : Nat} {x : Int32} {q : Nat → Int32 ⊕ Nat} (h : x < 0 ∨ nI n < x) : q_in x n c q = .inr c := if_pos h
def zsm (v : Nat → Int32) : Nat → Int32
  | 0 => 0
  | n + 1 => zsm v n + v n
/-- who owes most: (best, most) -/
def zbst (v : Nat → Int32) : Nat → Int32 × Int32
  | 0 => (-1, 0)
  | n + 1 => if v n ≤ (zbst v n).2 then zbst v n else (nI n, v n)
def q_then (P : zP) (S : zS) (x y : Int32) : Int32 ⊕ Nat := q_fa (pnf P) x fun f => q_in y 50 2 fun n => .inl (sp_it P S n 0 f)
def q_paid (P : zP) (S : zS) (y w : Int32) : Int32 ⊕ Nat := q_in w 1 1 fun w => q_in y 50 2 fun n => .inl (if w = 0 then sp_it P S n 9 1 - S 9 1 else sp_it P S n 9 2 - S 9 2)
def q_host (P : zP) (S : zS) (y : Int32) : Int32 ⊕ Nat := q_in y 50 1 fun n => .inl (zsm (sp_it P S n 8) (pnb P) - zsm (S 8) (pnb P))
def q_owing (P : zP) (S : zS) (y : Int32) : Int32 ⊕ Nat := q_in y 50 1 fun n => .inl (zbst (sp_it P S n 7) (pnb P)).1
section L16c
variable {K : zKd} {F : zFd} {I : zId} {a N : Nat} {P : zP} {X : zXd}
/-- the component's years ahead -/
theorem F_ahead_ok (h : zCQ K F I a N P X) (hp : pInv P) (hi : sInv P (zcv (pnf P) (pnb P) I 1014)) {n : Nat} (hn : n < 2147483648) : ∃ J, F_X1_goesBy K F 1000 (nI n) (zlk I 1847 1014) = some J ∧ zcv (pnf P) (pnb P) J 1847 = sp_it P (zcv (pnf P) (pnb P) I 1014) n ∧ zcf a I J := by
  obtain ⟨h1, h2⟩ := F_tl_ok h
  have e : zcv (pnf P) (pnb P) (zlk I 1847 1014) 1847 = zcv (pnf P) (pnb P) I 1014 := zlk_cv hp.1 hp.2.1 (by decide)
  obtain ⟨J, g1, g2, g3⟩ := F_goesBy_ok (h.cf h2) hp (by rw [e]; exact hi) hn
  exact ⟨J, g1, by rw [g2, e], h2.tr g3⟩
theorem zcf.now {I' : zId} (h : zCQ K F I a N P X) (e : zcf a I I') : zcv (pnf P) (pnb P) I' 1014 = zcv (pnf P) (pnb P) I 1014 := by
  have hd := h.2.2.2.2.2.2
  exact zcv_row fun x h1 h2 => e.row fun k => zcsc_no (by omega) (by omega) (by omega)
theorem F_then_ok (h : zCQ K F I a N P X) (hp : pInv P) (hi : sInv P (zcv (pnf P) (pnb P) I 1014)) (x y : Int32) : ∃ J, F_X1_then K F 1000 x y I = some (qC (q_then P (zcv (pnf P) (pnb P) I 1014) x y), J) ∧ zcf a I J := by
  have hnf := hp.1
  obtain ⟨h1, h2⟩ := F_tl_ok h
  have h0 := h
  obtain ⟨k0, ⟨f0, -, -, f3, f4, -⟩, -, ⟨hN, hT⟩, -⟩ := h
  unfold q_then
  rcases zir_cases x (n := pnf P) (by omega) with ⟨f, hf, rfl⟩ | hx
  · rw [q_fa_ok hf (by omega)]
    obtain ⟨o, ho, -⟩ := F_forestAt_ok h0 hp hf
    rcases zib_cases y 50 (by decide) with ⟨n, hn, rfl⟩ | ⟨hy, hy2⟩
    · rw [q_in_ok hn (by decide)]
      obtain ⟨J, g1, g2, g3⟩ := F_ahead_ok h0 hp hi (n := n) (by omega)
      refine ⟨J, ?_, g3⟩
      have hw : F_X1_within K F (nI n) 0 50 I = some 1 := by rw [F_within_ok]; exact congrArg some (zib_nI hn (by decide))
      have e1 : J 1848 f = sp_it P (zcv (pnf P) (pnb P) I 1014) n 0 f := by rw [← g2]; exact (zcv0 hf).symm
      simp only [F_X1_then, ↓zka_eq k0, ho, zb2_e, zsum, zb1_e, hw, F_right_1, decide_eq_true (show 600 ≤ 1000 by decide), zg_true, f3, f4, ↓zka_eq hT.2.1, h1, g1, decide_eq_true (show 600 ≤ 1847 by decide), hT.2.2.1.1, ↓zka_eq hT.2.2.2.1, zin_n (show f < 8 by omega), nI_c (show f < 2147483648 by omega), qC]
      rw [e1]
    · rw [q_in_no hy2]
      refine ⟨I, ?_, zcf.rf⟩
      have hw : F_X1_within K F y 0 50 I = some 0 := by rw [F_within_ok]; exact congrArg some hy
      simp only [F_X1_then, ↓zka_eq k0, ho, zb2_e, zsum, zb1_e, hw, F_right_0, qC]
      rfl
  · rw [q_fa_no hx]
    refine ⟨I, ?_, zcf.rf⟩
    simp only [F_X1_then, ↓zka_eq k0, F_forestAt_no h0 hx, zb2_e, zsum, qC]
    rfl
theorem F_paid_ok (h : zCQ K F I a N P X) (hp : pInv P) (hi : sInv P (zcv (pnf P) (pnb P) I 1014)) (y w : Int32) : ∃ J, F_X1_paid K F 1000 y w I = some (qC (q_paid P (zcv (pnf P) (pnb P) I 1014) y w), J) ∧ zcf a I J := by
  obtain ⟨h1, h2⟩ := F_tl_ok h
  have h0 := h
  obtain ⟨k0, ⟨f0, -, -, f3, f4, -⟩, -, ⟨hN, hT⟩, -⟩ := h
  unfold q_paid
  rcases zib_cases w 1 (by decide) with ⟨w, hw, rfl⟩ | ⟨hw, hw2⟩
  · rw [q_in_ok hw (by decide)]
    have ew : F_X1_within K F (nI w) 0 1 I = some 1 := by rw [F_within_ok]; exact congrArg some (zib_nI hw (by decide))
    rcases zib_cases y 50 (by decide) with ⟨n, hn, rfl⟩ | ⟨hy, hy2⟩
    · rw [q_in_ok hn (by decide)]
      obtain ⟨J, g1, g2, g3⟩ := F_ahead_ok h0 hp hi (n := n) (by omega)
      refine ⟨J, ?_, g3⟩
      have hw' : F_X1_within K F (nI n) 0 50 I = some 1 := by rw [F_within_ok]; exact congrArg some (zib_nI hn (by decide))
      have e1 : J 1847 10 = sp_it P (zcv (pnf P) (pnb P) I 1014) n 9 1 := by rw [← g2]; rfl
      have e2 : J 1847 11 = sp_it P (zcv (pnf P) (pnb P) I 1014) n 9 2 := by rw [← g2]; rfl
      have e3 : J 1014 10 = zcv (pnf P) (pnb P) I 1014 9 1 := by rw [← g3.now h0]; rfl
      have e4 : J 1014 11 = zcv (pnf P) (pnb P) I 1014 9 2 := by rw [← g3.now h0]; rfl
      have hw0 : (nI w = 0) ↔ w = 0 := nI_eq (b := 0) (by omega) (by omega)
      simp only [F_X1_paid, ↓zka_eq k0, zb2_e, zsum, zb1_e, ew, hw', F_there_1, F_right_1, decide_eq_true (show 600 ≤ 1000 by decide), zg_true, f3, f4, ↓zka_eq hT.2.1, ↓zka_eq hN.2.1, h1, g1, decide_eq_true (show 600 ≤ 1847 by decide), decide_eq_true (show 600 ≤ 1014 by decide), qC, e1, e2, e3, e4, hw0]
      by_cases c : w = 0
      · rw [if_neg (fun h => h c), if_pos c]
      · rw [if_pos c, if_neg c]
    · rw [q_in_no hy2]
      refine ⟨I, ?_, zcf.rf⟩
      have hw' : F_X1_within K F y 0 50 I = some 0 := by rw [F_within_ok]; exact congrArg some hy
      simp only [F_X1_paid, zb2_e, zsum, zb1_e, ew, F_there_1, hw', F_right_0, qC]
      rfl
  · rw [q_in_no hw2]
    refine ⟨I, ?_, zcf.rf⟩
    have ew : F_X1_within K F w 0 1 I = some 0 := by rw [F_within_ok]; exact congrArg some hw
    simp only [F_X1_paid, zb2_e, zsum, zb1_e, ew, F_there_0, qC]
    rfl
theorem F_allDead_ok {o nb nf : Nat} {J : zId} (hS : zSL K F o) (hb : nb ≤ 6) : F_X6_allDead K F o (nI nb) J = some (zsm (zcv nf nb J o 8) nb) := by
  have s := zloop_up (body := fun s : Int32 × Int32 => F_X6_allDead_L4 K F o (nI nb) J s.1 s.2) (fun i s => s = (zsm (zcv nf nb J o 8) i, nI i)) (fun t => t = zsm (zcv nf nb J o 8) nb) nb ?_ ?_ 0 (0, 0) (Nat.zero_le _) rfl
  · obtain ⟨t, h1, rfl⟩ := s
    simp only [F_X6_allDead, h1, zb1_e]
  · obtain ⟨h6, k0, ⟨f0, f1, f2, f3, f4, f5, f6, f7, f8⟩, k1, k2, k3, k4, k5, k6, k7, k8, k9⟩ := hS
    rintro i s hib rfl
    refine Or.inl ⟨(zsm (zcv nf nb J o 8) (i + 1), nI (i + 1)), ?_, rfl⟩
    dsimp only
    simp only [F_X6_allDead_L4, if_neg (nI_ge hib (show nb < 2 ^ 31 by omega)), ↓zka_eq k0, decide_eq_true h6, zg_true, f8, zb1_e, ↓zka_eq k9, zin_n (show i < 6 by omega), nI_c (show i < 2147483648 by omega), zlet_e, nI_1, zsm, zcv8 hib]
  · rintro s rfl
    dsimp only
    simp only [F_X6_allDead_L4, if_pos (nI_le (Nat.le_refl _) (show nb < 2 ^ 31 by omega))]
    exact ⟨_, rfl, rfl⟩
theorem F_host_ok (h : zCQ K F I a N P X) (hp : pInv P) (hi : sInv P (zcv (pnf P) (pnb P) I 1014)) (y : Int32) : ∃ J, F_X1_hostages K F 1000 y I = some (qC' (q_host P (zcv (pnf P) (pnb P) I 1014) y), J) ∧ zcf a I J := by
  obtain ⟨h1, h2⟩ := F_tl_ok h
  have h0 := h
  obtain ⟨k0, ⟨f0, -, -, f3, f4, -⟩, -, ⟨hN, hT⟩, -⟩ := h
  unfold q_host
  rcases zib_cases y 50 (by decide) with ⟨n, hn, rfl⟩ | ⟨hy, hy2⟩
  · rw [q_in_ok hn (by decide)]
    obtain ⟨J, g1, g2, g3⟩ := F_ahead_ok h0 hp hi (n := n) (by omega)
    refine ⟨J, ?_, g3⟩
    have hw' : F_X1_within K F (nI n) 0 50 I = some 1 := by rw [F_within_ok]; exact congrArg some (zib_nI hn (by decide))
    have hb := F_bands_ok (h0.cf g3)
    have d1 := F_allDead_ok (nf := pnf P) (J := J) hT hp.2.1
    have d2 := F_allDead_ok (nf := pnf P) (J := J) hN hp.2.1
    rw [g2] at d1
    rw [g3.now h0] at d2
    simp only [F_X1_hostages, ↓zka_eq k0, zb2_e, zsum, zb1_e, hw', F_right_1, decide_eq_true (show 600 ≤ 1000 by decide), zg_true, f3, f4, ↓zka_eq hT.2.1, ↓zka_eq hN.2.1, h1, g1, hb, d1, d2, qC']
  · rw [q_in_no hy2]
    refine ⟨I, ?_, zcf.rf⟩
    have hw' : F_X1_within K F y 0 50 I = some 0 := by rw [F_within_ok]; exact congrArg some hy
    simp only [F_X1_hostages, zb2_e, zsum, zb1_e, hw', F_right_0, qC']
theorem zbst_1 {v : Nat → Int32} : ∀ n, n < 1000 → ((zbst v n).1 = -1 ∧ (zbst v n).2 = 0) ∨ ∃ i, i < n ∧ zbst v n = (nI i, v i)
  | 0, _ => Or.inl ⟨rfl, rfl⟩
  | n + 1, h => by
    rw [zbst]
    split
    · exact (zbst_1 n (by omega)).imp id fun ⟨i, h1, h2⟩ => ⟨i, by omega, h2⟩
    · exact Or.inr ⟨n, by omega, rfl⟩
theorem nI_m1 {i : Nat} (h : i < 2147483647) : ¬ nI i = -1 := fun e => by
  have := congrArg Int32.toInt e
  rw [nI_toInt (by omega)] at this
  have e1 : ((-1 : Int32)).toInt = -1 := rfl
  omega
theorem F_owing_ok (h : zCQ K F I a N P X) (hp : pInv P) (hi : sInv P (zcv (pnf P) (pnb P) I 1014)) (y : Int32) : ∃ J, F_X1_owing K F 1000 y I = some (qC' (q_owing P (zcv (pnf P) (pnb P) I 1014) y), J) ∧ zcf a I J := by
  obtain ⟨h1, h2⟩ := F_tl_ok h
  have h0 := h
  have hnb := hp.2.1
  obtain ⟨k0, ⟨f0, -, -, f3, f4, -⟩, -, ⟨hN, hT⟩, -⟩ := h
  unfold q_owing
  rcases zib_cases y 50 (by decide) with ⟨n, hn, rfl⟩ | ⟨hy, hy2⟩
  · rw [q_in_ok hn (by decide)]
    obtain ⟨J, g1, g2, g3⟩ := F_ahead_ok h0 hp hi (n := n) (by omega)
    refine ⟨J, ?_, g3⟩
    have hw' : F_X1_within K F (nI n) 0 50 I = some 1 := by rw [F_within_ok]; exact congrArg some (zib_nI hn (by decide))
    have hb := F_bands_ok (h0.cf g3)
    have hv : ∀ i, i < pnb P → J 1855 i = sp_it P (zcv (pnf P) (pnb P) I 1014) n 7 i := fun i hib => by rw [← g2]; exact (zcv7 hib).symm
    generalize sp_it P (zcv (pnf P) (pnb P) I 1014) n 7 = v at hv
    have s := zloop_up (body := fun s : Int32 × Int32 => F_X1_owing_L30 K F 1000 J s.1 s.2) (fun i s => s = ((zbst v i).1, nI i)) (fun t => t = (zbst v (pnb P)).1) (pnb P) ?_ ?_ 0 (-1, 0) (Nat.zero_le _) rfl
    · obtain ⟨t, s1, rfl⟩ := s
      simp only [F_X1_owing, ↓zka_eq k0, zb2_e, zsum, zb1_e, hw', F_right_1, decide_eq_true (show 600 ≤ 1000 by decide), zg_true, f3, f4, ↓zka_eq hT.2.1, ↓zka_eq hN.2.1, h1, g1, s1, qC']
    · rintro i s hib rfl
      dsimp only
      refine Or.inl ⟨((zbst v (i + 1)).1, nI (i + 1)), ?_, rfl⟩
      have hf7 := hT.2.2.1.2.2.2.2.2.2.2.1
      have hk8 := hT.2.2.2.2.2.2.2.2.2.2.1
      simp only [F_X1_owing_L30, ↓zka_eq k0, hb, zb1_e, if_neg (nI_ge hib (show pnb P < 2 ^ 31 by omega)), decide_eq_true (show 600 ≤ 1000 by decide), zg_true, f4, ↓zka_eq hT.2.1, decide_eq_true (show 600 ≤ 1847 by decide), hf7, ↓zka_eq hk8, zin_n (show i < 6 by omega), zlet_e, nI_c (show i < 2147483648 by omega), nI_1, hv i hib]
      rcases zbst_1 (v := v) i (by omega) with ⟨e1, e2⟩ | ⟨j, hj, e⟩
      · rw [e1, if_neg (fun h => h rfl), zbst, e2]
        by_cases c : v i ≤ 0
        · rw [if_pos c, if_pos c, e1]
        · rw [if_neg c, if_neg c]
      · rw [zbst, e]
        dsimp only
        rw [if_pos (nI_m1 (by omega)), zin_n (show j < 6 by omega), nI_c (show j < 2147483648 by omega), hv j (by omega), zg_true]
        by_cases c : v i ≤ v j
        · rw [if_pos c, if_pos c]
        · rw [if_neg c, if_neg c]
    · rintro s rfl
      dsimp only
      simp only [F_X1_owing_L30, ↓zka_eq k0, hb, zb1_e, if_pos (nI_le (Nat.le_refl _) (show pnb P < 2 ^ 31 by omega))]
      exact ⟨_, rfl, rfl⟩
  · rw [q_in_no hy2]
    refine ⟨I, ?_, zcf.rf⟩
    have hw' : F_X1_within K F y 0 50 I = some 0 := by rw [F_within_ok]; exact congrArg some hy
    simp only [F_X1_owing, zb2_e, zsum, zb1_e, hw', F_right_0, qC']
end L16c
