/-! L53: the law's calls, one by one (printed by mkops.py) -/
def zOK (Ln : Nat) (nf : Nat → Bool) (xs : Nat → Int32) (v : Nat) (r : Option ((Nat × Nat) × ((Int32 × zSt) ⊕ (zSt ⊕ (Int32 × zSt))))) : Prop := ∃ c1 c2 h', r = some ((c1, c2), .inl (nI (v + 6), h')) ∧ zWI Ln nf xs h' ∧ c1 ≤ 18000 ∧ c2 ≤ 85000
theorem zOK_ite {Ln : Nat} {nf : Nat → Bool} {xs : Nat → Int32} {v : Nat} {p : Prop} [Decidable p] {x y : Option ((Nat × Nat) × ((Int32 × zSt) ⊕ (zSt ⊕ (Int32 × zSt))))} (h1 : p → zOK Ln nf xs v x) (h2 : ¬ p → zOK Ln nf xs v y) : zOK Ln nf xs v (if p then x else y) := by
  by_cases c : p
  · rw [if_pos c]; exact h1 c
  · rw [if_neg c]; exact h2 c
theorem zMok_k {K : zKd} {F : zFd} (h : zMok K F = true) : K 1860 = some (6, 0) := by
  unfold zMok at h
  rw [Bool.and_eq_true, decide_eq_true_eq] at h
  exact h.1
theorem nI_p4 (a : Nat) : nI a + 4 = nI (a + 4) := nI_add a 4
theorem nI_p5 (a : Nat) : nI a + 5 = nI (a + 5) := nI_add a 5
theorem n20 : ¬ (2 : Int32) = 0 := by decide
theorem eq_t {α : Type} (x : α) : (x = x) = True := eq_true rfl
theorem zCB.csp {K : zKd} {F : zFd} {I : zId} {a N : Nat} {P : zP} {X : zXd} {b : zBk} (h : zCB K F I a N P X b) : zCSp K F I (bSp b) := by
  obtain ⟨c1, c2, c3, ⟨o', c4, c5⟩, c6, c7⟩ := h
  exact ⟨⟨c3.2.1, c3.2.2.1.2.2.1, c3.2.2.1.2.2.2.1, c3.2.2.1.2.2.2.2.1, c3.2.2.2.2.2.1.1, c3.2.2.2.2.2.1.2.1, c3.2.2.2.2.2.1.2.2.1⟩, c5.2.2.2.2.1⟩
theorem zCW.ct {K : zKd} {F : zFd} {I : zId} {a N : Nat} {P : zP} {X : zXd} {b : zBk} {m : Bool × zBk} {t : zTp} {ft : Int32} (h : zCW K F I a N P X b m t ft) : (K 1013 = some (4, 0) ∧ F 1013 5 = some 1029 ∧ K 1029 = some (64, 3)) ∧ I 1013 6 = nI (bA b) ∧ I 1013 7 = nI (bSp b).1 ∧ I 1000 7 = nI t.1 ∧ ∀ i, i < 3 → I 1029 i = bR b i := by
  obtain ⟨⟨c1, c2, c3, ⟨o', c4, c5⟩, c6, c7⟩, -, -, -, -, h7, -⟩ := h
  exact ⟨⟨c3.2.1, c3.2.2.1.2.2.2.2.2, c3.2.2.2.2.2.1.2.2.2⟩, c5.2.2.1.1, c5.2.2.2.2.1.1, h7.1, c5.2.2.2.2.2⟩
theorem zMW.ct {I : zId} {P : zP} {X : zXd} {b : zBk} {m : Bool × zBk} {t : zTp} {ft : Int32} (h : zMW I P X b m t ft) : I 1860 37 = nI (bA b) ∧ I 1860 38 = nI (bSp b).1 ∧ I 1860 15 = nI t.1 ∧ ∀ i, i < 3 → I 1873 i = bR b i := ⟨h.1.2.2.1, h.1.2.2.2.2.1.1, h.2.2.1.1, h.1.2.2.2.2.2⟩
section L53
variable {K : zKd} {F : zFd} {I : zId} {L : zLd} {n Ln v : Nat} {nf : Nat → Bool} {xs : Nat → Int32}
set_option maxHeartbeats 1000000 in
theorem L_op3 (h : zWI Ln nf xs (n, K, F, I, L)) (hv : v + 6 ≤ Ln) (hLn : Ln ≤ 384) : zOK Ln nf xs v (zg (zin (nI v + 1) Ln) (zc1 (F_X0_count 1000 ((hI ((n, K, F, I, L) : zSt)) 25 ((nI v + 1).toNatClampNeg)) 1902 ((n, K, F, I, L) : zSt)) (fun c_102 => zn2 (fun x_100 h_101 => zpay c_102 (zka (hK h_101) 25 64 (fun n_104 => zg (zin (nI v + 1) n_104) (zg (zMok (hK h_101) (jF h_101)) (zka (hK h_101) 1860 6 (fun n_108 => zb2 (F_X7_count ((hI h_101) 25 ((nI v + 1).toNatClampNeg)) (hI h_101)) (fun x_111 I_112 => zlet (zsFI h_101 (jF h_101) I_112) (fun h_113 => zg (zMok (hK h_113) (jF h_113)) (zka (hK h_113) 1860 6 (fun n_116 => zb1 (F_X7_thrown (hI h_113)) (fun x_119 => if x_119 = x_100 then if ¬ x_100 = 0 then zlet (nI v + 6) (fun v4_120 => some ((0, 0), .inl (v4_120, h_113))) else zka (hK h_113) 1902 67 (fun n_122 => zg (zin 0 n_122) (if (lg_cmp ((hL h_113) 1902 0) x_111.toInt64) = 0 then zlet (nI v + 6) (fun v4_125 => some ((0, 0), .inl (v4_125, h_113))) else some ((0, 0), .inr (.inr (0, h_113))))) else some ((0, 0), .inr (.inr (0, h_113))))))))))))))))) := by
  obtain ⟨a, N, P, X, b, m, t, ft, hx, hg, hN', ht, hc, hm⟩ := h
  dsimp only [hN, hK, jF, hI] at hg hN' hc hm
  have k25 : K 25 = some (64, Ln) := (hg.1 25 (by decide)).1
  have k0 := hc.1.1.1
  have k2 := hg.2.2.2.1
  have hMok := hg.2.2.2.2
  have k60 := zMok_k hMok
  obtain ⟨hp, hX, hw, hD⟩ := id hx
  have hi : sInv P (zcv (pnf P) (pnb P) I 1014) := by rw [hc.1.now]; exact hc.1.si
  have A := F_count_ok hc.1.1 hp hi (zCW.ct hc) (T := (nI (bA b), nI (bSp b).1, nI t.1, bR b)) (I 25 (v + 1))
  rw [hc.1.now] at A
  obtain ⟨J, e1, e2⟩ : ∃ J, F_X1_count K F 1000 (I 25 (v + 1)) I = some (qC (q_count P X (bS b) (nI (bA b), nI (bSp b).1, nI t.1, bR b) (I 25 (v + 1))), J) ∧ zcf a I J := ⟨I, A, zcf.rf⟩
  obtain ⟨o1, o2⟩ := e2.off hc.d
  have r25 : J 25 = I 25 := o2 25 (by decide)
  have hm' := hm.off hp o1
  have hi7 : sInv P (zmv2 (pnf P) (pnb P) J) := by rw [hm'.1.2.1]; exact hc.1.si
  have B := F7_count_ok hm'.1.1 hp hi7 (zMW.ct hm') (T := (nI (bA b), nI (bSp b).1, nI t.1, bR b)) (I 25 (v + 1))
  rw [hm'.1.2.1] at B
  obtain ⟨J2, f1, f2, f3, f4⟩ := B
  have hq : q1 (q_count P X (bS b) (nI (bA b), nI (bSp b).1, nI t.1, bR b) (I 25 (v + 1))) := by
    unfold q_count
    repeat' (first | exact q1_l | exact q1_r | (apply q1_fa; intro _) | (apply q1_in; intro _) | split)
  have C := F_X0_count_c (n := n) (L := L) (I 25 (v + 1)) k0 k2 hq e1
  have hW : zWI Ln nf xs (n, K, F, J2, qL L (q_count P X (bS b) (nI (bA b), nI (bSp b).1, nI t.1, bR b) (I 25 (v + 1)))) := zWI_q hx hg hN' ht hc hm e2 f4 (f3.trans hm'.1.2.1.symm)
  generalize q_count P X (bS b) (nI (bA b), nI (bSp b).1, nI t.1, bR b) (I 25 (v + 1)) = q at C f1 f2 hq hW
  cases q with
  | inl r =>
    refine ⟨0, 0, _, ?_, hW, by decide, by decide⟩
    dsimp only [qE] at f2
    simp only [hK, jF, hI, hN, hL, zsFI, zsI, zsF, nI_1, nI_p2, nI_p3, nI_p4, nI_p5, nI_p6, zc1_e, zn2, zpay_1, zpay_0, zpay_e, zb1_e, zb2_e, zg_true, zlet_e, ↓zka_eq k25, ↓zka_eq k60, ↓zka_eq k0, ↓zka_eq k2, hMok, F_X7_thrown, ↓reduceIte, eq_t, zin_0, lg_cmp_0, zu_same, not_true_eq_false, not_false_eq_true, Nat.add_zero, Nat.zero_add, zin_n (show v + 1 < Ln by omega) (show Ln < 2 ^ 31 by omega), nI_c (show v + 1 < 2147483648 by omega), C, qcc, qE, qL, r25, f1, f2, qV]
  | inr c =>
    refine ⟨1, 6, _, ?_, hW, by decide, by decide⟩
    obtain rfl := hq c rfl
    have f2' : J2 1860 1 = 1 := f2
    have e9 : qE (.inr 1) = 1 := rfl
    simp only [hK, jF, hI, hN, hL, zsFI, zsI, zsF, nI_1, nI_p2, nI_p3, nI_p4, nI_p5, nI_p6, zc1_e, zn2, zpay_1, zpay_0, zpay_e, zb1_e, zb2_e, zg_true, zlet_e, ↓zka_eq k25, ↓zka_eq k60, ↓zka_eq k0, ↓zka_eq k2, hMok, F_X7_thrown, ↓reduceIte, eq_t, zin_0, lg_cmp_0, zu_same, not_true_eq_false, not_false_eq_true, Nat.add_zero, Nat.zero_add, zin_n (show v + 1 < Ln by omega) (show Ln < 2 ^ 31 by omega), nI_c (show v + 1 < 2147483648 by omega), C, qcc, e9, qL, r25, f1, f2', qV, n10]
set_option maxHeartbeats 1000000 in
theorem L_op4 (h : zWI Ln nf xs (n, K, F, I, L)) (hv : v + 6 ≤ Ln) (hLn : Ln ≤ 384) : zOK Ln nf xs v (zg (zin (nI v + 1) Ln) (zg (zin (nI v + 2) Ln) (zc1 (F_X0_forest 1000 ((hI ((n, K, F, I, L) : zSt)) 25 ((nI v + 1).toNatClampNeg)) ((hI ((n, K, F, I, L) : zSt)) 25 ((nI v + 2).toNatClampNeg)) 1902 ((n, K, F, I, L) : zSt)) (fun c_132 => zn2 (fun x_130 h_131 => zpay c_132 (zka (hK h_131) 25 64 (fun n_134 => zg (zin (nI v + 1) n_134) (zg (zin (nI v + 2) n_134) (zg (zMok (hK h_131) (jF h_131)) (zka (hK h_131) 1860 6 (fun n_139 => zb2 (F_X7_forest ((hI h_131) 25 ((nI v + 1).toNatClampNeg)) ((hI h_131) 25 ((nI v + 2).toNatClampNeg)) (hI h_131)) (fun x_142 I_143 => zlet (zsFI h_131 (jF h_131) I_143) (fun h_144 => zg (zMok (hK h_144) (jF h_144)) (zka (hK h_144) 1860 6 (fun n_147 => zb1 (F_X7_thrown (hI h_144)) (fun x_150 => if x_150 = x_130 then if ¬ x_130 = 0 then zlet (nI v + 6) (fun v4_151 => some ((0, 0), .inl (v4_151, h_144))) else zka (hK h_144) 1902 67 (fun n_153 => zg (zin 0 n_153) (if (lg_cmp ((hL h_144) 1902 0) x_142.toInt64) = 0 then zlet (nI v + 6) (fun v4_156 => some ((0, 0), .inl (v4_156, h_144))) else some ((0, 0), .inr (.inr (0, h_144))))) else some ((0, 0), .inr (.inr (0, h_144))))))))))))))))))) := by
  obtain ⟨a, N, P, X, b, m, t, ft, hx, hg, hN', ht, hc, hm⟩ := h
  dsimp only [hN, hK, jF, hI] at hg hN' hc hm
  have k25 : K 25 = some (64, Ln) := (hg.1 25 (by decide)).1
  have k0 := hc.1.1.1
  have k2 := hg.2.2.2.1
  have hMok := hg.2.2.2.2
  have k60 := zMok_k hMok
  obtain ⟨hp, hX, hw, hD⟩ := id hx
  have hi : sInv P (zcv (pnf P) (pnb P) I 1014) := by rw [hc.1.now]; exact hc.1.si
  have A := F_forest_ok hc.1.1 hp hi (I 25 (v + 1)) (I 25 (v + 2))
  rw [hc.1.now] at A
  obtain ⟨J, e1, e2⟩ : ∃ J, F_X1_forest K F 1000 (I 25 (v + 1)) (I 25 (v + 2)) I = some (qC (q_forest P X (bS b) (I 25 (v + 1)) (I 25 (v + 2))), J) ∧ zcf a I J := ⟨I, A, zcf.rf⟩
  obtain ⟨o1, o2⟩ := e2.off hc.d
  have r25 : J 25 = I 25 := o2 25 (by decide)
  have hm' := hm.off hp o1
  have hi7 : sInv P (zmv2 (pnf P) (pnb P) J) := by rw [hm'.1.2.1]; exact hc.1.si
  have B := F7_forest_ok hm'.1.1 hp hi7 (I 25 (v + 1)) (I 25 (v + 2))
  rw [hm'.1.2.1] at B
  obtain ⟨J2, f1, f2, f3, f4⟩ := B
  have hq : q1 (q_forest P X (bS b) (I 25 (v + 1)) (I 25 (v + 2))) := by
    unfold q_forest
    repeat' (first | exact q1_l | exact q1_r | (apply q1_fa; intro _) | (apply q1_in; intro _) | split)
  have C := F_X0_forest_c (n := n) (L := L) (I 25 (v + 1)) (I 25 (v + 2)) k0 k2 hq e1
  have hW : zWI Ln nf xs (n, K, F, J2, qL L (q_forest P X (bS b) (I 25 (v + 1)) (I 25 (v + 2)))) := zWI_q hx hg hN' ht hc hm e2 f4 (f3.trans hm'.1.2.1.symm)
  generalize q_forest P X (bS b) (I 25 (v + 1)) (I 25 (v + 2)) = q at C f1 f2 hq hW
  cases q with
  | inl r =>
    refine ⟨0, 0, _, ?_, hW, by decide, by decide⟩
    dsimp only [qE] at f2
    simp only [hK, jF, hI, hN, hL, zsFI, zsI, zsF, nI_1, nI_p2, nI_p3, nI_p4, nI_p5, nI_p6, zc1_e, zn2, zpay_1, zpay_0, zpay_e, zb1_e, zb2_e, zg_true, zlet_e, ↓zka_eq k25, ↓zka_eq k60, ↓zka_eq k0, ↓zka_eq k2, hMok, F_X7_thrown, ↓reduceIte, eq_t, zin_0, lg_cmp_0, zu_same, not_true_eq_false, not_false_eq_true, Nat.add_zero, Nat.zero_add, zin_n (show v + 1 < Ln by omega) (show Ln < 2 ^ 31 by omega), nI_c (show v + 1 < 2147483648 by omega), zin_n (show v + 2 < Ln by omega) (show Ln < 2 ^ 31 by omega), nI_c (show v + 2 < 2147483648 by omega), C, qcc, qE, qL, r25, f1, f2, qV]
  | inr c =>
    refine ⟨1, 6, _, ?_, hW, by decide, by decide⟩
    obtain rfl := hq c rfl
    have f2' : J2 1860 1 = 1 := f2
    have e9 : qE (.inr 1) = 1 := rfl
    simp only [hK, jF, hI, hN, hL, zsFI, zsI, zsF, nI_1, nI_p2, nI_p3, nI_p4, nI_p5, nI_p6, zc1_e, zn2, zpay_1, zpay_0, zpay_e, zb1_e, zb2_e, zg_true, zlet_e, ↓zka_eq k25, ↓zka_eq k60, ↓zka_eq k0, ↓zka_eq k2, hMok, F_X7_thrown, ↓reduceIte, eq_t, zin_0, lg_cmp_0, zu_same, not_true_eq_false, not_false_eq_true, Nat.add_zero, Nat.zero_add, zin_n (show v + 1 < Ln by omega) (show Ln < 2 ^ 31 by omega), nI_c (show v + 1 < 2147483648 by omega), zin_n (show v + 2 < Ln by omega) (show Ln < 2 ^ 31 by omega), nI_c (show v + 2 < 2147483648 by omega), C, qcc, e9, qL, r25, f1, f2', qV, n10]
set_option maxHeartbeats 1000000 in
theorem L_op5 (h : zWI Ln nf xs (n, K, F, I, L)) (hv : v + 6 ≤ Ln) (hLn : Ln ≤ 384) : zOK Ln nf xs v (zg (zin (nI v + 1) Ln) (zg (zin (nI v + 2) Ln) (zc1 (F_X0_band 1000 ((hI ((n, K, F, I, L) : zSt)) 25 ((nI v + 1).toNatClampNeg)) ((hI ((n, K, F, I, L) : zSt)) 25 ((nI v + 2).toNatClampNeg)) 1902 ((n, K, F, I, L) : zSt)) (fun c_163 => zn2 (fun x_161 h_162 => zpay c_163 (zka (hK h_162) 25 64 (fun n_165 => zg (zin (nI v + 1) n_165) (zg (zin (nI v + 2) n_165) (zg (zMok (hK h_162) (jF h_162)) (zka (hK h_162) 1860 6 (fun n_170 => zb2 (F_X7_band ((hI h_162) 25 ((nI v + 1).toNatClampNeg)) ((hI h_162) 25 ((nI v + 2).toNatClampNeg)) (hI h_162)) (fun x_173 I_174 => zlet (zsFI h_162 (jF h_162) I_174) (fun h_175 => zg (zMok (hK h_175) (jF h_175)) (zka (hK h_175) 1860 6 (fun n_178 => zb1 (F_X7_thrown (hI h_175)) (fun x_181 => if x_181 = x_161 then if ¬ x_161 = 0 then zlet (nI v + 6) (fun v4_182 => some ((0, 0), .inl (v4_182, h_175))) else zka (hK h_175) 1902 67 (fun n_184 => zg (zin 0 n_184) (if (lg_cmp ((hL h_175) 1902 0) x_173.toInt64) = 0 then zlet (nI v + 6) (fun v4_187 => some ((0, 0), .inl (v4_187, h_175))) else some ((0, 0), .inr (.inr (0, h_175))))) else some ((0, 0), .inr (.inr (0, h_175))))))))))))))))))) := by
  obtain ⟨a, N, P, X, b, m, t, ft, hx, hg, hN', ht, hc, hm⟩ := h
  dsimp only [hN, hK, jF, hI] at hg hN' hc hm
  have k25 : K 25 = some (64, Ln) := (hg.1 25 (by decide)).1
  have k0 := hc.1.1.1
  have k2 := hg.2.2.2.1
  have hMok := hg.2.2.2.2
  have k60 := zMok_k hMok
  obtain ⟨hp, hX, hw, hD⟩ := id hx
  have hi : sInv P (zcv (pnf P) (pnb P) I 1014) := by rw [hc.1.now]; exact hc.1.si
  have A := F_band_ok hc.1.1 hp hi (I 25 (v + 1)) (I 25 (v + 2))
  rw [hc.1.now] at A
  obtain ⟨J, e1, e2⟩ := A
  obtain ⟨o1, o2⟩ := e2.off hc.d
  have r25 : J 25 = I 25 := o2 25 (by decide)
  have hm' := hm.off hp o1
  have hi7 : sInv P (zmv2 (pnf P) (pnb P) J) := by rw [hm'.1.2.1]; exact hc.1.si
  have B := F7_band_ok hm'.1.1 hp hi7 (I 25 (v + 1)) (I 25 (v + 2))
  rw [hm'.1.2.1] at B
  obtain ⟨J2, f1, f2, f3, f4⟩ := B
  have hq : q1 (q_band P (bS b) (I 25 (v + 1)) (I 25 (v + 2))) := by
    unfold q_band
    repeat' (first | exact q1_l | exact q1_r | (apply q1_fa; intro _) | (apply q1_in; intro _) | split)
  have C := F_X0_band_c (n := n) (L := L) (I 25 (v + 1)) (I 25 (v + 2)) k0 k2 hq e1
  have hW : zWI Ln nf xs (n, K, F, J2, qL L (q_band P (bS b) (I 25 (v + 1)) (I 25 (v + 2)))) := zWI_q hx hg hN' ht hc hm e2 f4 (f3.trans hm'.1.2.1.symm)
  generalize q_band P (bS b) (I 25 (v + 1)) (I 25 (v + 2)) = q at C f1 f2 hq hW
  cases q with
  | inl r =>
    refine ⟨0, 0, _, ?_, hW, by decide, by decide⟩
    dsimp only [qE] at f2
    simp only [hK, jF, hI, hN, hL, zsFI, zsI, zsF, nI_1, nI_p2, nI_p3, nI_p4, nI_p5, nI_p6, zc1_e, zn2, zpay_1, zpay_0, zpay_e, zb1_e, zb2_e, zg_true, zlet_e, ↓zka_eq k25, ↓zka_eq k60, ↓zka_eq k0, ↓zka_eq k2, hMok, F_X7_thrown, ↓reduceIte, eq_t, zin_0, lg_cmp_0, zu_same, not_true_eq_false, not_false_eq_true, Nat.add_zero, Nat.zero_add, zin_n (show v + 1 < Ln by omega) (show Ln < 2 ^ 31 by omega), nI_c (show v + 1 < 2147483648 by omega), zin_n (show v + 2 < Ln by omega) (show Ln < 2 ^ 31 by omega), nI_c (show v + 2 < 2147483648 by omega), C, qcc, qE, qL, r25, f1, f2, qV]
  | inr c =>
    refine ⟨1, 6, _, ?_, hW, by decide, by decide⟩
    obtain rfl := hq c rfl
    have f2' : J2 1860 1 = 1 := f2
    have e9 : qE (.inr 1) = 1 := rfl
    simp only [hK, jF, hI, hN, hL, zsFI, zsI, zsF, nI_1, nI_p2, nI_p3, nI_p4, nI_p5, nI_p6, zc1_e, zn2, zpay_1, zpay_0, zpay_e, zb1_e, zb2_e, zg_true, zlet_e, ↓zka_eq k25, ↓zka_eq k60, ↓zka_eq k0, ↓zka_eq k2, hMok, F_X7_thrown, ↓reduceIte, eq_t, zin_0, lg_cmp_0, zu_same, not_true_eq_false, not_false_eq_true, Nat.add_zero, Nat.zero_add, zin_n (show v + 1 < Ln by omega) (show Ln < 2 ^ 31 by omega), nI_c (show v + 1 < 2147483648 by omega), zin_n (show v + 2 < Ln by omega) (show Ln < 2 ^ 31 by omega), nI_c (show v + 2 < 2147483648 by omega), C, qcc, e9, qL, r25, f1, f2', qV, n10]
set_option maxHeartbeats 1000000 in
theorem L_op13 (h : zWI Ln nf xs (n, K, F, I, L)) (hv : v + 6 ≤ Ln) (hLn : Ln ≤ 384) : zOK Ln nf xs v (zg (zin (nI v + 1) Ln) (zg (zin (nI v + 2) Ln) (zc1 (F_X0_then 1000 ((hI ((n, K, F, I, L) : zSt)) 25 ((nI v + 1).toNatClampNeg)) ((hI ((n, K, F, I, L) : zSt)) 25 ((nI v + 2).toNatClampNeg)) 1902 ((n, K, F, I, L) : zSt)) (fun c_385 => zn2 (fun x_383 h_384 => zpay c_385 (zka (hK h_384) 25 64 (fun n_387 => zg (zin (nI v + 1) n_387) (zg (zin (nI v + 2) n_387) (zg (zMok (hK h_384) (jF h_384)) (zka (hK h_384) 1860 6 (fun n_392 => zb2 (F_X7_then ((hI h_384) 25 ((nI v + 1).toNatClampNeg)) ((hI h_384) 25 ((nI v + 2).toNatClampNeg)) (hI h_384)) (fun x_395 I_396 => zlet (zsFI h_384 (jF h_384) I_396) (fun h_397 => zg (zMok (hK h_397) (jF h_397)) (zka (hK h_397) 1860 6 (fun n_400 => zb1 (F_X7_thrown (hI h_397)) (fun x_403 => if x_403 = x_383 then if ¬ x_383 = 0 then zlet (nI v + 6) (fun v4_404 => some ((0, 0), .inl (v4_404, h_397))) else zka (hK h_397) 1902 67 (fun n_406 => zg (zin 0 n_406) (if (lg_cmp ((hL h_397) 1902 0) x_395.toInt64) = 0 then zlet (nI v + 6) (fun v4_409 => some ((0, 0), .inl (v4_409, h_397))) else some ((0, 0), .inr (.inr (0, h_397))))) else some ((0, 0), .inr (.inr (0, h_397))))))))))))))))))) := by
  obtain ⟨a, N, P, X, b, m, t, ft, hx, hg, hN', ht, hc, hm⟩ := h
  dsimp only [hN, hK, jF, hI] at hg hN' hc hm
  have k25 : K 25 = some (64, Ln) := (hg.1 25 (by decide)).1
  have k0 := hc.1.1.1
  have k2 := hg.2.2.2.1
  have hMok := hg.2.2.2.2
  have k60 := zMok_k hMok
  obtain ⟨hp, hX, hw, hD⟩ := id hx
  have hi : sInv P (zcv (pnf P) (pnb P) I 1014) := by rw [hc.1.now]; exact hc.1.si
  have A := F_then_ok hc.1.1 hp hi (I 25 (v + 1)) (I 25 (v + 2))
  rw [hc.1.now] at A
  obtain ⟨J, e1, e2⟩ := A
  obtain ⟨o1, o2⟩ := e2.off hc.d
  have r25 : J 25 = I 25 := o2 25 (by decide)
  have hm' := hm.off hp o1
  have hi7 : sInv P (zmv2 (pnf P) (pnb P) J) := by rw [hm'.1.2.1]; exact hc.1.si
  have B := F7_then_ok hm'.1.1 hp hi7 (I 25 (v + 1)) (I 25 (v + 2))
  rw [hm'.1.2.1] at B
  obtain ⟨J2, f1, f2, f3, f4⟩ := B
  have hq : q12 (q_then P (bS b) (I 25 (v + 1)) (I 25 (v + 2))) := by
    unfold q_then
    repeat' (first | exact q12_l | exact q12_r1 | exact q12_r2 | (apply q12_fa; intro _) | (apply q12_in1; intro _) | (apply q12_in2; intro _) | (apply q12_i1; intro _) | split)
  have C := F_X0_then_c (n := n) (L := L) (I 25 (v + 1)) (I 25 (v + 2)) k0 k2 hq e1
  have hW : zWI Ln nf xs (n, K, F, J2, qL L (q_then P (bS b) (I 25 (v + 1)) (I 25 (v + 2)))) := zWI_q hx hg hN' ht hc hm e2 f4 (f3.trans hm'.1.2.1.symm)
  generalize q_then P (bS b) (I 25 (v + 1)) (I 25 (v + 2)) = q at C f1 f2 hq hW
  cases q with
  | inl r =>
    refine ⟨0, 0, _, ?_, hW, by decide, by decide⟩
    dsimp only [qE] at f2
    simp only [hK, jF, hI, hN, hL, zsFI, zsI, zsF, nI_1, nI_p2, nI_p3, nI_p4, nI_p5, nI_p6, zc1_e, zn2, zpay_1, zpay_0, zpay_e, zb1_e, zb2_e, zg_true, zlet_e, ↓zka_eq k25, ↓zka_eq k60, ↓zka_eq k0, ↓zka_eq k2, hMok, F_X7_thrown, ↓reduceIte, eq_t, zin_0, lg_cmp_0, zu_same, not_true_eq_false, not_false_eq_true, Nat.add_zero, Nat.zero_add, zin_n (show v + 1 < Ln by omega) (show Ln < 2 ^ 31 by omega), nI_c (show v + 1 < 2147483648 by omega), zin_n (show v + 2 < Ln by omega) (show Ln < 2 ^ 31 by omega), nI_c (show v + 2 < 2147483648 by omega), C, qcc, qE, qL, r25, f1, f2, qV]
  | inr c =>
    refine ⟨1, 6, _, ?_, hW, by decide, by decide⟩
    rcases hq c rfl with rfl | rfl
    · have f2' : J2 1860 1 = 1 := f2
      have e9 : qE (.inr 1) = 1 := rfl
      simp only [hK, jF, hI, hN, hL, zsFI, zsI, zsF, nI_1, nI_p2, nI_p3, nI_p4, nI_p5, nI_p6, zc1_e, zn2, zpay_1, zpay_0, zpay_e, zb1_e, zb2_e, zg_true, zlet_e, ↓zka_eq k25, ↓zka_eq k60, ↓zka_eq k0, ↓zka_eq k2, hMok, F_X7_thrown, ↓reduceIte, eq_t, zin_0, lg_cmp_0, zu_same, not_true_eq_false, not_false_eq_true, Nat.add_zero, Nat.zero_add, zin_n (show v + 1 < Ln by omega) (show Ln < 2 ^ 31 by omega), nI_c (show v + 1 < 2147483648 by omega), zin_n (show v + 2 < Ln by omega) (show Ln < 2 ^ 31 by omega), nI_c (show v + 2 < 2147483648 by omega), C, qcc, e9, qL, r25, f1, f2', qV, n10]
    · have f2' : J2 1860 1 = 2 := f2
      have e9 : qE (.inr 2) = 2 := rfl
      simp only [hK, jF, hI, hN, hL, zsFI, zsI, zsF, nI_1, nI_p2, nI_p3, nI_p4, nI_p5, nI_p6, zc1_e, zn2, zpay_1, zpay_0, zpay_e, zb1_e, zb2_e, zg_true, zlet_e, ↓zka_eq k25, ↓zka_eq k60, ↓zka_eq k0, ↓zka_eq k2, hMok, F_X7_thrown, ↓reduceIte, eq_t, zin_0, lg_cmp_0, zu_same, not_true_eq_false, not_false_eq_true, Nat.add_zero, Nat.zero_add, zin_n (show v + 1 < Ln by omega) (show Ln < 2 ^ 31 by omega), nI_c (show v + 1 < 2147483648 by omega), zin_n (show v + 2 < Ln by omega) (show Ln < 2 ^ 31 by omega), nI_c (show v + 2 < 2147483648 by omega), C, qcc, e9, qL, r25, f1, f2', qV, n20]
set_option maxHeartbeats 1000000 in
theorem L_op14 (h : zWI Ln nf xs (n, K, F, I, L)) (hv : v + 6 ≤ Ln) (hLn : Ln ≤ 384) : zOK Ln nf xs v (zg (zin (nI v + 1) Ln) (zc1 (F_X0_empty 1000 ((hI ((n, K, F, I, L) : zSt)) 25 ((nI v + 1).toNatClampNeg)) 1902 ((n, K, F, I, L) : zSt)) (fun c_415 => zn2 (fun x_413 h_414 => zpay c_415 (zka (hK h_414) 25 64 (fun n_417 => zg (zin (nI v + 1) n_417) (zg (zMok (hK h_414) (jF h_414)) (zka (hK h_414) 1860 6 (fun n_421 => zb2 (F_X7_empty ((hI h_414) 25 ((nI v + 1).toNatClampNeg)) (hI h_414)) (fun x_424 I_425 => zlet (zsFI h_414 (jF h_414) I_425) (fun h_426 => zg (zMok (hK h_426) (jF h_426)) (zka (hK h_426) 1860 6 (fun n_429 => zb1 (F_X7_thrown (hI h_426)) (fun x_432 => if x_432 = x_413 then if ¬ x_413 = 0 then zlet (nI v + 6) (fun v4_433 => some ((0, 0), .inl (v4_433, h_426))) else zka (hK h_426) 1902 67 (fun n_435 => zg (zin 0 n_435) (if (lg_cmp ((hL h_426) 1902 0) x_424.toInt64) = 0 then zlet (nI v + 6) (fun v4_438 => some ((0, 0), .inl (v4_438, h_426))) else some ((0, 0), .inr (.inr (0, h_426))))) else some ((0, 0), .inr (.inr (0, h_426))))))))))))))))) := by
  obtain ⟨a, N, P, X, b, m, t, ft, hx, hg, hN', ht, hc, hm⟩ := h
  dsimp only [hN, hK, jF, hI] at hg hN' hc hm
  have k25 : K 25 = some (64, Ln) := (hg.1 25 (by decide)).1
  have k0 := hc.1.1.1
  have k2 := hg.2.2.2.1
  have hMok := hg.2.2.2.2
  have k60 := zMok_k hMok
  obtain ⟨hp, hX, hw, hD⟩ := id hx
  have hi : sInv P (zcv (pnf P) (pnb P) I 1014) := by rw [hc.1.now]; exact hc.1.si
  have A := F_empty_ok hc.1.1 hp hi (I 25 (v + 1))
  rw [hc.1.now] at A
  obtain ⟨J, e1, e2⟩ := A
  obtain ⟨o1, o2⟩ := e2.off hc.d
  have r25 : J 25 = I 25 := o2 25 (by decide)
  have hm' := hm.off hp o1
  have hi7 : sInv P (zmv2 (pnf P) (pnb P) J) := by rw [hm'.1.2.1]; exact hc.1.si
  have B := F7_empty_ok hm'.1.1 hp hi7 (I 25 (v + 1))
  rw [hm'.1.2.1] at B
  obtain ⟨J2, f1, f2, f3, f4⟩ := B
  have hq : q1 (q_empty P (bS b) (I 25 (v + 1))) := by
    unfold q_empty
    repeat' (first | exact q1_l | exact q1_r | (apply q1_fa; intro _) | (apply q1_in; intro _) | split)
  have C := F_X0_empty_c (n := n) (L := L) (I 25 (v + 1)) k0 k2 hq e1
  have hW : zWI Ln nf xs (n, K, F, J2, qL L (q_empty P (bS b) (I 25 (v + 1)))) := zWI_q hx hg hN' ht hc hm e2 f4 (f3.trans hm'.1.2.1.symm)
  generalize q_empty P (bS b) (I 25 (v + 1)) = q at C f1 f2 hq hW
  cases q with
  | inl r =>
    refine ⟨0, 0, _, ?_, hW, by decide, by decide⟩
    dsimp only [qE] at f2
    simp only [hK, jF, hI, hN, hL, zsFI, zsI, zsF, nI_1, nI_p2, nI_p3, nI_p4, nI_p5, nI_p6, zc1_e, zn2, zpay_1, zpay_0, zpay_e, zb1_e, zb2_e, zg_true, zlet_e, ↓zka_eq k25, ↓zka_eq k60, ↓zka_eq k0, ↓zka_eq k2, hMok, F_X7_thrown, ↓reduceIte, eq_t, zin_0, lg_cmp_0, zu_same, not_true_eq_false, not_false_eq_true, Nat.add_zero, Nat.zero_add, zin_n (show v + 1 < Ln by omega) (show Ln < 2 ^ 31 by omega), nI_c (show v + 1 < 2147483648 by omega), C, qcc, qE, qL, r25, f1, f2, qV]
  | inr c =>
    refine ⟨1, 6, _, ?_, hW, by decide, by decide⟩
    obtain rfl := hq c rfl
    have f2' : J2 1860 1 = 1 := f2
    have e9 : qE (.inr 1) = 1 := rfl
    simp only [hK, jF, hI, hN, hL, zsFI, zsI, zsF, nI_1, nI_p2, nI_p3, nI_p4, nI_p5, nI_p6, zc1_e, zn2, zpay_1, zpay_0, zpay_e, zb1_e, zb2_e, zg_true, zlet_e, ↓zka_eq k25, ↓zka_eq k60, ↓zka_eq k0, ↓zka_eq k2, hMok, F_X7_thrown, ↓reduceIte, eq_t, zin_0, lg_cmp_0, zu_same, not_true_eq_false, not_false_eq_true, Nat.add_zero, Nat.zero_add, zin_n (show v + 1 < Ln by omega) (show Ln < 2 ^ 31 by omega), nI_c (show v + 1 < 2147483648 by omega), C, qcc, e9, qL, r25, f1, f2', qV, n10]
set_option maxHeartbeats 1000000 in
theorem L_op15 (h : zWI Ln nf xs (n, K, F, I, L)) (hv : v + 6 ≤ Ln) (hLn : Ln ≤ 384) : zOK Ln nf xs v (zg (zin (nI v + 1) Ln) (zg (zin (nI v + 2) Ln) (zc1 (F_X0_paid 1000 ((hI ((n, K, F, I, L) : zSt)) 25 ((nI v + 1).toNatClampNeg)) ((hI ((n, K, F, I, L) : zSt)) 25 ((nI v + 2).toNatClampNeg)) 1902 ((n, K, F, I, L) : zSt)) (fun c_445 => zn2 (fun x_443 h_444 => zpay c_445 (zka (hK h_444) 25 64 (fun n_447 => zg (zin (nI v + 1) n_447) (zg (zin (nI v + 2) n_447) (zg (zMok (hK h_444) (jF h_444)) (zka (hK h_444) 1860 6 (fun n_452 => zb2 (F_X7_paid ((hI h_444) 25 ((nI v + 1).toNatClampNeg)) ((hI h_444) 25 ((nI v + 2).toNatClampNeg)) (hI h_444)) (fun x_455 I_456 => zlet (zsFI h_444 (jF h_444) I_456) (fun h_457 => zg (zMok (hK h_457) (jF h_457)) (zka (hK h_457) 1860 6 (fun n_460 => zb1 (F_X7_thrown (hI h_457)) (fun x_463 => if x_463 = x_443 then if ¬ x_443 = 0 then zlet (nI v + 6) (fun v4_464 => some ((0, 0), .inl (v4_464, h_457))) else zka (hK h_457) 1902 67 (fun n_466 => zg (zin 0 n_466) (if (lg_cmp ((hL h_457) 1902 0) x_455.toInt64) = 0 then zlet (nI v + 6) (fun v4_469 => some ((0, 0), .inl (v4_469, h_457))) else some ((0, 0), .inr (.inr (0, h_457))))) else some ((0, 0), .inr (.inr (0, h_457))))))))))))))))))) := by
  obtain ⟨a, N, P, X, b, m, t, ft, hx, hg, hN', ht, hc, hm⟩ := h
  dsimp only [hN, hK, jF, hI] at hg hN' hc hm
  have k25 : K 25 = some (64, Ln) := (hg.1 25 (by decide)).1
  have k0 := hc.1.1.1
  have k2 := hg.2.2.2.1
  have hMok := hg.2.2.2.2
  have k60 := zMok_k hMok
  obtain ⟨hp, hX, hw, hD⟩ := id hx
  have hi : sInv P (zcv (pnf P) (pnb P) I 1014) := by rw [hc.1.now]; exact hc.1.si
  have A := F_paid_ok hc.1.1 hp hi (I 25 (v + 1)) (I 25 (v + 2))
  rw [hc.1.now] at A
  obtain ⟨J, e1, e2⟩ := A
  obtain ⟨o1, o2⟩ := e2.off hc.d
  have r25 : J 25 = I 25 := o2 25 (by decide)
  have hm' := hm.off hp o1
  have hi7 : sInv P (zmv2 (pnf P) (pnb P) J) := by rw [hm'.1.2.1]; exact hc.1.si
  have B := F7_paid_ok hm'.1.1 hp hi7 (I 25 (v + 1)) (I 25 (v + 2))
  rw [hm'.1.2.1] at B
  obtain ⟨J2, f1, f2, f3, f4⟩ := B
  have hq : q12 (q_paid P (bS b) (I 25 (v + 1)) (I 25 (v + 2))) := by
    unfold q_paid
    repeat' (first | exact q12_l | exact q12_r1 | exact q12_r2 | (apply q12_fa; intro _) | (apply q12_in1; intro _) | (apply q12_in2; intro _) | (apply q12_i1; intro _) | split)
  have C := F_X0_paid_c (n := n) (L := L) (I 25 (v + 1)) (I 25 (v + 2)) k0 k2 hq e1
  have hW : zWI Ln nf xs (n, K, F, J2, qL L (q_paid P (bS b) (I 25 (v + 1)) (I 25 (v + 2)))) := zWI_q hx hg hN' ht hc hm e2 f4 (f3.trans hm'.1.2.1.symm)
  generalize q_paid P (bS b) (I 25 (v + 1)) (I 25 (v + 2)) = q at C f1 f2 hq hW
  cases q with
  | inl r =>
    refine ⟨0, 0, _, ?_, hW, by decide, by decide⟩
    dsimp only [qE] at f2
    simp only [hK, jF, hI, hN, hL, zsFI, zsI, zsF, nI_1, nI_p2, nI_p3, nI_p4, nI_p5, nI_p6, zc1_e, zn2, zpay_1, zpay_0, zpay_e, zb1_e, zb2_e, zg_true, zlet_e, ↓zka_eq k25, ↓zka_eq k60, ↓zka_eq k0, ↓zka_eq k2, hMok, F_X7_thrown, ↓reduceIte, eq_t, zin_0, lg_cmp_0, zu_same, not_true_eq_false, not_false_eq_true, Nat.add_zero, Nat.zero_add, zin_n (show v + 1 < Ln by omega) (show Ln < 2 ^ 31 by omega), nI_c (show v + 1 < 2147483648 by omega), zin_n (show v + 2 < Ln by omega) (show Ln < 2 ^ 31 by omega), nI_c (show v + 2 < 2147483648 by omega), C, qcc, qE, qL, r25, f1, f2, qV]
  | inr c =>
    refine ⟨1, 6, _, ?_, hW, by decide, by decide⟩
    rcases hq c rfl with rfl | rfl
    · have f2' : J2 1860 1 = 1 := f2
      have e9 : qE (.inr 1) = 1 := rfl
      simp only [hK, jF, hI, hN, hL, zsFI, zsI, zsF, nI_1, nI_p2, nI_p3, nI_p4, nI_p5, nI_p6, zc1_e, zn2, zpay_1, zpay_0, zpay_e, zb1_e, zb2_e, zg_true, zlet_e, ↓zka_eq k25, ↓zka_eq k60, ↓zka_eq k0, ↓zka_eq k2, hMok, F_X7_thrown, ↓reduceIte, eq_t, zin_0, lg_cmp_0, zu_same, not_true_eq_false, not_false_eq_true, Nat.add_zero, Nat.zero_add, zin_n (show v + 1 < Ln by omega) (show Ln < 2 ^ 31 by omega), nI_c (show v + 1 < 2147483648 by omega), zin_n (show v + 2 < Ln by omega) (show Ln < 2 ^ 31 by omega), nI_c (show v + 2 < 2147483648 by omega), C, qcc, e9, qL, r25, f1, f2', qV, n10]
    · have f2' : J2 1860 1 = 2 := f2
      have e9 : qE (.inr 2) = 2 := rfl
      simp only [hK, jF, hI, hN, hL, zsFI, zsI, zsF, nI_1, nI_p2, nI_p3, nI_p4, nI_p5, nI_p6, zc1_e, zn2, zpay_1, zpay_0, zpay_e, zb1_e, zb2_e, zg_true, zlet_e, ↓zka_eq k25, ↓zka_eq k60, ↓zka_eq k0, ↓zka_eq k2, hMok, F_X7_thrown, ↓reduceIte, eq_t, zin_0, lg_cmp_0, zu_same, not_true_eq_false, not_false_eq_true, Nat.add_zero, Nat.zero_add, zin_n (show v + 1 < Ln by omega) (show Ln < 2 ^ 31 by omega), nI_c (show v + 1 < 2147483648 by omega), zin_n (show v + 2 < Ln by omega) (show Ln < 2 ^ 31 by omega), nI_c (show v + 2 < 2147483648 by omega), C, qcc, e9, qL, r25, f1, f2', qV, n20]
set_option maxHeartbeats 1000000 in
theorem L_op16 (h : zWI Ln nf xs (n, K, F, I, L)) (hv : v + 6 ≤ Ln) (hLn : Ln ≤ 384) : zOK Ln nf xs v (zg (zin (nI v + 1) Ln) (zc1 (F_X0_hostages 1000 ((hI ((n, K, F, I, L) : zSt)) 25 ((nI v + 1).toNatClampNeg)) 1902 ((n, K, F, I, L) : zSt)) (fun c_475 => zn2 (fun x_473 h_474 => zpay c_475 (zka (hK h_474) 25 64 (fun n_477 => zg (zin (nI v + 1) n_477) (zg (zMok (hK h_474) (jF h_474)) (zka (hK h_474) 1860 6 (fun n_481 => zb2 (F_X7_hostages ((hI h_474) 25 ((nI v + 1).toNatClampNeg)) (hI h_474)) (fun x_484 I_485 => zlet (zsFI h_474 (jF h_474) I_485) (fun h_486 => zg (zMok (hK h_486) (jF h_486)) (zka (hK h_486) 1860 6 (fun n_489 => zb1 (F_X7_thrown (hI h_486)) (fun x_492 => if x_492 = x_473 then if ¬ x_473 = 0 then zlet (nI v + 6) (fun v4_493 => some ((0, 0), .inl (v4_493, h_486))) else zka (hK h_486) 1902 67 (fun n_495 => zg (zin 0 n_495) (if (lg_cmp ((hL h_486) 1902 0) x_484.toInt64) = 0 then zlet (nI v + 6) (fun v4_498 => some ((0, 0), .inl (v4_498, h_486))) else some ((0, 0), .inr (.inr (0, h_486))))) else some ((0, 0), .inr (.inr (0, h_486))))))))))))))))) := by
  obtain ⟨a, N, P, X, b, m, t, ft, hx, hg, hN', ht, hc, hm⟩ := h
  dsimp only [hN, hK, jF, hI] at hg hN' hc hm
  have k25 : K 25 = some (64, Ln) := (hg.1 25 (by decide)).1
  have k0 := hc.1.1.1
  have k2 := hg.2.2.2.1
  have hMok := hg.2.2.2.2
  have k60 := zMok_k hMok
  obtain ⟨hp, hX, hw, hD⟩ := id hx
  have hi : sInv P (zcv (pnf P) (pnb P) I 1014) := by rw [hc.1.now]; exact hc.1.si
  have A := F_host_ok hc.1.1 hp hi (I 25 (v + 1))
  rw [hc.1.now] at A
  obtain ⟨J, e1, e2⟩ := A
  obtain ⟨o1, o2⟩ := e2.off hc.d
  have r25 : J 25 = I 25 := o2 25 (by decide)
  have hm' := hm.off hp o1
  have hi7 : sInv P (zmv2 (pnf P) (pnb P) J) := by rw [hm'.1.2.1]; exact hc.1.si
  have B := F7_host_ok hm'.1.1 hp hi7 (I 25 (v + 1))
  rw [hm'.1.2.1] at B
  obtain ⟨J2, f1, f2, f3, f4⟩ := B
  have hq : q1 (q_host P (bS b) (I 25 (v + 1))) := by
    unfold q_host
    repeat' (first | exact q1_l | exact q1_r | (apply q1_fa; intro _) | (apply q1_in; intro _) | split)
  have C := F_X0_hostages_c (n := n) (L := L) (I 25 (v + 1)) k0 k2 hq e1
  have hW : zWI Ln nf xs (n, K, F, J2, qL L (q_host P (bS b) (I 25 (v + 1)))) := zWI_q hx hg hN' ht hc hm e2 f4 (f3.trans hm'.1.2.1.symm)
  generalize q_host P (bS b) (I 25 (v + 1)) = q at C f1 f2 hq hW
  cases q with
  | inl r =>
    refine ⟨0, 0, _, ?_, hW, by decide, by decide⟩
    dsimp only [qE] at f2
    simp only [hK, jF, hI, hN, hL, zsFI, zsI, zsF, nI_1, nI_p2, nI_p3, nI_p4, nI_p5, nI_p6, zc1_e, zn2, zpay_1, zpay_0, zpay_e, zb1_e, zb2_e, zg_true, zlet_e, ↓zka_eq k25, ↓zka_eq k60, ↓zka_eq k0, ↓zka_eq k2, hMok, F_X7_thrown, ↓reduceIte, eq_t, zin_0, lg_cmp_0, zu_same, not_true_eq_false, not_false_eq_true, Nat.add_zero, Nat.zero_add, zin_n (show v + 1 < Ln by omega) (show Ln < 2 ^ 31 by omega), nI_c (show v + 1 < 2147483648 by omega), C, qcc, qE, qL, r25, f1, f2, qV]
  | inr c =>
    refine ⟨1, 6, _, ?_, hW, by decide, by decide⟩
    obtain rfl := hq c rfl
    have f2' : J2 1860 1 = 1 := f2
    have e9 : qE (.inr 1) = 1 := rfl
    simp only [hK, jF, hI, hN, hL, zsFI, zsI, zsF, nI_1, nI_p2, nI_p3, nI_p4, nI_p5, nI_p6, zc1_e, zn2, zpay_1, zpay_0, zpay_e, zb1_e, zb2_e, zg_true, zlet_e, ↓zka_eq k25, ↓zka_eq k60, ↓zka_eq k0, ↓zka_eq k2, hMok, F_X7_thrown, ↓reduceIte, eq_t, zin_0, lg_cmp_0, zu_same, not_true_eq_false, not_false_eq_true, Nat.add_zero, Nat.zero_add, zin_n (show v + 1 < Ln by omega) (show Ln < 2 ^ 31 by omega), nI_c (show v + 1 < 2147483648 by omega), C, qcc, e9, qL, r25, f1, f2', qV, n10]
set_option maxHeartbeats 1000000 in
theorem L_op17 (h : zWI Ln nf xs (n, K, F, I, L)) (hv : v + 6 ≤ Ln) (hLn : Ln ≤ 384) : zOK Ln nf xs v (zg (zin (nI v + 1) Ln) (zc1 (F_X0_owing 1000 ((hI ((n, K, F, I, L) : zSt)) 25 ((nI v + 1).toNatClampNeg)) 1902 ((n, K, F, I, L) : zSt)) (fun c_504 => zn2 (fun x_502 h_503 => zpay c_504 (zka (hK h_503) 25 64 (fun n_506 => zg (zin (nI v + 1) n_506) (zg (zMok (hK h_503) (jF h_503)) (zka (hK h_503) 1860 6 (fun n_510 => zb2 (F_X7_owing ((hI h_503) 25 ((nI v + 1).toNatClampNeg)) (hI h_503)) (fun x_513 I_514 => zlet (zsFI h_503 (jF h_503) I_514) (fun h_515 => zg (zMok (hK h_515) (jF h_515)) (zka (hK h_515) 1860 6 (fun n_518 => zb1 (F_X7_thrown (hI h_515)) (fun x_521 => if x_521 = x_502 then if ¬ x_502 = 0 then zlet (nI v + 6) (fun v4_522 => some ((0, 0), .inl (v4_522, h_515))) else zka (hK h_515) 1902 67 (fun n_524 => zg (zin 0 n_524) (if (lg_cmp ((hL h_515) 1902 0) x_513.toInt64) = 0 then zlet (nI v + 6) (fun v4_527 => some ((0, 0), .inl (v4_527, h_515))) else some ((0, 0), .inr (.inr (0, h_515))))) else some ((0, 0), .inr (.inr (0, h_515))))))))))))))))) := by
  obtain ⟨a, N, P, X, b, m, t, ft, hx, hg, hN', ht, hc, hm⟩ := h
  dsimp only [hN, hK, jF, hI] at hg hN' hc hm
  have k25 : K 25 = some (64, Ln) := (hg.1 25 (by decide)).1
  have k0 := hc.1.1.1
  have k2 := hg.2.2.2.1
  have hMok := hg.2.2.2.2
  have k60 := zMok_k hMok
  obtain ⟨hp, hX, hw, hD⟩ := id hx
  have hi : sInv P (zcv (pnf P) (pnb P) I 1014) := by rw [hc.1.now]; exact hc.1.si
  have A := F_owing_ok hc.1.1 hp hi (I 25 (v + 1))
  rw [hc.1.now] at A
  obtain ⟨J, e1, e2⟩ := A
  obtain ⟨o1, o2⟩ := e2.off hc.d
  have r25 : J 25 = I 25 := o2 25 (by decide)
  have hm' := hm.off hp o1
  have hi7 : sInv P (zmv2 (pnf P) (pnb P) J) := by rw [hm'.1.2.1]; exact hc.1.si
  have B := F7_owing_ok hm'.1.1 hp hi7 (I 25 (v + 1))
  rw [hm'.1.2.1] at B
  obtain ⟨J2, f1, f2, f3, f4⟩ := B
  have hq : q1 (q_owing P (bS b) (I 25 (v + 1))) := by
    unfold q_owing
    repeat' (first | exact q1_l | exact q1_r | (apply q1_fa; intro _) | (apply q1_in; intro _) | split)
  have C := F_X0_owing_c (n := n) (L := L) (I 25 (v + 1)) k0 k2 hq e1
  have hW : zWI Ln nf xs (n, K, F, J2, qL L (q_owing P (bS b) (I 25 (v + 1)))) := zWI_q hx hg hN' ht hc hm e2 f4 (f3.trans hm'.1.2.1.symm)
  generalize q_owing P (bS b) (I 25 (v + 1)) = q at C f1 f2 hq hW
  cases q with
  | inl r =>
    refine ⟨0, 0, _, ?_, hW, by decide, by decide⟩
    dsimp only [qE] at f2
    simp only [hK, jF, hI, hN, hL, zsFI, zsI, zsF, nI_1, nI_p2, nI_p3, nI_p4, nI_p5, nI_p6, zc1_e, zn2, zpay_1, zpay_0, zpay_e, zb1_e, zb2_e, zg_true, zlet_e, ↓zka_eq k25, ↓zka_eq k60, ↓zka_eq k0, ↓zka_eq k2, hMok, F_X7_thrown, ↓reduceIte, eq_t, zin_0, lg_cmp_0, zu_same, not_true_eq_false, not_false_eq_true, Nat.add_zero, Nat.zero_add, zin_n (show v + 1 < Ln by omega) (show Ln < 2 ^ 31 by omega), nI_c (show v + 1 < 2147483648 by omega), C, qcc, qE, qL, r25, f1, f2, qV]
  | inr c =>
    refine ⟨1, 6, _, ?_, hW, by decide, by decide⟩
    obtain rfl := hq c rfl
    have f2' : J2 1860 1 = 1 := f2
    have e9 : qE (.inr 1) = 1 := rfl
    simp only [hK, jF, hI, hN, hL, zsFI, zsI, zsF, nI_1, nI_p2, nI_p3, nI_p4, nI_p5, nI_p6, zc1_e, zn2, zpay_1, zpay_0, zpay_e, zb1_e, zb2_e, zg_true, zlet_e, ↓zka_eq k25, ↓zka_eq k60, ↓zka_eq k0, ↓zka_eq k2, hMok, F_X7_thrown, ↓reduceIte, eq_t, zin_0, lg_cmp_0, zu_same, not_true_eq_false, not_false_eq_true, Nat.add_zero, Nat.zero_add, zin_n (show v + 1 < Ln by omega) (show Ln < 2 ^ 31 by omega), nI_c (show v + 1 < 2147483648 by omega), C, qcc, e9, qL, r25, f1, f2', qV, n10]
set_option maxHeartbeats 1000000 in
theorem L_op19 (h : zWI Ln nf xs (n, K, F, I, L)) (hv : v + 6 ≤ Ln) (hLn : Ln ≤ 384) : zOK Ln nf xs v (zg (zin (nI v + 1) Ln) (zc1 (F_X0_lastBlack 1000 ((hI ((n, K, F, I, L) : zSt)) 25 ((nI v + 1).toNatClampNeg)) 1902 ((n, K, F, I, L) : zSt)) (fun c_547 => zn2 (fun x_545 h_546 => zpay c_547 (zka (hK h_546) 25 64 (fun n_549 => zg (zin (nI v + 1) n_549) (zg (zMok (hK h_546) (jF h_546)) (zka (hK h_546) 1860 6 (fun n_553 => zb2 (F_X7_lastBlack ((hI h_546) 25 ((nI v + 1).toNatClampNeg)) (hI h_546)) (fun x_556 I_557 => zlet (zsFI h_546 (jF h_546) I_557) (fun h_558 => zg (zMok (hK h_558) (jF h_558)) (zka (hK h_558) 1860 6 (fun n_561 => zb1 (F_X7_thrown (hI h_558)) (fun x_564 => if x_564 = x_545 then if ¬ x_545 = 0 then zlet (nI v + 6) (fun v4_565 => some ((0, 0), .inl (v4_565, h_558))) else zka (hK h_558) 1902 67 (fun n_567 => zg (zin 0 n_567) (if (lg_cmp ((hL h_558) 1902 0) x_556.toInt64) = 0 then zlet (nI v + 6) (fun v4_570 => some ((0, 0), .inl (v4_570, h_558))) else some ((0, 0), .inr (.inr (0, h_558))))) else some ((0, 0), .inr (.inr (0, h_558))))))))))))))))) := by
  obtain ⟨a, N, P, X, b, m, t, ft, hx, hg, hN', ht, hc, hm⟩ := h
  dsimp only [hN, hK, jF, hI] at hg hN' hc hm
  have k25 : K 25 = some (64, Ln) := (hg.1 25 (by decide)).1
  have k0 := hc.1.1.1
  have k2 := hg.2.2.2.1
  have hMok := hg.2.2.2.2
  have k60 := zMok_k hMok
  obtain ⟨hp, hX, hw, hD⟩ := id hx
  have hi : sInv P (zcv (pnf P) (pnb P) I 1014) := by rw [hc.1.now]; exact hc.1.si
  have A := F_last_ok hc.1.1 hp hi (I 25 (v + 1))
  rw [hc.1.now] at A
  obtain ⟨J, e1, e2⟩ := A
  obtain ⟨o1, o2⟩ := e2.off hc.d
  have r25 : J 25 = I 25 := o2 25 (by decide)
  have hm' := hm.off hp o1
  have hi7 : sInv P (zmv2 (pnf P) (pnb P) J) := by rw [hm'.1.2.1]; exact hc.1.si
  have B := F7_last_ok hm'.1.1 hp hi7 (I 25 (v + 1))
  rw [hm'.1.2.1] at B
  obtain ⟨J2, f1, f2, f3, f4⟩ := B
  have hq : q1 (q_last P (bS b) (I 25 (v + 1))) := by
    unfold q_last
    repeat' (first | exact q1_l | exact q1_r | (apply q1_fa; intro _) | (apply q1_in; intro _) | split)
  have C := F_X0_lastBlack_c (n := n) (L := L) (I 25 (v + 1)) k0 k2 hq e1
  have hW : zWI Ln nf xs (n, K, F, J2, qL L (q_last P (bS b) (I 25 (v + 1)))) := zWI_q hx hg hN' ht hc hm e2 f4 (f3.trans hm'.1.2.1.symm)
  generalize q_last P (bS b) (I 25 (v + 1)) = q at C f1 f2 hq hW
  cases q with
  | inl r =>
    refine ⟨0, 0, _, ?_, hW, by decide, by decide⟩
    dsimp only [qE] at f2
    simp only [hK, jF, hI, hN, hL, zsFI, zsI, zsF, nI_1, nI_p2, nI_p3, nI_p4, nI_p5, nI_p6, zc1_e, zn2, zpay_1, zpay_0, zpay_e, zb1_e, zb2_e, zg_true, zlet_e, ↓zka_eq k25, ↓zka_eq k60, ↓zka_eq k0, ↓zka_eq k2, hMok, F_X7_thrown, ↓reduceIte, eq_t, zin_0, lg_cmp_0, zu_same, not_true_eq_false, not_false_eq_true, Nat.add_zero, Nat.zero_add, zin_n (show v + 1 < Ln by omega) (show Ln < 2 ^ 31 by omega), nI_c (show v + 1 < 2147483648 by omega), C, qcc, qE, qL, r25, f1, f2, qV]
  | inr c =>
    refine ⟨1, 6, _, ?_, hW, by decide, by decide⟩
    obtain rfl := hq c rfl
    have f2' : J2 1860 1 = 1 := f2
    have e9 : qE (.inr 1) = 1 := rfl
    simp only [hK, jF, hI, hN, hL, zsFI, zsI, zsF, nI_1, nI_p2, nI_p3, nI_p4, nI_p5, nI_p6, zc1_e, zn2, zpay_1, zpay_0, zpay_e, zb1_e, zb2_e, zg_true, zlet_e, ↓zka_eq k25, ↓zka_eq k60, ↓zka_eq k0, ↓zka_eq k2, hMok, F_X7_thrown, ↓reduceIte, eq_t, zin_0, lg_cmp_0, zu_same, not_true_eq_false, not_false_eq_true, Nat.add_zero, Nat.zero_add, zin_n (show v + 1 < Ln by omega) (show Ln < 2 ^ 31 by omega), nI_c (show v + 1 < 2147483648 by omega), C, qcc, e9, qL, r25, f1, f2', qV, n10]
set_option maxHeartbeats 1000000 in
theorem L_op20 (h : zWI Ln nf xs (n, K, F, I, L)) (hv : v + 6 ≤ Ln) (hLn : Ln ≤ 384) : zOK Ln nf xs v (zg (zin (nI v + 1) Ln) (zc1 (F_X0_forEver 1000 ((hI ((n, K, F, I, L) : zSt)) 25 ((nI v + 1).toNatClampNeg)) 1902 ((n, K, F, I, L) : zSt)) (fun c_576 => zn2 (fun x_574 h_575 => zpay c_576 (zka (hK h_575) 25 64 (fun n_578 => zg (zin (nI v + 1) n_578) (zg (zMok (hK h_575) (jF h_575)) (zka (hK h_575) 1860 6 (fun n_582 => zb2 (F_X7_forEver ((hI h_575) 25 ((nI v + 1).toNatClampNeg)) (hI h_575)) (fun x_585 I_586 => zlet (zsFI h_575 (jF h_575) I_586) (fun h_587 => zg (zMok (hK h_587) (jF h_587)) (zka (hK h_587) 1860 6 (fun n_590 => zb1 (F_X7_thrown (hI h_587)) (fun x_593 => if x_593 = x_574 then if ¬ x_574 = 0 then zlet (nI v + 6) (fun v4_594 => some ((0, 0), .inl (v4_594, h_587))) else zka (hK h_587) 1902 67 (fun n_596 => zg (zin 0 n_596) (if (lg_cmp ((hL h_587) 1902 0) x_585.toInt64) = 0 then zlet (nI v + 6) (fun v4_599 => some ((0, 0), .inl (v4_599, h_587))) else some ((0, 0), .inr (.inr (0, h_587))))) else some ((0, 0), .inr (.inr (0, h_587))))))))))))))))) := by
  obtain ⟨a, N, P, X, b, m, t, ft, hx, hg, hN', ht, hc, hm⟩ := h
  dsimp only [hN, hK, jF, hI] at hg hN' hc hm
  have k25 : K 25 = some (64, Ln) := (hg.1 25 (by decide)).1
  have k0 := hc.1.1.1
  have k2 := hg.2.2.2.1
  have hMok := hg.2.2.2.2
  have k60 := zMok_k hMok
  obtain ⟨hp, hX, hw, hD⟩ := id hx
  have hi : sInv P (zcv (pnf P) (pnb P) I 1014) := by rw [hc.1.now]; exact hc.1.si
  have A := F_ever_ok hc.1.1 hp hi (I 25 (v + 1))
  rw [hc.1.now] at A
  obtain ⟨J, e1, e2⟩ : ∃ J, F_X1_forEver K F 1000 (I 25 (v + 1)) I = some (qC (q_ever P (bS b) (I 25 (v + 1))), J) ∧ zcf a I J := ⟨I, A, zcf.rf⟩
  obtain ⟨o1, o2⟩ := e2.off hc.d
  have r25 : J 25 = I 25 := o2 25 (by decide)
  have hm' := hm.off hp o1
  have hi7 : sInv P (zmv2 (pnf P) (pnb P) J) := by rw [hm'.1.2.1]; exact hc.1.si
  have B := F7_ever_ok hm'.1.1 hp hi7 (I 25 (v + 1))
  rw [hm'.1.2.1] at B
  obtain ⟨J2, f1, f2, f3, f4⟩ := B
  have hq : q1 (q_ever P (bS b) (I 25 (v + 1))) := by
    unfold q_ever
    repeat' (first | exact q1_l | exact q1_r | (apply q1_fa; intro _) | (apply q1_in; intro _) | split)
  have C := F_X0_forEver_c (n := n) (L := L) (I 25 (v + 1)) k0 k2 hq e1
  have hW : zWI Ln nf xs (n, K, F, J2, qL L (q_ever P (bS b) (I 25 (v + 1)))) := zWI_q hx hg hN' ht hc hm e2 f4 (f3.trans hm'.1.2.1.symm)
  generalize q_ever P (bS b) (I 25 (v + 1)) = q at C f1 f2 hq hW
  cases q with
  | inl r =>
    refine ⟨0, 0, _, ?_, hW, by decide, by decide⟩
    dsimp only [qE] at f2
    simp only [hK, jF, hI, hN, hL, zsFI, zsI, zsF, nI_1, nI_p2, nI_p3, nI_p4, nI_p5, nI_p6, zc1_e, zn2, zpay_1, zpay_0, zpay_e, zb1_e, zb2_e, zg_true, zlet_e, ↓zka_eq k25, ↓zka_eq k60, ↓zka_eq k0, ↓zka_eq k2, hMok, F_X7_thrown, ↓reduceIte, eq_t, zin_0, lg_cmp_0, zu_same, not_true_eq_false, not_false_eq_true, Nat.add_zero, Nat.zero_add, zin_n (show v + 1 < Ln by omega) (show Ln < 2 ^ 31 by omega), nI_c (show v + 1 < 2147483648 by omega), C, qcc, qE, qL, r25, f1, f2, qV]
  | inr c =>
    refine ⟨1, 6, _, ?_, hW, by decide, by decide⟩
    obtain rfl := hq c rfl
    have f2' : J2 1860 1 = 1 := f2
    have e9 : qE (.inr 1) = 1 := rfl
    simp only [hK, jF, hI, hN, hL, zsFI, zsI, zsF, nI_1, nI_p2, nI_p3, nI_p4, nI_p5, nI_p6, zc1_e, zn2, zpay_1, zpay_0, zpay_e, zb1_e, zb2_e, zg_true, zlet_e, ↓zka_eq k25, ↓zka_eq k60, ↓zka_eq k0, ↓zka_eq k2, hMok, F_X7_thrown, ↓reduceIte, eq_t, zin_0, lg_cmp_0, zu_same, not_true_eq_false, not_false_eq_true, Nat.add_zero, Nat.zero_add, zin_n (show v + 1 < Ln by omega) (show Ln < 2 ^ 31 by omega), nI_c (show v + 1 < 2147483648 by omega), C, qcc, e9, qL, r25, f1, f2', qV, n10]
set_option maxHeartbeats 1000000 in
theorem L_op21 (h : zWI Ln nf xs (n, K, F, I, L)) (hv : v + 6 ≤ Ln) (hLn : Ln ≤ 384) : zOK Ln nf xs v (zg (zin (nI v + 1) Ln) (zg (zin (nI v + 2) Ln) (zc1 (F_X0_resting 1000 ((hI ((n, K, F, I, L) : zSt)) 25 ((nI v + 1).toNatClampNeg)) ((hI ((n, K, F, I, L) : zSt)) 25 ((nI v + 2).toNatClampNeg)) 1902 ((n, K, F, I, L) : zSt)) (fun c_606 => zn2 (fun x_604 h_605 => zpay c_606 (zka (hK h_605) 25 64 (fun n_608 => zg (zin (nI v + 1) n_608) (zg (zin (nI v + 2) n_608) (zg (zMok (hK h_605) (jF h_605)) (zka (hK h_605) 1860 6 (fun n_613 => zb2 (F_X7_resting ((hI h_605) 25 ((nI v + 1).toNatClampNeg)) ((hI h_605) 25 ((nI v + 2).toNatClampNeg)) (hI h_605)) (fun x_616 I_617 => zlet (zsFI h_605 (jF h_605) I_617) (fun h_618 => zg (zMok (hK h_618) (jF h_618)) (zka (hK h_618) 1860 6 (fun n_621 => zb1 (F_X7_thrown (hI h_618)) (fun x_624 => if x_624 = x_604 then if ¬ x_604 = 0 then zlet (nI v + 6) (fun v4_625 => some ((0, 0), .inl (v4_625, h_618))) else zka (hK h_618) 1902 67 (fun n_627 => zg (zin 0 n_627) (if (lg_cmp ((hL h_618) 1902 0) x_616.toInt64) = 0 then zlet (nI v + 6) (fun v4_630 => some ((0, 0), .inl (v4_630, h_618))) else some ((0, 0), .inr (.inr (0, h_618))))) else some ((0, 0), .inr (.inr (0, h_618))))))))))))))))))) := by
  obtain ⟨a, N, P, X, b, m, t, ft, hx, hg, hN', ht, hc, hm⟩ := h
  dsimp only [hN, hK, jF, hI] at hg hN' hc hm
  have k25 : K 25 = some (64, Ln) := (hg.1 25 (by decide)).1
  have k0 := hc.1.1.1
  have k2 := hg.2.2.2.1
  have hMok := hg.2.2.2.2
  have k60 := zMok_k hMok
  obtain ⟨hp, hX, hw, hD⟩ := id hx
  have hi : sInv P (zcv (pnf P) (pnb P) I 1014) := by rw [hc.1.now]; exact hc.1.si
  have A := F_resting_ok hc.1.1 hp  (I 25 (v + 1)) (I 25 (v + 2))
  rw [hc.1.now] at A
  obtain ⟨J, e1, e2⟩ : ∃ J, F_X1_resting K F 1000 (I 25 (v + 1)) (I 25 (v + 2)) I = some (qC (q_resting P (bS b) (I 25 (v + 1)) (I 25 (v + 2))), J) ∧ zcf a I J := ⟨I, A, zcf.rf⟩
  obtain ⟨o1, o2⟩ := e2.off hc.d
  have r25 : J 25 = I 25 := o2 25 (by decide)
  have hm' := hm.off hp o1
  have hi7 : sInv P (zmv2 (pnf P) (pnb P) J) := by rw [hm'.1.2.1]; exact hc.1.si
  have B := F7_resting_ok hm'.1.1 hp hi7 (I 25 (v + 1)) (I 25 (v + 2))
  rw [hm'.1.2.1] at B
  obtain ⟨J2, f1, f2, f3, f4⟩ := B
  have hq : q12 (q_resting P (bS b) (I 25 (v + 1)) (I 25 (v + 2))) := by
    unfold q_resting
    repeat' (first | exact q12_l | exact q12_r1 | exact q12_r2 | (apply q12_fa; intro _) | (apply q12_in1; intro _) | (apply q12_in2; intro _) | (apply q12_i1; intro _) | split)
  have C := F_X0_resting_c (n := n) (L := L) (I 25 (v + 1)) (I 25 (v + 2)) k0 k2 hq e1
  have hW : zWI Ln nf xs (n, K, F, J2, qL L (q_resting P (bS b) (I 25 (v + 1)) (I 25 (v + 2)))) := zWI_q hx hg hN' ht hc hm e2 f4 (f3.trans hm'.1.2.1.symm)
  generalize q_resting P (bS b) (I 25 (v + 1)) (I 25 (v + 2)) = q at C f1 f2 hq hW
  cases q with
  | inl r =>
    refine ⟨0, 0, _, ?_, hW, by decide, by decide⟩
    dsimp only [qE] at f2
    simp only [hK, jF, hI, hN, hL, zsFI, zsI, zsF, nI_1, nI_p2, nI_p3, nI_p4, nI_p5, nI_p6, zc1_e, zn2, zpay_1, zpay_0, zpay_e, zb1_e, zb2_e, zg_true, zlet_e, ↓zka_eq k25, ↓zka_eq k60, ↓zka_eq k0, ↓zka_eq k2, hMok, F_X7_thrown, ↓reduceIte, eq_t, zin_0, lg_cmp_0, zu_same, not_true_eq_false, not_false_eq_true, Nat.add_zero, Nat.zero_add, zin_n (show v + 1 < Ln by omega) (show Ln < 2 ^ 31 by omega), nI_c (show v + 1 < 2147483648 by omega), zin_n (show v + 2 < Ln by omega) (show Ln < 2 ^ 31 by omega), nI_c (show v + 2 < 2147483648 by omega), C, qcc, qE, qL, r25, f1, f2, qV]
  | inr c =>
    refine ⟨1, 6, _, ?_, hW, by decide, by decide⟩
    rcases hq c rfl with rfl | rfl
    · have f2' : J2 1860 1 = 1 := f2
      have e9 : qE (.inr 1) = 1 := rfl
      simp only [hK, jF, hI, hN, hL, zsFI, zsI, zsF, nI_1, nI_p2, nI_p3, nI_p4, nI_p5, nI_p6, zc1_e, zn2, zpay_1, zpay_0, zpay_e, zb1_e, zb2_e, zg_true, zlet_e, ↓zka_eq k25, ↓zka_eq k60, ↓zka_eq k0, ↓zka_eq k2, hMok, F_X7_thrown, ↓reduceIte, eq_t, zin_0, lg_cmp_0, zu_same, not_true_eq_false, not_false_eq_true, Nat.add_zero, Nat.zero_add, zin_n (show v + 1 < Ln by omega) (show Ln < 2 ^ 31 by omega), nI_c (show v + 1 < 2147483648 by omega), zin_n (show v + 2 < Ln by omega) (show Ln < 2 ^ 31 by omega), nI_c (show v + 2 < 2147483648 by omega), C, qcc, e9, qL, r25, f1, f2', qV, n10]
    · have f2' : J2 1860 1 = 2 := f2
      have e9 : qE (.inr 2) = 2 := rfl
      simp only [hK, jF, hI, hN, hL, zsFI, zsI, zsF, nI_1, nI_p2, nI_p3, nI_p4, nI_p5, nI_p6, zc1_e, zn2, zpay_1, zpay_0, zpay_e, zb1_e, zb2_e, zg_true, zlet_e, ↓zka_eq k25, ↓zka_eq k60, ↓zka_eq k0, ↓zka_eq k2, hMok, F_X7_thrown, ↓reduceIte, eq_t, zin_0, lg_cmp_0, zu_same, not_true_eq_false, not_false_eq_true, Nat.add_zero, Nat.zero_add, zin_n (show v + 1 < Ln by omega) (show Ln < 2 ^ 31 by omega), nI_c (show v + 1 < 2147483648 by omega), zin_n (show v + 2 < Ln by omega) (show Ln < 2 ^ 31 by omega), nI_c (show v + 2 < 2147483648 by omega), C, qcc, e9, qL, r25, f1, f2', qV, n20]
set_option maxHeartbeats 1000000 in
theorem L_op22 (h : zWI Ln nf xs (n, K, F, I, L)) (hv : v + 6 ≤ Ln) (hLn : Ln ≤ 384) : zOK Ln nf xs v (zg (zin (nI v + 1) Ln) (zg (zin (nI v + 2) Ln) (zc1 (F_X0_far 1000 ((hI ((n, K, F, I, L) : zSt)) 25 ((nI v + 1).toNatClampNeg)) ((hI ((n, K, F, I, L) : zSt)) 25 ((nI v + 2).toNatClampNeg)) 1902 ((n, K, F, I, L) : zSt)) (fun c_637 => zn2 (fun x_635 h_636 => zpay c_637 (zka (hK h_636) 25 64 (fun n_639 => zg (zin (nI v + 1) n_639) (zg (zin (nI v + 2) n_639) (zg (zMok (hK h_636) (jF h_636)) (zka (hK h_636) 1860 6 (fun n_644 => zb2 (F_X7_far ((hI h_636) 25 ((nI v + 1).toNatClampNeg)) ((hI h_636) 25 ((nI v + 2).toNatClampNeg)) (hI h_636)) (fun x_647 I_648 => zlet (zsFI h_636 (jF h_636) I_648) (fun h_649 => zg (zMok (hK h_649) (jF h_649)) (zka (hK h_649) 1860 6 (fun n_652 => zb1 (F_X7_thrown (hI h_649)) (fun x_655 => if x_655 = x_635 then if ¬ x_635 = 0 then zlet (nI v + 6) (fun v4_656 => some ((0, 0), .inl (v4_656, h_649))) else zka (hK h_649) 1902 67 (fun n_658 => zg (zin 0 n_658) (if (lg_cmp ((hL h_649) 1902 0) x_647.toInt64) = 0 then zlet (nI v + 6) (fun v4_661 => some ((0, 0), .inl (v4_661, h_649))) else some ((0, 0), .inr (.inr (0, h_649))))) else some ((0, 0), .inr (.inr (0, h_649))))))))))))))))))) := by
  obtain ⟨a, N, P, X, b, m, t, ft, hx, hg, hN', ht, hc, hm⟩ := h
  dsimp only [hN, hK, jF, hI] at hg hN' hc hm
  have k25 : K 25 = some (64, Ln) := (hg.1 25 (by decide)).1
  have k0 := hc.1.1.1
  have k2 := hg.2.2.2.1
  have hMok := hg.2.2.2.2
  have k60 := zMok_k hMok
  obtain ⟨hp, hX, hw, hD⟩ := id hx
  have hi : sInv P (zcv (pnf P) (pnb P) I 1014) := by rw [hc.1.now]; exact hc.1.si
  have A := F_far_ok hc.1.1 hp  (I 25 (v + 1)) (I 25 (v + 2))
  obtain ⟨J, e1, e2⟩ : ∃ J, F_X1_far K F 1000 (I 25 (v + 1)) (I 25 (v + 2)) I = some (qC (q_far P X (I 25 (v + 1)) (I 25 (v + 2))), J) ∧ zcf a I J := ⟨I, A, zcf.rf⟩
  obtain ⟨o1, o2⟩ := e2.off hc.d
  have r25 : J 25 = I 25 := o2 25 (by decide)
  have hm' := hm.off hp o1
  have hi7 : sInv P (zmv2 (pnf P) (pnb P) J) := by rw [hm'.1.2.1]; exact hc.1.si
  have B := F7_far_ok hm'.1.1 hp hi7 hw hD (I 25 (v + 1)) (I 25 (v + 2))
  rw [hm'.1.2.1] at B
  obtain ⟨J2, f1, f2, f3, f4⟩ := B
  have hq : q1 (q_far P X (I 25 (v + 1)) (I 25 (v + 2))) := by
    unfold q_far
    repeat' (first | exact q1_l | exact q1_r | (apply q1_fa; intro _) | (apply q1_in; intro _) | split)
  have C := F_X0_far_c (n := n) (L := L) (I 25 (v + 1)) (I 25 (v + 2)) k0 k2 hq e1
  have hW : zWI Ln nf xs (n, K, F, J2, qL L (q_far P X (I 25 (v + 1)) (I 25 (v + 2)))) := zWI_q hx hg hN' ht hc hm e2 f4 (f3.trans hm'.1.2.1.symm)
  generalize q_far P X (I 25 (v + 1)) (I 25 (v + 2)) = q at C f1 f2 hq hW
  cases q with
  | inl r =>
    refine ⟨0, 0, _, ?_, hW, by decide, by decide⟩
    dsimp only [qE] at f2
    simp only [hK, jF, hI, hN, hL, zsFI, zsI, zsF, nI_1, nI_p2, nI_p3, nI_p4, nI_p5, nI_p6, zc1_e, zn2, zpay_1, zpay_0, zpay_e, zb1_e, zb2_e, zg_true, zlet_e, ↓zka_eq k25, ↓zka_eq k60, ↓zka_eq k0, ↓zka_eq k2, hMok, F_X7_thrown, ↓reduceIte, eq_t, zin_0, lg_cmp_0, zu_same, not_true_eq_false, not_false_eq_true, Nat.add_zero, Nat.zero_add, zin_n (show v + 1 < Ln by omega) (show Ln < 2 ^ 31 by omega), nI_c (show v + 1 < 2147483648 by omega), zin_n (show v + 2 < Ln by omega) (show Ln < 2 ^ 31 by omega), nI_c (show v + 2 < 2147483648 by omega), C, qcc, qE, qL, r25, f1, f2, qV]
  | inr c =>
    refine ⟨1, 6, _, ?_, hW, by decide, by decide⟩
    obtain rfl := hq c rfl
    have f2' : J2 1860 1 = 1 := f2
    have e9 : qE (.inr 1) = 1 := rfl
    simp only [hK, jF, hI, hN, hL, zsFI, zsI, zsF, nI_1, nI_p2, nI_p3, nI_p4, nI_p5, nI_p6, zc1_e, zn2, zpay_1, zpay_0, zpay_e, zb1_e, zb2_e, zg_true, zlet_e, ↓zka_eq k25, ↓zka_eq k60, ↓zka_eq k0, ↓zka_eq k2, hMok, F_X7_thrown, ↓reduceIte, eq_t, zin_0, lg_cmp_0, zu_same, not_true_eq_false, not_false_eq_true, Nat.add_zero, Nat.zero_add, zin_n (show v + 1 < Ln by omega) (show Ln < 2 ^ 31 by omega), nI_c (show v + 1 < 2147483648 by omega), zin_n (show v + 2 < Ln by omega) (show Ln < 2 ^ 31 by omega), nI_c (show v + 2 < 2147483648 by omega), C, qcc, e9, qL, r25, f1, f2', qV, n10]
set_option maxHeartbeats 1000000 in
theorem L_op23 (h : zWI Ln nf xs (n, K, F, I, L)) (hv : v + 6 ≤ Ln) (hLn : Ln ≤ 384) : zOK Ln nf xs v (zg (zin (nI v + 1) Ln) (zc1 (F_X0_round 1000 ((hI ((n, K, F, I, L) : zSt)) 25 ((nI v + 1).toNatClampNeg)) 1902 ((n, K, F, I, L) : zSt)) (fun c_667 => zn2 (fun x_665 h_666 => zpay c_667 (zka (hK h_666) 25 64 (fun n_669 => zg (zin (nI v + 1) n_669) (zg (zMok (hK h_666) (jF h_666)) (zka (hK h_666) 1860 6 (fun n_673 => zb2 (F_X7_round ((hI h_666) 25 ((nI v + 1).toNatClampNeg)) (hI h_666)) (fun x_676 I_677 => zlet (zsFI h_666 (jF h_666) I_677) (fun h_678 => zg (zMok (hK h_678) (jF h_678)) (zka (hK h_678) 1860 6 (fun n_681 => zb1 (F_X7_thrown (hI h_678)) (fun x_684 => if x_684 = x_665 then if ¬ x_665 = 0 then zlet (nI v + 6) (fun v4_685 => some ((0, 0), .inl (v4_685, h_678))) else zka (hK h_678) 1902 67 (fun n_687 => zg (zin 0 n_687) (if (lg_cmp ((hL h_678) 1902 0) x_676.toInt64) = 0 then zlet (nI v + 6) (fun v4_690 => some ((0, 0), .inl (v4_690, h_678))) else some ((0, 0), .inr (.inr (0, h_678))))) else some ((0, 0), .inr (.inr (0, h_678))))))))))))))))) := by
  obtain ⟨a, N, P, X, b, m, t, ft, hx, hg, hN', ht, hc, hm⟩ := h
  dsimp only [hN, hK, jF, hI] at hg hN' hc hm
  have k25 : K 25 = some (64, Ln) := (hg.1 25 (by decide)).1
  have k0 := hc.1.1.1
  have k2 := hg.2.2.2.1
  have hMok := hg.2.2.2.2
  have k60 := zMok_k hMok
  obtain ⟨hp, hX, hw, hD⟩ := id hx
  have hi : sInv P (zcv (pnf P) (pnb P) I 1014) := by rw [hc.1.now]; exact hc.1.si
  have A := F_round_ok hc.1.1 hp hi hX hD (I 25 (v + 1))
  rw [hc.1.now] at A
  obtain ⟨J, e1, e2⟩ := A
  obtain ⟨o1, o2⟩ := e2.off hc.d
  have r25 : J 25 = I 25 := o2 25 (by decide)
  have hm' := hm.off hp o1
  have hi7 : sInv P (zmv2 (pnf P) (pnb P) J) := by rw [hm'.1.2.1]; exact hc.1.si
  have B := F7_round_ok hm'.1.1 hp hi7 hX hw hD (I 25 (v + 1))
  rw [hm'.1.2.1] at B
  obtain ⟨J2, f1, f2, f3, f4⟩ := B
  have hq : q1 (q_round P X (bS b) (I 25 (v + 1))) := by
    unfold q_round
    repeat' (first | exact q1_l | exact q1_r | (apply q1_fa; intro _) | (apply q1_in; intro _) | split)
  have C := F_X0_round_c (n := n) (L := L) (I 25 (v + 1)) k0 k2 hq e1
  have hW : zWI Ln nf xs (n, K, F, J2, qL L (q_round P X (bS b) (I 25 (v + 1)))) := zWI_q hx hg hN' ht hc hm e2 f4 (f3.trans hm'.1.2.1.symm)
  generalize q_round P X (bS b) (I 25 (v + 1)) = q at C f1 f2 hq hW
  cases q with
  | inl r =>
    refine ⟨0, 0, _, ?_, hW, by decide, by decide⟩
    dsimp only [qE] at f2
    simp only [hK, jF, hI, hN, hL, zsFI, zsI, zsF, nI_1, nI_p2, nI_p3, nI_p4, nI_p5, nI_p6, zc1_e, zn2, zpay_1, zpay_0, zpay_e, zb1_e, zb2_e, zg_true, zlet_e, ↓zka_eq k25, ↓zka_eq k60, ↓zka_eq k0, ↓zka_eq k2, hMok, F_X7_thrown, ↓reduceIte, eq_t, zin_0, lg_cmp_0, zu_same, not_true_eq_false, not_false_eq_true, Nat.add_zero, Nat.zero_add, zin_n (show v + 1 < Ln by omega) (show Ln < 2 ^ 31 by omega), nI_c (show v + 1 < 2147483648 by omega), C, qcc, qE, qL, r25, f1, f2, qV]
  | inr c =>
    refine ⟨1, 6, _, ?_, hW, by decide, by decide⟩
    obtain rfl := hq c rfl
    have f2' : J2 1860 1 = 1 := f2
    have e9 : qE (.inr 1) = 1 := rfl
    simp only [hK, jF, hI, hN, hL, zsFI, zsI, zsF, nI_1, nI_p2, nI_p3, nI_p4, nI_p5, nI_p6, zc1_e, zn2, zpay_1, zpay_0, zpay_e, zb1_e, zb2_e, zg_true, zlet_e, ↓zka_eq k25, ↓zka_eq k60, ↓zka_eq k0, ↓zka_eq k2, hMok, F_X7_thrown, ↓reduceIte, eq_t, zin_0, lg_cmp_0, zu_same, not_true_eq_false, not_false_eq_true, Nat.add_zero, Nat.zero_add, zin_n (show v + 1 < Ln by omega) (show Ln < 2 ^ 31 by omega), nI_c (show v + 1 < 2147483648 by omega), C, qcc, e9, qL, r25, f1, f2', qV, n10]
set_option maxHeartbeats 1000000 in
theorem L_op24 (h : zWI Ln nf xs (n, K, F, I, L)) (hv : v + 6 ≤ Ln) (hLn : Ln ≤ 384) : zOK Ln nf xs v (zg (zin (nI v + 1) Ln) (zc1 (F_X0_first 1000 ((hI ((n, K, F, I, L) : zSt)) 25 ((nI v + 1).toNatClampNeg)) 1902 ((n, K, F, I, L) : zSt)) (fun c_696 => zn2 (fun x_694 h_695 => zpay c_696 (zka (hK h_695) 25 64 (fun n_698 => zg (zin (nI v + 1) n_698) (zg (zMok (hK h_695) (jF h_695)) (zka (hK h_695) 1860 6 (fun n_702 => zb2 (F_X7_first ((hI h_695) 25 ((nI v + 1).toNatClampNeg)) (hI h_695)) (fun x_705 I_706 => zlet (zsFI h_695 (jF h_695) I_706) (fun h_707 => zg (zMok (hK h_707) (jF h_707)) (zka (hK h_707) 1860 6 (fun n_710 => zb1 (F_X7_thrown (hI h_707)) (fun x_713 => if x_713 = x_694 then if ¬ x_694 = 0 then zlet (nI v + 6) (fun v4_714 => some ((0, 0), .inl (v4_714, h_707))) else zka (hK h_707) 1902 67 (fun n_716 => zg (zin 0 n_716) (if (lg_cmp ((hL h_707) 1902 0) x_705.toInt64) = 0 then zlet (nI v + 6) (fun v4_719 => some ((0, 0), .inl (v4_719, h_707))) else some ((0, 0), .inr (.inr (0, h_707))))) else some ((0, 0), .inr (.inr (0, h_707))))))))))))))))) := by
  obtain ⟨a, N, P, X, b, m, t, ft, hx, hg, hN', ht, hc, hm⟩ := h
  dsimp only [hN, hK, jF, hI] at hg hN' hc hm
  have k25 : K 25 = some (64, Ln) := (hg.1 25 (by decide)).1
  have k0 := hc.1.1.1
  have k2 := hg.2.2.2.1
  have hMok := hg.2.2.2.2
  have k60 := zMok_k hMok
  obtain ⟨hp, hX, hw, hD⟩ := id hx
  have hi : sInv P (zcv (pnf P) (pnb P) I 1014) := by rw [hc.1.now]; exact hc.1.si
  have A := F_first_ok hc.1.1 hp hi hX (I 25 (v + 1))
  rw [hc.1.now] at A
  obtain ⟨J, e1, e2⟩ : ∃ J, F_X1_first K F 1000 (I 25 (v + 1)) I = some (qC (q_first P X (bS b) (I 25 (v + 1))), J) ∧ zcf a I J := ⟨I, A, zcf.rf⟩
  obtain ⟨o1, o2⟩ := e2.off hc.d
  have r25 : J 25 = I 25 := o2 25 (by decide)
  have hm' := hm.off hp o1
  have hi7 : sInv P (zmv2 (pnf P) (pnb P) J) := by rw [hm'.1.2.1]; exact hc.1.si
  have B := F7_first_ok hm'.1.1 hp hi7 hX hw hD (I 25 (v + 1))
  rw [hm'.1.2.1] at B
  obtain ⟨J2, f1, f2, f3, f4⟩ := B
  have hq : q1 (q_first P X (bS b) (I 25 (v + 1))) := by
    unfold q_first
    repeat' (first | exact q1_l | exact q1_r | (apply q1_fa; intro _) | (apply q1_in; intro _) | split)
  have C := F_X0_first_c (n := n) (L := L) (I 25 (v + 1)) k0 k2 hq e1
  have hW : zWI Ln nf xs (n, K, F, J2, qL L (q_first P X (bS b) (I 25 (v + 1)))) := zWI_q hx hg hN' ht hc hm e2 f4 (f3.trans hm'.1.2.1.symm)
  generalize q_first P X (bS b) (I 25 (v + 1)) = q at C f1 f2 hq hW
  cases q with
  | inl r =>
    refine ⟨0, 0, _, ?_, hW, by decide, by decide⟩
    dsimp only [qE] at f2
    simp only [hK, jF, hI, hN, hL, zsFI, zsI, zsF, nI_1, nI_p2, nI_p3, nI_p4, nI_p5, nI_p6, zc1_e, zn2, zpay_1, zpay_0, zpay_e, zb1_e, zb2_e, zg_true, zlet_e, ↓zka_eq k25, ↓zka_eq k60, ↓zka_eq k0, ↓zka_eq k2, hMok, F_X7_thrown, ↓reduceIte, eq_t, zin_0, lg_cmp_0, zu_same, not_true_eq_false, not_false_eq_true, Nat.add_zero, Nat.zero_add, zin_n (show v + 1 < Ln by omega) (show Ln < 2 ^ 31 by omega), nI_c (show v + 1 < 2147483648 by omega), C, qcc, qE, qL, r25, f1, f2, qV]
  | inr c =>
    refine ⟨1, 6, _, ?_, hW, by decide, by decide⟩
    obtain rfl := hq c rfl
    have f2' : J2 1860 1 = 1 := f2
    have e9 : qE (.inr 1) = 1 := rfl
    simp only [hK, jF, hI, hN, hL, zsFI, zsI, zsF, nI_1, nI_p2, nI_p3, nI_p4, nI_p5, nI_p6, zc1_e, zn2, zpay_1, zpay_0, zpay_e, zb1_e, zb2_e, zg_true, zlet_e, ↓zka_eq k25, ↓zka_eq k60, ↓zka_eq k0, ↓zka_eq k2, hMok, F_X7_thrown, ↓reduceIte, eq_t, zin_0, lg_cmp_0, zu_same, not_true_eq_false, not_false_eq_true, Nat.add_zero, Nat.zero_add, zin_n (show v + 1 < Ln by omega) (show Ln < 2 ^ 31 by omega), nI_c (show v + 1 < 2147483648 by omega), C, qcc, e9, qL, r25, f1, f2', qV, n10]
set_option maxHeartbeats 1000000 in
theorem L_op25 (h : zWI Ln nf xs (n, K, F, I, L)) (hv : v + 6 ≤ Ln) (hLn : Ln ≤ 384) : zOK Ln nf xs v (zg (zin (nI v + 1) Ln) (zg (zin (nI v + 2) Ln) (zg (zin (nI v + 3) Ln) (zc1 (F_X0_meeting 1000 ((hI ((n, K, F, I, L) : zSt)) 25 ((nI v + 1).toNatClampNeg)) ((hI ((n, K, F, I, L) : zSt)) 25 ((nI v + 2).toNatClampNeg)) ((hI ((n, K, F, I, L) : zSt)) 25 ((nI v + 3).toNatClampNeg)) 1902 ((n, K, F, I, L) : zSt)) (fun c_727 => zn2 (fun x_725 h_726 => zpay c_727 (zka (hK h_726) 25 64 (fun n_729 => zg (zin (nI v + 1) n_729) (zg (zin (nI v + 2) n_729) (zg (zin (nI v + 3) n_729) (zg (zMok (hK h_726) (jF h_726)) (zka (hK h_726) 1860 6 (fun n_735 => zb2 (F_X7_meeting ((hI h_726) 25 ((nI v + 1).toNatClampNeg)) ((hI h_726) 25 ((nI v + 2).toNatClampNeg)) ((hI h_726) 25 ((nI v + 3).toNatClampNeg)) (hI h_726)) (fun x_738 I_739 => zlet (zsFI h_726 (jF h_726) I_739) (fun h_740 => zg (zMok (hK h_740) (jF h_740)) (zka (hK h_740) 1860 6 (fun n_743 => zb1 (F_X7_thrown (hI h_740)) (fun x_746 => if x_746 = x_725 then if ¬ x_725 = 0 then zlet (nI v + 6) (fun v4_747 => some ((0, 0), .inl (v4_747, h_740))) else zka (hK h_740) 1902 67 (fun n_749 => zg (zin 0 n_749) (if (lg_cmp ((hL h_740) 1902 0) x_738.toInt64) = 0 then zlet (nI v + 6) (fun v4_752 => some ((0, 0), .inl (v4_752, h_740))) else some ((0, 0), .inr (.inr (0, h_740))))) else some ((0, 0), .inr (.inr (0, h_740))))))))))))))))))))) := by
  obtain ⟨a, N, P, X, b, m, t, ft, hx, hg, hN', ht, hc, hm⟩ := h
  dsimp only [hN, hK, jF, hI] at hg hN' hc hm
  have k25 : K 25 = some (64, Ln) := (hg.1 25 (by decide)).1
  have k0 := hc.1.1.1
  have k2 := hg.2.2.2.1
  have hMok := hg.2.2.2.2
  have k60 := zMok_k hMok
  obtain ⟨hp, hX, hw, hD⟩ := id hx
  have hi : sInv P (zcv (pnf P) (pnb P) I 1014) := by rw [hc.1.now]; exact hc.1.si
  have A := F_meet_ok hc.1.1 hp hX (I 25 (v + 1)) (I 25 (v + 2)) (I 25 (v + 3))
  obtain ⟨J, e1, e2⟩ : ∃ J, F_X1_meeting K F 1000 (I 25 (v + 1)) (I 25 (v + 2)) (I 25 (v + 3)) I = some (qC (q_meet P X (I 25 (v + 1)) (I 25 (v + 2)) (I 25 (v + 3))), J) ∧ zcf a I J := ⟨I, A, zcf.rf⟩
  obtain ⟨o1, o2⟩ := e2.off hc.d
  have r25 : J 25 = I 25 := o2 25 (by decide)
  have hm' := hm.off hp o1
  have hi7 : sInv P (zmv2 (pnf P) (pnb P) J) := by rw [hm'.1.2.1]; exact hc.1.si
  have B := F7_meet_ok hm'.1.1 hp hi7 hX hw hD (I 25 (v + 1)) (I 25 (v + 2)) (I 25 (v + 3))
  rw [hm'.1.2.1] at B
  obtain ⟨J2, f1, f2, f3, f4⟩ := B
  have hq : q1 (q_meet P X (I 25 (v + 1)) (I 25 (v + 2)) (I 25 (v + 3))) := by
    unfold q_meet
    repeat' (first | exact q1_l | exact q1_r | (apply q1_fa; intro _) | (apply q1_in; intro _) | split)
  have C := F_X0_meeting_c (n := n) (L := L) (I 25 (v + 1)) (I 25 (v + 2)) (I 25 (v + 3)) k0 k2 hq e1
  have hW : zWI Ln nf xs (n, K, F, J2, qL L (q_meet P X (I 25 (v + 1)) (I 25 (v + 2)) (I 25 (v + 3)))) := zWI_q hx hg hN' ht hc hm e2 f4 (f3.trans hm'.1.2.1.symm)
  generalize q_meet P X (I 25 (v + 1)) (I 25 (v + 2)) (I 25 (v + 3)) = q at C f1 f2 hq hW
  cases q with
  | inl r =>
    refine ⟨0, 0, _, ?_, hW, by decide, by decide⟩
    dsimp only [qE] at f2
    simp only [hK, jF, hI, hN, hL, zsFI, zsI, zsF, nI_1, nI_p2, nI_p3, nI_p4, nI_p5, nI_p6, zc1_e, zn2, zpay_1, zpay_0, zpay_e, zb1_e, zb2_e, zg_true, zlet_e, ↓zka_eq k25, ↓zka_eq k60, ↓zka_eq k0, ↓zka_eq k2, hMok, F_X7_thrown, ↓reduceIte, eq_t, zin_0, lg_cmp_0, zu_same, not_true_eq_false, not_false_eq_true, Nat.add_zero, Nat.zero_add, zin_n (show v + 1 < Ln by omega) (show Ln < 2 ^ 31 by omega), nI_c (show v + 1 < 2147483648 by omega), zin_n (show v + 2 < Ln by omega) (show Ln < 2 ^ 31 by omega), nI_c (show v + 2 < 2147483648 by omega), zin_n (show v + 3 < Ln by omega) (show Ln < 2 ^ 31 by omega), nI_c (show v + 3 < 2147483648 by omega), C, qcc, qE, qL, r25, f1, f2, qV]
  | inr c =>
    refine ⟨1, 6, _, ?_, hW, by decide, by decide⟩
    obtain rfl := hq c rfl
    have f2' : J2 1860 1 = 1 := f2
    have e9 : qE (.inr 1) = 1 := rfl
    simp only [hK, jF, hI, hN, hL, zsFI, zsI, zsF, nI_1, nI_p2, nI_p3, nI_p4, nI_p5, nI_p6, zc1_e, zn2, zpay_1, zpay_0, zpay_e, zb1_e, zb2_e, zg_true, zlet_e, ↓zka_eq k25, ↓zka_eq k60, ↓zka_eq k0, ↓zka_eq k2, hMok, F_X7_thrown, ↓reduceIte, eq_t, zin_0, lg_cmp_0, zu_same, not_true_eq_false, not_false_eq_true, Nat.add_zero, Nat.zero_add, zin_n (show v + 1 < Ln by omega) (show Ln < 2 ^ 31 by omega), nI_c (show v + 1 < 2147483648 by omega), zin_n (show v + 2 < Ln by omega) (show Ln < 2 ^ 31 by omega), nI_c (show v + 2 < 2147483648 by omega), zin_n (show v + 3 < Ln by omega) (show Ln < 2 ^ 31 by omega), nI_c (show v + 3 < 2147483648 by omega), C, qcc, e9, qL, r25, f1, f2', qV, n10]
set_option maxHeartbeats 1000000 in
theorem L_op26 (h : zWI Ln nf xs (n, K, F, I, L)) (hv : v + 6 ≤ Ln) (hLn : Ln ≤ 384) : zOK Ln nf xs v (zg (zin (nI v + 1) Ln) (zg (zin (nI v + 2) Ln) (zg (zin (nI v + 3) Ln) (zc1 (F_X0_where 1000 ((hI ((n, K, F, I, L) : zSt)) 25 ((nI v + 1).toNatClampNeg)) ((hI ((n, K, F, I, L) : zSt)) 25 ((nI v + 2).toNatClampNeg)) ((hI ((n, K, F, I, L) : zSt)) 25 ((nI v + 3).toNatClampNeg)) 1902 ((n, K, F, I, L) : zSt)) (fun c_760 => zn2 (fun x_758 h_759 => zpay c_760 (zka (hK h_759) 25 64 (fun n_762 => zg (zin (nI v + 1) n_762) (zg (zin (nI v + 2) n_762) (zg (zin (nI v + 3) n_762) (zg (zMok (hK h_759) (jF h_759)) (zka (hK h_759) 1860 6 (fun n_768 => zb2 (F_X7_where ((hI h_759) 25 ((nI v + 1).toNatClampNeg)) ((hI h_759) 25 ((nI v + 2).toNatClampNeg)) ((hI h_759) 25 ((nI v + 3).toNatClampNeg)) (hI h_759)) (fun x_771 I_772 => zlet (zsFI h_759 (jF h_759) I_772) (fun h_773 => zg (zMok (hK h_773) (jF h_773)) (zka (hK h_773) 1860 6 (fun n_776 => zb1 (F_X7_thrown (hI h_773)) (fun x_779 => if x_779 = x_758 then if ¬ x_758 = 0 then zlet (nI v + 6) (fun v4_780 => some ((0, 0), .inl (v4_780, h_773))) else zka (hK h_773) 1902 67 (fun n_782 => zg (zin 0 n_782) (if (lg_cmp ((hL h_773) 1902 0) x_771.toInt64) = 0 then zlet (nI v + 6) (fun v4_785 => some ((0, 0), .inl (v4_785, h_773))) else some ((0, 0), .inr (.inr (0, h_773))))) else some ((0, 0), .inr (.inr (0, h_773))))))))))))))))))))) := by
  obtain ⟨a, N, P, X, b, m, t, ft, hx, hg, hN', ht, hc, hm⟩ := h
  dsimp only [hN, hK, jF, hI] at hg hN' hc hm
  have k25 : K 25 = some (64, Ln) := (hg.1 25 (by decide)).1
  have k0 := hc.1.1.1
  have k2 := hg.2.2.2.1
  have hMok := hg.2.2.2.2
  have k60 := zMok_k hMok
  obtain ⟨hp, hX, hw, hD⟩ := id hx
  have hi : sInv P (zcv (pnf P) (pnb P) I 1014) := by rw [hc.1.now]; exact hc.1.si
  have A := F_where_ok hc.1.1 hp hi (I 25 (v + 1)) (I 25 (v + 2)) (I 25 (v + 3))
  rw [hc.1.now] at A
  obtain ⟨J, e1, e2⟩ := A
  obtain ⟨o1, o2⟩ := e2.off hc.d
  have r25 : J 25 = I 25 := o2 25 (by decide)
  have hm' := hm.off hp o1
  have hi7 : sInv P (zmv2 (pnf P) (pnb P) J) := by rw [hm'.1.2.1]; exact hc.1.si
  have B := F7_where_ok hm'.1.1 hp hi7 (I 25 (v + 1)) (I 25 (v + 2)) (I 25 (v + 3))
  rw [hm'.1.2.1] at B
  obtain ⟨J2, f1, f2, f3, f4⟩ := B
  have hq : q12 (q_where P (bS b) (I 25 (v + 1)) (I 25 (v + 2)) (I 25 (v + 3))) := by
    unfold q_where
    repeat' (first | exact q12_l | exact q12_r1 | exact q12_r2 | (apply q12_fa; intro _) | (apply q12_in1; intro _) | (apply q12_in2; intro _) | (apply q12_i1; intro _) | split)
  have C := F_X0_where_c (n := n) (L := L) (I 25 (v + 1)) (I 25 (v + 2)) (I 25 (v + 3)) k0 k2 hq e1
  have hW : zWI Ln nf xs (n, K, F, J2, qL L (q_where P (bS b) (I 25 (v + 1)) (I 25 (v + 2)) (I 25 (v + 3)))) := zWI_q hx hg hN' ht hc hm e2 f4 (f3.trans hm'.1.2.1.symm)
  generalize q_where P (bS b) (I 25 (v + 1)) (I 25 (v + 2)) (I 25 (v + 3)) = q at C f1 f2 hq hW
  cases q with
  | inl r =>
    refine ⟨0, 0, _, ?_, hW, by decide, by decide⟩
    dsimp only [qE] at f2
    simp only [hK, jF, hI, hN, hL, zsFI, zsI, zsF, nI_1, nI_p2, nI_p3, nI_p4, nI_p5, nI_p6, zc1_e, zn2, zpay_1, zpay_0, zpay_e, zb1_e, zb2_e, zg_true, zlet_e, ↓zka_eq k25, ↓zka_eq k60, ↓zka_eq k0, ↓zka_eq k2, hMok, F_X7_thrown, ↓reduceIte, eq_t, zin_0, lg_cmp_0, zu_same, not_true_eq_false, not_false_eq_true, Nat.add_zero, Nat.zero_add, zin_n (show v + 1 < Ln by omega) (show Ln < 2 ^ 31 by omega), nI_c (show v + 1 < 2147483648 by omega), zin_n (show v + 2 < Ln by omega) (show Ln < 2 ^ 31 by omega), nI_c (show v + 2 < 2147483648 by omega), zin_n (show v + 3 < Ln by omega) (show Ln < 2 ^ 31 by omega), nI_c (show v + 3 < 2147483648 by omega), C, qcc, qE, qL, r25, f1, f2, qV]
  | inr c =>
    refine ⟨1, 6, _, ?_, hW, by decide, by decide⟩
    rcases hq c rfl with rfl | rfl
    · have f2' : J2 1860 1 = 1 := f2
      have e9 : qE (.inr 1) = 1 := rfl
      simp only [hK, jF, hI, hN, hL, zsFI, zsI, zsF, nI_1, nI_p2, nI_p3, nI_p4, nI_p5, nI_p6, zc1_e, zn2, zpay_1, zpay_0, zpay_e, zb1_e, zb2_e, zg_true, zlet_e, ↓zka_eq k25, ↓zka_eq k60, ↓zka_eq k0, ↓zka_eq k2, hMok, F_X7_thrown, ↓reduceIte, eq_t, zin_0, lg_cmp_0, zu_same, not_true_eq_false, not_false_eq_true, Nat.add_zero, Nat.zero_add, zin_n (show v + 1 < Ln by omega) (show Ln < 2 ^ 31 by omega), nI_c (show v + 1 < 2147483648 by omega), zin_n (show v + 2 < Ln by omega) (show Ln < 2 ^ 31 by omega), nI_c (show v + 2 < 2147483648 by omega), zin_n (show v + 3 < Ln by omega) (show Ln < 2 ^ 31 by omega), nI_c (show v + 3 < 2147483648 by omega), C, qcc, e9, qL, r25, f1, f2', qV, n10]
    · have f2' : J2 1860 1 = 2 := f2
      have e9 : qE (.inr 2) = 2 := rfl
      simp only [hK, jF, hI, hN, hL, zsFI, zsI, zsF, nI_1, nI_p2, nI_p3, nI_p4, nI_p5, nI_p6, zc1_e, zn2, zpay_1, zpay_0, zpay_e, zb1_e, zb2_e, zg_true, zlet_e, ↓zka_eq k25, ↓zka_eq k60, ↓zka_eq k0, ↓zka_eq k2, hMok, F_X7_thrown, ↓reduceIte, eq_t, zin_0, lg_cmp_0, zu_same, not_true_eq_false, not_false_eq_true, Nat.add_zero, Nat.zero_add, zin_n (show v + 1 < Ln by omega) (show Ln < 2 ^ 31 by omega), nI_c (show v + 1 < 2147483648 by omega), zin_n (show v + 2 < Ln by omega) (show Ln < 2 ^ 31 by omega), nI_c (show v + 2 < 2147483648 by omega), zin_n (show v + 3 < Ln by omega) (show Ln < 2 ^ 31 by omega), nI_c (show v + 3 < 2147483648 by omega), C, qcc, e9, qL, r25, f1, f2', qV, n20]
set_option maxHeartbeats 1000000 in
theorem L_op27 (h : zWI Ln nf xs (n, K, F, I, L)) (hv : v + 6 ≤ Ln) (hLn : Ln ≤ 384) : zOK Ln nf xs v (zg (zin (nI v + 1) Ln) (zg (zin (nI v + 2) Ln) (zc1 (F_X0_counted 1000 ((hI ((n, K, F, I, L) : zSt)) 25 ((nI v + 1).toNatClampNeg)) ((hI ((n, K, F, I, L) : zSt)) 25 ((nI v + 2).toNatClampNeg)) 1902 ((n, K, F, I, L) : zSt)) (fun c_792 => zn2 (fun x_790 h_791 => zpay c_792 (zka (hK h_791) 25 64 (fun n_794 => zg (zin (nI v + 1) n_794) (zg (zin (nI v + 2) n_794) (zg (zMok (hK h_791) (jF h_791)) (zka (hK h_791) 1860 6 (fun n_799 => zb2 (F_X7_counted ((hI h_791) 25 ((nI v + 1).toNatClampNeg)) ((hI h_791) 25 ((nI v + 2).toNatClampNeg)) (hI h_791)) (fun x_802 I_803 => zlet (zsFI h_791 (jF h_791) I_803) (fun h_804 => zg (zMok (hK h_804) (jF h_804)) (zka (hK h_804) 1860 6 (fun n_807 => zb1 (F_X7_thrown (hI h_804)) (fun x_810 => if x_810 = x_790 then if ¬ x_790 = 0 then zlet (nI v + 6) (fun v4_811 => some ((0, 0), .inl (v4_811, h_804))) else zka (hK h_804) 1902 67 (fun n_813 => zg (zin 0 n_813) (if (lg_cmp ((hL h_804) 1902 0) x_802.toInt64) = 0 then zlet (nI v + 6) (fun v4_816 => some ((0, 0), .inl (v4_816, h_804))) else some ((0, 0), .inr (.inr (0, h_804))))) else some ((0, 0), .inr (.inr (0, h_804))))))))))))))))))) := by
  obtain ⟨a, N, P, X, b, m, t, ft, hx, hg, hN', ht, hc, hm⟩ := h
  dsimp only [hN, hK, jF, hI] at hg hN' hc hm
  have k25 : K 25 = some (64, Ln) := (hg.1 25 (by decide)).1
  have k0 := hc.1.1.1
  have k2 := hg.2.2.2.1
  have hMok := hg.2.2.2.2
  have k60 := zMok_k hMok
  obtain ⟨hp, hX, hw, hD⟩ := id hx
  have hi : sInv P (zcv (pnf P) (pnb P) I 1014) := by rw [hc.1.now]; exact hc.1.si
  have A := F_counted_ok hc.1.1 hp hi (I 25 (v + 1)) (I 25 (v + 2))
  rw [hc.1.now] at A
  obtain ⟨J, e1, e2⟩ := A
  obtain ⟨o1, o2⟩ := e2.off hc.d
  have r25 : J 25 = I 25 := o2 25 (by decide)
  have hm' := hm.off hp o1
  have hi7 : sInv P (zmv2 (pnf P) (pnb P) J) := by rw [hm'.1.2.1]; exact hc.1.si
  have B := F7_counted_ok hm'.1.1 hp hi7 (I 25 (v + 1)) (I 25 (v + 2))
  rw [hm'.1.2.1] at B
  obtain ⟨J2, f1, f2, f3, f4⟩ := B
  have hq : q12 (q_counted P (bS b) (I 25 (v + 1)) (I 25 (v + 2))) := by
    unfold q_counted
    repeat' (first | exact q12_l | exact q12_r1 | exact q12_r2 | (apply q12_fa; intro _) | (apply q12_in1; intro _) | (apply q12_in2; intro _) | (apply q12_i1; intro _) | split)
  have C := F_X0_counted_c (n := n) (L := L) (I 25 (v + 1)) (I 25 (v + 2)) k0 k2 hq e1
  have hW : zWI Ln nf xs (n, K, F, J2, qL L (q_counted P (bS b) (I 25 (v + 1)) (I 25 (v + 2)))) := zWI_q hx hg hN' ht hc hm e2 f4 (f3.trans hm'.1.2.1.symm)
  generalize q_counted P (bS b) (I 25 (v + 1)) (I 25 (v + 2)) = q at C f1 f2 hq hW
  cases q with
  | inl r =>
    refine ⟨0, 0, _, ?_, hW, by decide, by decide⟩
    dsimp only [qE] at f2
    simp only [hK, jF, hI, hN, hL, zsFI, zsI, zsF, nI_1, nI_p2, nI_p3, nI_p4, nI_p5, nI_p6, zc1_e, zn2, zpay_1, zpay_0, zpay_e, zb1_e, zb2_e, zg_true, zlet_e, ↓zka_eq k25, ↓zka_eq k60, ↓zka_eq k0, ↓zka_eq k2, hMok, F_X7_thrown, ↓reduceIte, eq_t, zin_0, lg_cmp_0, zu_same, not_true_eq_false, not_false_eq_true, Nat.add_zero, Nat.zero_add, zin_n (show v + 1 < Ln by omega) (show Ln < 2 ^ 31 by omega), nI_c (show v + 1 < 2147483648 by omega), zin_n (show v + 2 < Ln by omega) (show Ln < 2 ^ 31 by omega), nI_c (show v + 2 < 2147483648 by omega), C, qcc, qE, qL, r25, f1, f2, qV]
  | inr c =>
    refine ⟨1, 6, _, ?_, hW, by decide, by decide⟩
    rcases hq c rfl with rfl | rfl
    · have f2' : J2 1860 1 = 1 := f2
      have e9 : qE (.inr 1) = 1 := rfl
      simp only [hK, jF, hI, hN, hL, zsFI, zsI, zsF, nI_1, nI_p2, nI_p3, nI_p4, nI_p5, nI_p6, zc1_e, zn2, zpay_1, zpay_0, zpay_e, zb1_e, zb2_e, zg_true, zlet_e, ↓zka_eq k25, ↓zka_eq k60, ↓zka_eq k0, ↓zka_eq k2, hMok, F_X7_thrown, ↓reduceIte, eq_t, zin_0, lg_cmp_0, zu_same, not_true_eq_false, not_false_eq_true, Nat.add_zero, Nat.zero_add, zin_n (show v + 1 < Ln by omega) (show Ln < 2 ^ 31 by omega), nI_c (show v + 1 < 2147483648 by omega), zin_n (show v + 2 < Ln by omega) (show Ln < 2 ^ 31 by omega), nI_c (show v + 2 < 2147483648 by omega), C, qcc, e9, qL, r25, f1, f2', qV, n10]
    · have f2' : J2 1860 1 = 2 := f2
      have e9 : qE (.inr 2) = 2 := rfl
      simp only [hK, jF, hI, hN, hL, zsFI, zsI, zsF, nI_1, nI_p2, nI_p3, nI_p4, nI_p5, nI_p6, zc1_e, zn2, zpay_1, zpay_0, zpay_e, zb1_e, zb2_e, zg_true, zlet_e, ↓zka_eq k25, ↓zka_eq k60, ↓zka_eq k0, ↓zka_eq k2, hMok, F_X7_thrown, ↓reduceIte, eq_t, zin_0, lg_cmp_0, zu_same, not_true_eq_false, not_false_eq_true, Nat.add_zero, Nat.zero_add, zin_n (show v + 1 < Ln by omega) (show Ln < 2 ^ 31 by omega), nI_c (show v + 1 < 2147483648 by omega), zin_n (show v + 2 < Ln by omega) (show Ln < 2 ^ 31 by omega), nI_c (show v + 2 < 2147483648 by omega), C, qcc, e9, qL, r25, f1, f2', qV, n20]
set_option maxHeartbeats 1000000 in
theorem L_op29 (h : zWI Ln nf xs (n, K, F, I, L)) (hv : v + 6 ≤ Ln) (hLn : Ln ≤ 384) : zOK Ln nf xs v (zg (zin (nI v + 1) Ln) (zc1 (F_X0_hidden 1000 ((hI ((n, K, F, I, L) : zSt)) 25 ((nI v + 1).toNatClampNeg)) 1902 ((n, K, F, I, L) : zSt)) (fun c_855 => zn2 (fun x_853 h_854 => zpay c_855 (zka (hK h_854) 25 64 (fun n_857 => zg (zin (nI v + 1) n_857) (zg (zMok (hK h_854) (jF h_854)) (zka (hK h_854) 1860 6 (fun n_861 => zb2 (F_X7_hidden ((hI h_854) 25 ((nI v + 1).toNatClampNeg)) (hI h_854)) (fun x_864 I_865 => zlet (zsFI h_854 (jF h_854) I_865) (fun h_866 => zg (zMok (hK h_866) (jF h_866)) (zka (hK h_866) 1860 6 (fun n_869 => zb1 (F_X7_thrown (hI h_866)) (fun x_872 => if x_872 = x_853 then if ¬ x_853 = 0 then zlet (nI v + 6) (fun v4_873 => some ((0, 0), .inl (v4_873, h_866))) else zka (hK h_866) 1902 67 (fun n_875 => zg (zin 0 n_875) (if (lg_cmp ((hL h_866) 1902 0) x_864.toInt64) = 0 then zlet (nI v + 6) (fun v4_878 => some ((0, 0), .inl (v4_878, h_866))) else some ((0, 0), .inr (.inr (0, h_866))))) else some ((0, 0), .inr (.inr (0, h_866))))))))))))))))) := by
  obtain ⟨a, N, P, X, b, m, t, ft, hx, hg, hN', ht, hc, hm⟩ := h
  dsimp only [hN, hK, jF, hI] at hg hN' hc hm
  have k25 : K 25 = some (64, Ln) := (hg.1 25 (by decide)).1
  have k0 := hc.1.1.1
  have k2 := hg.2.2.2.1
  have hMok := hg.2.2.2.2
  have k60 := zMok_k hMok
  obtain ⟨hp, hX, hw, hD⟩ := id hx
  have hi : sInv P (zcv (pnf P) (pnb P) I 1014) := by rw [hc.1.now]; exact hc.1.si
  have A := F_hidden_ok hc.1.1 hp hi (zCB.csp hc.1) hc.1.ok.2 (I 25 (v + 1))
  rw [hc.1.now] at A
  obtain ⟨J, e1, e2⟩ := A
  obtain ⟨o1, o2⟩ := e2.off hc.d
  have r25 : J 25 = I 25 := o2 25 (by decide)
  have hm' := hm.off hp o1
  have hi7 : sInv P (zmv2 (pnf P) (pnb P) J) := by rw [hm'.1.2.1]; exact hc.1.si
  have B := F7_hidden_ok hm'.1.1 hp hi7 hm'.1.2.2.2.2.1 hc.1.ok.2 (I 25 (v + 1))
  rw [hm'.1.2.1] at B
  obtain ⟨J2, f1, f2, f3, f4⟩ := B
  have hq : q1 (q_hidden P (bSp b) (bS b) (I 25 (v + 1))) := by
    unfold q_hidden
    repeat' (first | exact q1_l | exact q1_r | (apply q1_fa; intro _) | (apply q1_in; intro _) | split)
  have C := F_X0_hidden_c (n := n) (L := L) (I 25 (v + 1)) k0 k2 hq e1
  have hW : zWI Ln nf xs (n, K, F, J2, qL L (q_hidden P (bSp b) (bS b) (I 25 (v + 1)))) := zWI_q hx hg hN' ht hc hm e2 f4 (f3.trans hm'.1.2.1.symm)
  generalize q_hidden P (bSp b) (bS b) (I 25 (v + 1)) = q at C f1 f2 hq hW
  cases q with
  | inl r =>
    refine ⟨0, 0, _, ?_, hW, by decide, by decide⟩
    dsimp only [qE] at f2
    simp only [hK, jF, hI, hN, hL, zsFI, zsI, zsF, nI_1, nI_p2, nI_p3, nI_p4, nI_p5, nI_p6, zc1_e, zn2, zpay_1, zpay_0, zpay_e, zb1_e, zb2_e, zg_true, zlet_e, ↓zka_eq k25, ↓zka_eq k60, ↓zka_eq k0, ↓zka_eq k2, hMok, F_X7_thrown, ↓reduceIte, eq_t, zin_0, lg_cmp_0, zu_same, not_true_eq_false, not_false_eq_true, Nat.add_zero, Nat.zero_add, zin_n (show v + 1 < Ln by omega) (show Ln < 2 ^ 31 by omega), nI_c (show v + 1 < 2147483648 by omega), C, qcc, qE, qL, r25, f1, f2, qV]
  | inr c =>
    refine ⟨1, 6, _, ?_, hW, by decide, by decide⟩
    obtain rfl := hq c rfl
    have f2' : J2 1860 1 = 1 := f2
    have e9 : qE (.inr 1) = 1 := rfl
    simp only [hK, jF, hI, hN, hL, zsFI, zsI, zsF, nI_1, nI_p2, nI_p3, nI_p4, nI_p5, nI_p6, zc1_e, zn2, zpay_1, zpay_0, zpay_e, zb1_e, zb2_e, zg_true, zlet_e, ↓zka_eq k25, ↓zka_eq k60, ↓zka_eq k0, ↓zka_eq k2, hMok, F_X7_thrown, ↓reduceIte, eq_t, zin_0, lg_cmp_0, zu_same, not_true_eq_false, not_false_eq_true, Nat.add_zero, Nat.zero_add, zin_n (show v + 1 < Ln by omega) (show Ln < 2 ^ 31 by omega), nI_c (show v + 1 < 2147483648 by omega), C, qcc, e9, qL, r25, f1, f2', qV, n10]
set_option maxHeartbeats 1000000 in
theorem L_op30 (h : zWI Ln nf xs (n, K, F, I, L)) (hv : v + 6 ≤ Ln) (hLn : Ln ≤ 384) : zOK Ln nf xs v (zg (zin (nI v + 1) Ln) (zc1 (F_X0_look 1000 ((hI ((n, K, F, I, L) : zSt)) 25 ((nI v + 1).toNatClampNeg)) 1902 ((n, K, F, I, L) : zSt)) (fun c_884 => zn2 (fun x_882 h_883 => zpay c_884 (zka (hK h_883) 25 64 (fun n_886 => zg (zin (nI v + 1) n_886) (zg (zMok (hK h_883) (jF h_883)) (zka (hK h_883) 1860 6 (fun n_890 => zb2 (F_X7_look ((hI h_883) 25 ((nI v + 1).toNatClampNeg)) (hI h_883)) (fun x_893 I_894 => zlet (zsFI h_883 (jF h_883) I_894) (fun h_895 => zg (zMok (hK h_895) (jF h_895)) (zka (hK h_895) 1860 6 (fun n_898 => zb1 (F_X7_thrown (hI h_895)) (fun x_901 => if x_901 = x_882 then if ¬ x_882 = 0 then zlet (nI v + 6) (fun v4_902 => some ((0, 0), .inl (v4_902, h_895))) else zka (hK h_895) 1902 67 (fun n_904 => zg (zin 0 n_904) (if (lg_cmp ((hL h_895) 1902 0) x_893.toInt64) = 0 then zlet (nI v + 6) (fun v4_907 => some ((0, 0), .inl (v4_907, h_895))) else some ((0, 0), .inr (.inr (0, h_895))))) else some ((0, 0), .inr (.inr (0, h_895))))))))))))))))) := by
  obtain ⟨a, N, P, X, b, m, t, ft, hx, hg, hN', ht, hc, hm⟩ := h
  dsimp only [hN, hK, jF, hI] at hg hN' hc hm
  have k25 : K 25 = some (64, Ln) := (hg.1 25 (by decide)).1
  have k0 := hc.1.1.1
  have k2 := hg.2.2.2.1
  have hMok := hg.2.2.2.2
  have k60 := zMok_k hMok
  obtain ⟨hp, hX, hw, hD⟩ := id hx
  have hi : sInv P (zcv (pnf P) (pnb P) I 1014) := by rw [hc.1.now]; exact hc.1.si
  have A := F_look_ok hc.1.1 hp hi (zCB.csp hc.1) hc.1.ok.2 (I 25 (v + 1))
  rw [hc.1.now] at A
  obtain ⟨J, e1, e2⟩ := A
  obtain ⟨o1, o2⟩ := e2.off hc.d
  have r25 : J 25 = I 25 := o2 25 (by decide)
  have hm' := hm.off hp o1
  have hi7 : sInv P (zmv2 (pnf P) (pnb P) J) := by rw [hm'.1.2.1]; exact hc.1.si
  have B := F7_look_ok hm'.1.1 hp hi7 hm'.1.2.2.2.2.1 hc.1.ok.2 (I 25 (v + 1))
  rw [hm'.1.2.1] at B
  obtain ⟨J2, f1, f2, f3, f4⟩ := B
  have hq : q1 (q_look P (bSp b) (bS b) (I 25 (v + 1))) := by
    unfold q_look
    repeat' (first | exact q1_l | exact q1_r | (apply q1_fa; intro _) | (apply q1_in; intro _) | split)
  have C := F_X0_look_c (n := n) (L := L) (I 25 (v + 1)) k0 k2 hq e1
  have hW : zWI Ln nf xs (n, K, F, J2, qL L (q_look P (bSp b) (bS b) (I 25 (v + 1)))) := zWI_q hx hg hN' ht hc hm e2 f4 (f3.trans hm'.1.2.1.symm)
  generalize q_look P (bSp b) (bS b) (I 25 (v + 1)) = q at C f1 f2 hq hW
  cases q with
  | inl r =>
    refine ⟨0, 0, _, ?_, hW, by decide, by decide⟩
    dsimp only [qE] at f2
    simp only [hK, jF, hI, hN, hL, zsFI, zsI, zsF, nI_1, nI_p2, nI_p3, nI_p4, nI_p5, nI_p6, zc1_e, zn2, zpay_1, zpay_0, zpay_e, zb1_e, zb2_e, zg_true, zlet_e, ↓zka_eq k25, ↓zka_eq k60, ↓zka_eq k0, ↓zka_eq k2, hMok, F_X7_thrown, ↓reduceIte, eq_t, zin_0, lg_cmp_0, zu_same, not_true_eq_false, not_false_eq_true, Nat.add_zero, Nat.zero_add, zin_n (show v + 1 < Ln by omega) (show Ln < 2 ^ 31 by omega), nI_c (show v + 1 < 2147483648 by omega), C, qcc, qE, qL, r25, f1, f2, qV]
  | inr c =>
    refine ⟨1, 6, _, ?_, hW, by decide, by decide⟩
    obtain rfl := hq c rfl
    have f2' : J2 1860 1 = 1 := f2
    have e9 : qE (.inr 1) = 1 := rfl
    simp only [hK, jF, hI, hN, hL, zsFI, zsI, zsF, nI_1, nI_p2, nI_p3, nI_p4, nI_p5, nI_p6, zc1_e, zn2, zpay_1, zpay_0, zpay_e, zb1_e, zb2_e, zg_true, zlet_e, ↓zka_eq k25, ↓zka_eq k60, ↓zka_eq k0, ↓zka_eq k2, hMok, F_X7_thrown, ↓reduceIte, eq_t, zin_0, lg_cmp_0, zu_same, not_true_eq_false, not_false_eq_true, Nat.add_zero, Nat.zero_add, zin_n (show v + 1 < Ln by omega) (show Ln < 2 ^ 31 by omega), nI_c (show v + 1 < 2147483648 by omega), C, qcc, e9, qL, r25, f1, f2', qV, n10]
set_option maxHeartbeats 1000000 in
theorem L_op32 (h : zWI Ln nf xs (n, K, F, I, L)) (hv : v + 6 ≤ Ln) (hLn : Ln ≤ 384) : zOK Ln nf xs v (zg (zin (nI v + 1) Ln) (zg (zin (nI v + 2) Ln) (zg (zin (nI v + 3) Ln) (zg (zin (nI v + 4) Ln) (zg (zin (nI v + 5) Ln) (zc1 (F_X0_game 1000 ((hI ((n, K, F, I, L) : zSt)) 25 ((nI v + 1).toNatClampNeg)) ((hI ((n, K, F, I, L) : zSt)) 25 ((nI v + 2).toNatClampNeg)) ((hI ((n, K, F, I, L) : zSt)) 25 ((nI v + 3).toNatClampNeg)) ((hI ((n, K, F, I, L) : zSt)) 25 ((nI v + 4).toNatClampNeg)) ((hI ((n, K, F, I, L) : zSt)) 25 ((nI v + 5).toNatClampNeg)) 1902 ((n, K, F, I, L) : zSt)) (fun c_932 => zn2 (fun x_930 h_931 => zpay c_932 (zka (hK h_931) 25 64 (fun n_934 => zg (zin (nI v + 1) n_934) (zg (zin (nI v + 2) n_934) (zg (zin (nI v + 3) n_934) (zg (zin (nI v + 4) n_934) (zg (zin (nI v + 5) n_934) (zg (zMok (hK h_931) (jF h_931)) (zka (hK h_931) 1860 6 (fun n_942 => zb2 (F_X7_game ((hI h_931) 25 ((nI v + 1).toNatClampNeg)) ((hI h_931) 25 ((nI v + 2).toNatClampNeg)) ((hI h_931) 25 ((nI v + 3).toNatClampNeg)) ((hI h_931) 25 ((nI v + 4).toNatClampNeg)) ((hI h_931) 25 ((nI v + 5).toNatClampNeg)) (hI h_931)) (fun x_945 I_946 => zlet (zsFI h_931 (jF h_931) I_946) (fun h_947 => zg (zMok (hK h_947) (jF h_947)) (zka (hK h_947) 1860 6 (fun n_950 => zb1 (F_X7_thrown (hI h_947)) (fun x_953 => if x_953 = x_930 then if ¬ x_930 = 0 then zlet (nI v + 6) (fun v4_954 => some ((0, 0), .inl (v4_954, h_947))) else zka (hK h_947) 1902 67 (fun n_956 => zg (zin 0 n_956) (if (lg_cmp ((hL h_947) 1902 0) x_945.toInt64) = 0 then zlet (nI v + 6) (fun v4_959 => some ((0, 0), .inl (v4_959, h_947))) else some ((0, 0), .inr (.inr (0, h_947))))) else some ((0, 0), .inr (.inr (0, h_947))))))))))))))))))))))))) := by
  obtain ⟨a, N, P, X, b, m, t, ft, hx, hg, hN', ht, hc, hm⟩ := h
  dsimp only [hN, hK, jF, hI] at hg hN' hc hm
  have k25 : K 25 = some (64, Ln) := (hg.1 25 (by decide)).1
  have k0 := hc.1.1.1
  have k2 := hg.2.2.2.1
  have hMok := hg.2.2.2.2
  have k60 := zMok_k hMok
  obtain ⟨hp, hX, hw, hD⟩ := id hx
  have hi : sInv P (zcv (pnf P) (pnb P) I 1014) := by rw [hc.1.now]; exact hc.1.si
  have A := F_game_ok hc.1.1 hp hi hX (I 25 (v + 1)) (I 25 (v + 2)) (I 25 (v + 3)) (I 25 (v + 4)) (I 25 (v + 5))
  rw [hc.1.now] at A
  obtain ⟨J, e1, e2⟩ : ∃ J, F_X1_game K F 1000 (I 25 (v + 1)) (I 25 (v + 2)) (I 25 (v + 3)) (I 25 (v + 4)) (I 25 (v + 5)) I = some (qC (q_game P X (bS b) (I 25 (v + 1)) (I 25 (v + 2)) (I 25 (v + 3)) (I 25 (v + 4)) (I 25 (v + 5))), J) ∧ zcf a I J := ⟨I, A, zcf.rf⟩
  obtain ⟨o1, o2⟩ := e2.off hc.d
  have r25 : J 25 = I 25 := o2 25 (by decide)
  have hm' := hm.off hp o1
  have hi7 : sInv P (zmv2 (pnf P) (pnb P) J) := by rw [hm'.1.2.1]; exact hc.1.si
  have B := F7_game_ok hm'.1.1 hp hi7 hX hw hD (I 25 (v + 1)) (I 25 (v + 2)) (I 25 (v + 3)) (I 25 (v + 4)) (I 25 (v + 5))
  rw [hm'.1.2.1] at B
  obtain ⟨J2, f1, f2, f3, f4⟩ := B
  have hq : q12 (q_game P X (bS b) (I 25 (v + 1)) (I 25 (v + 2)) (I 25 (v + 3)) (I 25 (v + 4)) (I 25 (v + 5))) := by
    unfold q_game
    repeat' (first | exact q12_l | exact q12_r1 | exact q12_r2 | (apply q12_fa; intro _) | (apply q12_in1; intro _) | (apply q12_in2; intro _) | (apply q12_i1; intro _) | split)
  have C := F_X0_game_c (n := n) (L := L) (I 25 (v + 1)) (I 25 (v + 2)) (I 25 (v + 3)) (I 25 (v + 4)) (I 25 (v + 5)) k0 k2 hq e1
  have hW : zWI Ln nf xs (n, K, F, J2, qL L (q_game P X (bS b) (I 25 (v + 1)) (I 25 (v + 2)) (I 25 (v + 3)) (I 25 (v + 4)) (I 25 (v + 5)))) := zWI_q hx hg hN' ht hc hm e2 f4 (f3.trans hm'.1.2.1.symm)
  generalize q_game P X (bS b) (I 25 (v + 1)) (I 25 (v + 2)) (I 25 (v + 3)) (I 25 (v + 4)) (I 25 (v + 5)) = q at C f1 f2 hq hW
  cases q with
  | inl r =>
    refine ⟨0, 0, _, ?_, hW, by decide, by decide⟩
    dsimp only [qE] at f2
    simp only [hK, jF, hI, hN, hL, zsFI, zsI, zsF, nI_1, nI_p2, nI_p3, nI_p4, nI_p5, nI_p6, zc1_e, zn2, zpay_1, zpay_0, zpay_e, zb1_e, zb2_e, zg_true, zlet_e, ↓zka_eq k25, ↓zka_eq k60, ↓zka_eq k0, ↓zka_eq k2, hMok, F_X7_thrown, ↓reduceIte, eq_t, zin_0, lg_cmp_0, zu_same, not_true_eq_false, not_false_eq_true, Nat.add_zero, Nat.zero_add, zin_n (show v + 1 < Ln by omega) (show Ln < 2 ^ 31 by omega), nI_c (show v + 1 < 2147483648 by omega), zin_n (show v + 2 < Ln by omega) (show Ln < 2 ^ 31 by omega), nI_c (show v + 2 < 2147483648 by omega), zin_n (show v + 3 < Ln by omega) (show Ln < 2 ^ 31 by omega), nI_c (show v + 3 < 2147483648 by omega), zin_n (show v + 4 < Ln by omega) (show Ln < 2 ^ 31 by omega), nI_c (show v + 4 < 2147483648 by omega), zin_n (show v + 5 < Ln by omega) (show Ln < 2 ^ 31 by omega), nI_c (show v + 5 < 2147483648 by omega), C, qcc, qE, qL, r25, f1, f2, qV]
  | inr c =>
    refine ⟨1, 6, _, ?_, hW, by decide, by decide⟩
    rcases hq c rfl with rfl | rfl
    · have f2' : J2 1860 1 = 1 := f2
      have e9 : qE (.inr 1) = 1 := rfl
      simp only [hK, jF, hI, hN, hL, zsFI, zsI, zsF, nI_1, nI_p2, nI_p3, nI_p4, nI_p5, nI_p6, zc1_e, zn2, zpay_1, zpay_0, zpay_e, zb1_e, zb2_e, zg_true, zlet_e, ↓zka_eq k25, ↓zka_eq k60, ↓zka_eq k0, ↓zka_eq k2, hMok, F_X7_thrown, ↓reduceIte, eq_t, zin_0, lg_cmp_0, zu_same, not_true_eq_false, not_false_eq_true, Nat.add_zero, Nat.zero_add, zin_n (show v + 1 < Ln by omega) (show Ln < 2 ^ 31 by omega), nI_c (show v + 1 < 2147483648 by omega), zin_n (show v + 2 < Ln by omega) (show Ln < 2 ^ 31 by omega), nI_c (show v + 2 < 2147483648 by omega), zin_n (show v + 3 < Ln by omega) (show Ln < 2 ^ 31 by omega), nI_c (show v + 3 < 2147483648 by omega), zin_n (show v + 4 < Ln by omega) (show Ln < 2 ^ 31 by omega), nI_c (show v + 4 < 2147483648 by omega), zin_n (show v + 5 < Ln by omega) (show Ln < 2 ^ 31 by omega), nI_c (show v + 5 < 2147483648 by omega), C, qcc, e9, qL, r25, f1, f2', qV, n10]
    · have f2' : J2 1860 1 = 2 := f2
      have e9 : qE (.inr 2) = 2 := rfl
      simp only [hK, jF, hI, hN, hL, zsFI, zsI, zsF, nI_1, nI_p2, nI_p3, nI_p4, nI_p5, nI_p6, zc1_e, zn2, zpay_1, zpay_0, zpay_e, zb1_e, zb2_e, zg_true, zlet_e, ↓zka_eq k25, ↓zka_eq k60, ↓zka_eq k0, ↓zka_eq k2, hMok, F_X7_thrown, ↓reduceIte, eq_t, zin_0, lg_cmp_0, zu_same, not_true_eq_false, not_false_eq_true, Nat.add_zero, Nat.zero_add, zin_n (show v + 1 < Ln by omega) (show Ln < 2 ^ 31 by omega), nI_c (show v + 1 < 2147483648 by omega), zin_n (show v + 2 < Ln by omega) (show Ln < 2 ^ 31 by omega), nI_c (show v + 2 < 2147483648 by omega), zin_n (show v + 3 < Ln by omega) (show Ln < 2 ^ 31 by omega), nI_c (show v + 3 < 2147483648 by omega), zin_n (show v + 4 < Ln by omega) (show Ln < 2 ^ 31 by omega), nI_c (show v + 4 < 2147483648 by omega), zin_n (show v + 5 < Ln by omega) (show Ln < 2 ^ 31 by omega), nI_c (show v + 5 < 2147483648 by omega), C, qcc, e9, qL, r25, f1, f2', qV, n20]
set_option maxHeartbeats 1000000 in
theorem L_op33 (h : zWI Ln nf xs (n, K, F, I, L)) (hv : v + 6 ≤ Ln) (hLn : Ln ≤ 384) : zOK Ln nf xs v (zg (zin (nI v + 1) Ln) (zg (zin (nI v + 2) Ln) (zg (zin (nI v + 3) Ln) (zc1 (F_X0_winter 1000 ((hI ((n, K, F, I, L) : zSt)) 25 ((nI v + 1).toNatClampNeg)) ((hI ((n, K, F, I, L) : zSt)) 25 ((nI v + 2).toNatClampNeg)) ((hI ((n, K, F, I, L) : zSt)) 25 ((nI v + 3).toNatClampNeg)) 1902 ((n, K, F, I, L) : zSt)) (fun c_967 => zn2 (fun x_965 h_966 => zpay c_967 (zka (hK h_966) 25 64 (fun n_969 => zg (zin (nI v + 1) n_969) (zg (zin (nI v + 2) n_969) (zg (zin (nI v + 3) n_969) (zg (zMok (hK h_966) (jF h_966)) (zka (hK h_966) 1860 6 (fun n_975 => zb2 (F_X7_winter ((hI h_966) 25 ((nI v + 1).toNatClampNeg)) ((hI h_966) 25 ((nI v + 2).toNatClampNeg)) ((hI h_966) 25 ((nI v + 3).toNatClampNeg)) (hI h_966)) (fun x_978 I_979 => zlet (zsFI h_966 (jF h_966) I_979) (fun h_980 => zg (zMok (hK h_980) (jF h_980)) (zka (hK h_980) 1860 6 (fun n_983 => zb1 (F_X7_thrown (hI h_980)) (fun x_986 => if x_986 = x_965 then if ¬ x_965 = 0 then zlet (nI v + 6) (fun v4_987 => some ((0, 0), .inl (v4_987, h_980))) else zka (hK h_980) 1902 67 (fun n_989 => zg (zin 0 n_989) (if (lg_cmp ((hL h_980) 1902 0) x_978.toInt64) = 0 then zlet (nI v + 6) (fun v4_992 => some ((0, 0), .inl (v4_992, h_980))) else some ((0, 0), .inr (.inr (0, h_980))))) else some ((0, 0), .inr (.inr (0, h_980))))))))))))))))))))) := by
  obtain ⟨a, N, P, X, b, m, t, ft, hx, hg, hN', ht, hc, hm⟩ := h
  dsimp only [hN, hK, jF, hI] at hg hN' hc hm
  have k25 : K 25 = some (64, Ln) := (hg.1 25 (by decide)).1
  have k0 := hc.1.1.1
  have k2 := hg.2.2.2.1
  have hMok := hg.2.2.2.2
  have k60 := zMok_k hMok
  obtain ⟨hp, hX, hw, hD⟩ := id hx
  have hi : sInv P (zcv (pnf P) (pnb P) I 1014) := by rw [hc.1.now]; exact hc.1.si
  have A := F_winter_ok hc.1.1 hp hi (I 25 (v + 1)) (I 25 (v + 2)) (I 25 (v + 3))
  rw [hc.1.now] at A
  obtain ⟨J, e1, e2⟩ := A
  obtain ⟨o1, o2⟩ := e2.off hc.d
  have r25 : J 25 = I 25 := o2 25 (by decide)
  have hm' := hm.off hp o1
  have hi7 : sInv P (zmv2 (pnf P) (pnb P) J) := by rw [hm'.1.2.1]; exact hc.1.si
  have B := F7_winter_ok hm'.1.1 hp hi7 (I 25 (v + 1)) (I 25 (v + 2)) (I 25 (v + 3))
  rw [hm'.1.2.1] at B
  obtain ⟨J2, f1, f2, f3, f4⟩ := B
  have hq : q12 (q_winter P (bS b) (I 25 (v + 1)) (I 25 (v + 2)) (I 25 (v + 3))) := by
    unfold q_winter
    repeat' (first | exact q12_l | exact q12_r1 | exact q12_r2 | (apply q12_fa; intro _) | (apply q12_in1; intro _) | (apply q12_in2; intro _) | (apply q12_i1; intro _) | split)
  have C := F_X0_winter_c (n := n) (L := L) (I 25 (v + 1)) (I 25 (v + 2)) (I 25 (v + 3)) k0 k2 hq e1
  have hW : zWI Ln nf xs (n, K, F, J2, qL L (q_winter P (bS b) (I 25 (v + 1)) (I 25 (v + 2)) (I 25 (v + 3)))) := zWI_q hx hg hN' ht hc hm e2 f4 (f3.trans hm'.1.2.1.symm)
  generalize q_winter P (bS b) (I 25 (v + 1)) (I 25 (v + 2)) (I 25 (v + 3)) = q at C f1 f2 hq hW
  cases q with
  | inl r =>
    refine ⟨0, 0, _, ?_, hW, by decide, by decide⟩
    dsimp only [qE] at f2
    simp only [hK, jF, hI, hN, hL, zsFI, zsI, zsF, nI_1, nI_p2, nI_p3, nI_p4, nI_p5, nI_p6, zc1_e, zn2, zpay_1, zpay_0, zpay_e, zb1_e, zb2_e, zg_true, zlet_e, ↓zka_eq k25, ↓zka_eq k60, ↓zka_eq k0, ↓zka_eq k2, hMok, F_X7_thrown, ↓reduceIte, eq_t, zin_0, lg_cmp_0, zu_same, not_true_eq_false, not_false_eq_true, Nat.add_zero, Nat.zero_add, zin_n (show v + 1 < Ln by omega) (show Ln < 2 ^ 31 by omega), nI_c (show v + 1 < 2147483648 by omega), zin_n (show v + 2 < Ln by omega) (show Ln < 2 ^ 31 by omega), nI_c (show v + 2 < 2147483648 by omega), zin_n (show v + 3 < Ln by omega) (show Ln < 2 ^ 31 by omega), nI_c (show v + 3 < 2147483648 by omega), C, qcc, qE, qL, r25, f1, f2, qV]
  | inr c =>
    refine ⟨1, 6, _, ?_, hW, by decide, by decide⟩
    rcases hq c rfl with rfl | rfl
    · have f2' : J2 1860 1 = 1 := f2
      have e9 : qE (.inr 1) = 1 := rfl
      simp only [hK, jF, hI, hN, hL, zsFI, zsI, zsF, nI_1, nI_p2, nI_p3, nI_p4, nI_p5, nI_p6, zc1_e, zn2, zpay_1, zpay_0, zpay_e, zb1_e, zb2_e, zg_true, zlet_e, ↓zka_eq k25, ↓zka_eq k60, ↓zka_eq k0, ↓zka_eq k2, hMok, F_X7_thrown, ↓reduceIte, eq_t, zin_0, lg_cmp_0, zu_same, not_true_eq_false, not_false_eq_true, Nat.add_zero, Nat.zero_add, zin_n (show v + 1 < Ln by omega) (show Ln < 2 ^ 31 by omega), nI_c (show v + 1 < 2147483648 by omega), zin_n (show v + 2 < Ln by omega) (show Ln < 2 ^ 31 by omega), nI_c (show v + 2 < 2147483648 by omega), zin_n (show v + 3 < Ln by omega) (show Ln < 2 ^ 31 by omega), nI_c (show v + 3 < 2147483648 by omega), C, qcc, e9, qL, r25, f1, f2', qV, n10]
    · have f2' : J2 1860 1 = 2 := f2
      have e9 : qE (.inr 2) = 2 := rfl
      simp only [hK, jF, hI, hN, hL, zsFI, zsI, zsF, nI_1, nI_p2, nI_p3, nI_p4, nI_p5, nI_p6, zc1_e, zn2, zpay_1, zpay_0, zpay_e, zb1_e, zb2_e, zg_true, zlet_e, ↓zka_eq k25, ↓zka_eq k60, ↓zka_eq k0, ↓zka_eq k2, hMok, F_X7_thrown, ↓reduceIte, eq_t, zin_0, lg_cmp_0, zu_same, not_true_eq_false, not_false_eq_true, Nat.add_zero, Nat.zero_add, zin_n (show v + 1 < Ln by omega) (show Ln < 2 ^ 31 by omega), nI_c (show v + 1 < 2147483648 by omega), zin_n (show v + 2 < Ln by omega) (show Ln < 2 ^ 31 by omega), nI_c (show v + 2 < 2147483648 by omega), zin_n (show v + 3 < Ln by omega) (show Ln < 2 ^ 31 by omega), nI_c (show v + 3 < 2147483648 by omega), C, qcc, e9, qL, r25, f1, f2', qV, n20]
end L53
