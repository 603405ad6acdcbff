/-! L54: the law's acts, one by one (printed by mkops.py) -/
theorem q1_qa {n : Nat} {x : Int32} {b : zBk} {f : Nat → (Int32 ⊕ Nat) × zBk} (h : ∀ k, q1 (f k).1) : q1 (qa n x b f).1 := by
  unfold qa
  split
  · exact q1_r
  · exact h _
theorem q1_set {b : zBk} {r j : Nat} {c v w : Int32} : q1 (q_set b r j c v w).1 := by
  unfold q_set
  split
  · exact q1_l
  · exact q1_l
theorem wby_rg {w : Int32} {i : Nat} : rg (wby w i) 0 255 := by
  unfold wby rg
  generalize (w >>> (nI (24 - 8 * i) &&& 31)) = x
  have h : (x &&& 255).toBitVec.toNat ≤ 255 := by
    rw [Int32.toBitVec_and, BitVec.toNat_and]
    exact Nat.and_le_right
  have e : (x &&& 255).toInt = (x &&& 255).toBitVec.toNat := by
    rw [← Int32.toInt_toBitVec, BitVec.toInt_eq_toNat_of_lt (by omega)]
  rw [e]
  omega
section L54
variable {K : zKd} {F : zFd} {I : zId} {L : zLd} {n Ln v : Nat} {nf : Nat → Bool} {xs : Nat → Int32}
set_option maxHeartbeats 1000000 in
theorem L_op7 (h : zWI Ln nf xs (n, K, F, I, L)) (hv : v + 6 ≤ Ln) (hLn : Ln ≤ 384) : zOK Ln nf xs v (zg (zin (nI v + 1) Ln) (zg (zin (nI v + 2) Ln) (zc1 (F_X0_move 1000 ((hI ((n, K, F, I, L) : zSt)) 25 ((nI v + 1).toNatClampNeg)) ((hI ((n, K, F, I, L) : zSt)) 25 ((nI v + 2).toNatClampNeg)) 1902 ((n, K, F, I, L) : zSt)) (fun c_215 => zn2 (fun x_213 h_214 => zpay c_215 (zka (hK h_214) 25 64 (fun n_217 => zg (zin (nI v + 1) n_217) (zg (zin (nI v + 2) n_217) (zg (zMok (hK h_214) (jF h_214)) (zka (hK h_214) 1860 6 (fun n_222 => zb2 (F_X7_move ((hI h_214) 25 ((nI v + 1).toNatClampNeg)) ((hI h_214) 25 ((nI v + 2).toNatClampNeg)) (hI h_214)) (fun x_225 I_226 => zlet (zsFI h_214 (jF h_214) I_226) (fun h_227 => zg (zMok (hK h_227) (jF h_227)) (zka (hK h_227) 1860 6 (fun n_230 => zb1 (F_X7_thrown (hI h_227)) (fun x_233 => if x_233 = x_213 then if ¬ x_213 = 0 then zlet (nI v + 6) (fun v4_234 => some ((0, 0), .inl (v4_234, h_227))) else zka (hK h_227) 1902 67 (fun n_236 => zg (zin 0 n_236) (if (lg_cmp ((hL h_227) 1902 0) x_225.toInt64) = 0 then zlet (nI v + 6) (fun v4_239 => some ((0, 0), .inl (v4_239, h_227))) else some ((0, 0), .inr (.inr (0, h_227))))) else some ((0, 0), .inr (.inr (0, h_227))))))))))))))))))) := by
  obtain ⟨a, N, P, X, b, m, t, ft, hx, hg, hN', ht, hc, hm⟩ := h
  dsimp only [hN, hK, jF, hI] at hg hN' hc hm
  have k25 : K 25 = some (64, Ln) := (hg.1 25 (by decide)).1
  have k0 := hc.1.1.1
  have k2 := hg.2.2.2.1
  have hMok := hg.2.2.2.2
  have k60 := zMok_k hMok
  obtain ⟨hp, hX, hw, hD⟩ := id hx
  obtain ⟨F', J, e1, e2, e3, e4⟩ := F_move_ok (n := n) (L := L) hc.1 hp (I 25 (v + 1)) (I 25 (v + 2))
  have hM2 : zMok K F' = true := zMok_cg hMok (e3 _ (by decide))
  obtain ⟨o1, o2⟩ := e4.off hc.d
  have r25 : J 25 = I 25 := o2 25 (by decide)
  have hm' := hm.off hp o1
  obtain ⟨J2, f1, f2, f3, f4⟩ := F7_move_ok hm'.1 hp hc.1.ok hw (I 25 (v + 1)) (I 25 (v + 2))
  have hq : q1 (q_move P X b (I 25 (v + 1)) (I 25 (v + 2))).1 := by
    unfold q_move
    repeat' (first | exact q1_l | exact q1_r | exact q1_set | (apply q1_qa; intro _) | split)
  have C := F_X0_move_c (n := n) (L := L) (I 25 (v + 1)) (I 25 (v + 2)) k0 k2 hq e1
  have hW : zWI Ln nf xs (n, K, F', J2, qL L (q_move P X b (I 25 (v + 1)) (I 25 (v + 2))).1) := zWI_a hx hg hN' ht hc hm e2 e3 e4 f3 f4
  generalize (q_move P X b (I 25 (v + 1)) (I 25 (v + 2))).1 = q at C f1 f2 hq hW
  cases q with
  | inl r =>
    refine ⟨0, 0, _, ?_, hW, by decide, by decide⟩
    dsimp only [qE] at f2
    simp only [hK, jF, hI, hN, hL, zsFI, zsI, zsF, nI_1, nI_p2, nI_p3, nI_p4, nI_p5, nI_p6, zc1_e, zn2, zpay_1, zpay_0, zpay_e, zb1_e, zb2_e, zg_true, zlet_e, ↓zka_eq k25, ↓zka_eq k60, ↓zka_eq k0, ↓zka_eq k2, hMok, F_X7_thrown, ↓reduceIte, eq_t, zin_0, lg_cmp_0, zu_same, not_true_eq_false, not_false_eq_true, Nat.add_zero, Nat.zero_add, zin_n (show v + 1 < Ln by omega) (show Ln < 2 ^ 31 by omega), nI_c (show v + 1 < 2147483648 by omega), zin_n (show v + 2 < Ln by omega) (show Ln < 2 ^ 31 by omega), nI_c (show v + 2 < 2147483648 by omega), ↓zka_eq k0, hM2, C, qcc, qE, qL, r25, f1, f2, qV]
  | inr c =>
    refine ⟨1, 6, _, ?_, hW, by decide, by decide⟩
    obtain rfl := hq c rfl
    have f2' : J2 1860 1 = 1 := f2
    have e9 : qE (.inr 1) = 1 := rfl
    simp only [hK, jF, hI, hN, hL, zsFI, zsI, zsF, nI_1, nI_p2, nI_p3, nI_p4, nI_p5, nI_p6, zc1_e, zn2, zpay_1, zpay_0, zpay_e, zb1_e, zb2_e, zg_true, zlet_e, ↓zka_eq k25, ↓zka_eq k60, ↓zka_eq k0, ↓zka_eq k2, hMok, F_X7_thrown, ↓reduceIte, eq_t, zin_0, lg_cmp_0, zu_same, not_true_eq_false, not_false_eq_true, Nat.add_zero, Nat.zero_add, zin_n (show v + 1 < Ln by omega) (show Ln < 2 ^ 31 by omega), nI_c (show v + 1 < 2147483648 by omega), zin_n (show v + 2 < Ln by omega) (show Ln < 2 ^ 31 by omega), nI_c (show v + 2 < 2147483648 by omega), hM2, C, qcc, e9, qL, r25, f1, f2', qV, n10]
set_option maxHeartbeats 1000000 in
theorem L_op8 (h : zWI Ln nf xs (n, K, F, I, L)) (hv : v + 6 ≤ Ln) (hLn : Ln ≤ 384) : zOK Ln nf xs v (zg (zin (nI v + 1) Ln) (zg (zin (nI v + 2) Ln) (zc1 (F_X0_bows 1000 ((hI ((n, K, F, I, L) : zSt)) 25 ((nI v + 1).toNatClampNeg)) ((hI ((n, K, F, I, L) : zSt)) 25 ((nI v + 2).toNatClampNeg)) 1902 ((n, K, F, I, L) : zSt)) (fun c_246 => zn2 (fun x_244 h_245 => zpay c_246 (zka (hK h_245) 25 64 (fun n_248 => zg (zin (nI v + 1) n_248) (zg (zin (nI v + 2) n_248) (zg (zMok (hK h_245) (jF h_245)) (zka (hK h_245) 1860 6 (fun n_253 => zb2 (F_X7_bows ((hI h_245) 25 ((nI v + 1).toNatClampNeg)) ((hI h_245) 25 ((nI v + 2).toNatClampNeg)) (hI h_245)) (fun x_256 I_257 => zlet (zsFI h_245 (jF h_245) I_257) (fun h_258 => zg (zMok (hK h_258) (jF h_258)) (zka (hK h_258) 1860 6 (fun n_261 => zb1 (F_X7_thrown (hI h_258)) (fun x_264 => if x_264 = x_244 then if ¬ x_244 = 0 then zlet (nI v + 6) (fun v4_265 => some ((0, 0), .inl (v4_265, h_258))) else zka (hK h_258) 1902 67 (fun n_267 => zg (zin 0 n_267) (if (lg_cmp ((hL h_258) 1902 0) x_256.toInt64) = 0 then zlet (nI v + 6) (fun v4_270 => some ((0, 0), .inl (v4_270, h_258))) else some ((0, 0), .inr (.inr (0, h_258))))) else some ((0, 0), .inr (.inr (0, h_258))))))))))))))))))) := by
  obtain ⟨a, N, P, X, b, m, t, ft, hx, hg, hN', ht, hc, hm⟩ := h
  dsimp only [hN, hK, jF, hI] at hg hN' hc hm
  have k25 : K 25 = some (64, Ln) := (hg.1 25 (by decide)).1
  have k0 := hc.1.1.1
  have k2 := hg.2.2.2.1
  have hMok := hg.2.2.2.2
  have k60 := zMok_k hMok
  obtain ⟨hp, hX, hw, hD⟩ := id hx
  obtain ⟨F', J, e1, e2, e3, e4⟩ := F_bows_ok (n := n) (L := L) hc.1 hp (I 25 (v + 1)) (I 25 (v + 2))
  have hM2 : zMok K F' = true := zMok_cg hMok (e3 _ (by decide))
  obtain ⟨o1, o2⟩ := e4.off hc.d
  have r25 : J 25 = I 25 := o2 25 (by decide)
  have hm' := hm.off hp o1
  obtain ⟨J2, f1, f2, f3, f4⟩ := F7_bows_ok hm'.1 hp hc.1.ok (I 25 (v + 1)) (I 25 (v + 2))
  have hq : q1 (q_bows P b (I 25 (v + 1)) (I 25 (v + 2))).1 := by
    unfold q_bows
    repeat' (first | exact q1_l | exact q1_r | exact q1_set | (apply q1_qa; intro _) | split)
  have C := F_X0_bows_c (n := n) (L := L) (I 25 (v + 1)) (I 25 (v + 2)) k0 k2 hq e1
  have hW : zWI Ln nf xs (n, K, F', J2, qL L (q_bows P b (I 25 (v + 1)) (I 25 (v + 2))).1) := zWI_a hx hg hN' ht hc hm e2 e3 e4 f3 f4
  generalize (q_bows P b (I 25 (v + 1)) (I 25 (v + 2))).1 = q at C f1 f2 hq hW
  cases q with
  | inl r =>
    refine ⟨0, 0, _, ?_, hW, by decide, by decide⟩
    dsimp only [qE] at f2
    simp only [hK, jF, hI, hN, hL, zsFI, zsI, zsF, nI_1, nI_p2, nI_p3, nI_p4, nI_p5, nI_p6, zc1_e, zn2, zpay_1, zpay_0, zpay_e, zb1_e, zb2_e, zg_true, zlet_e, ↓zka_eq k25, ↓zka_eq k60, ↓zka_eq k0, ↓zka_eq k2, hMok, F_X7_thrown, ↓reduceIte, eq_t, zin_0, lg_cmp_0, zu_same, not_true_eq_false, not_false_eq_true, Nat.add_zero, Nat.zero_add, zin_n (show v + 1 < Ln by omega) (show Ln < 2 ^ 31 by omega), nI_c (show v + 1 < 2147483648 by omega), zin_n (show v + 2 < Ln by omega) (show Ln < 2 ^ 31 by omega), nI_c (show v + 2 < 2147483648 by omega), ↓zka_eq k0, hM2, C, qcc, qE, qL, r25, f1, f2, qV]
  | inr c =>
    refine ⟨1, 6, _, ?_, hW, by decide, by decide⟩
    obtain rfl := hq c rfl
    have f2' : J2 1860 1 = 1 := f2
    have e9 : qE (.inr 1) = 1 := rfl
    simp only [hK, jF, hI, hN, hL, zsFI, zsI, zsF, nI_1, nI_p2, nI_p3, nI_p4, nI_p5, nI_p6, zc1_e, zn2, zpay_1, zpay_0, zpay_e, zb1_e, zb2_e, zg_true, zlet_e, ↓zka_eq k25, ↓zka_eq k60, ↓zka_eq k0, ↓zka_eq k2, hMok, F_X7_thrown, ↓reduceIte, eq_t, zin_0, lg_cmp_0, zu_same, not_true_eq_false, not_false_eq_true, Nat.add_zero, Nat.zero_add, zin_n (show v + 1 < Ln by omega) (show Ln < 2 ^ 31 by omega), nI_c (show v + 1 < 2147483648 by omega), zin_n (show v + 2 < Ln by omega) (show Ln < 2 ^ 31 by omega), nI_c (show v + 2 < 2147483648 by omega), hM2, C, qcc, e9, qL, r25, f1, f2', qV, n10]
set_option maxHeartbeats 1000000 in
theorem L_op9 (h : zWI Ln nf xs (n, K, F, I, L)) (hv : v + 6 ≤ Ln) (hLn : Ln ≤ 384) : zOK Ln nf xs v (zg (zin (nI v + 1) Ln) (zg (zin (nI v + 2) Ln) (zc1 (F_X0_rest 1000 ((hI ((n, K, F, I, L) : zSt)) 25 ((nI v + 1).toNatClampNeg)) ((hI ((n, K, F, I, L) : zSt)) 25 ((nI v + 2).toNatClampNeg)) 1902 ((n, K, F, I, L) : zSt)) (fun c_277 => zn2 (fun x_275 h_276 => zpay c_277 (zka (hK h_276) 25 64 (fun n_279 => zg (zin (nI v + 1) n_279) (zg (zin (nI v + 2) n_279) (zg (zMok (hK h_276) (jF h_276)) (zka (hK h_276) 1860 6 (fun n_284 => zb2 (F_X7_rest ((hI h_276) 25 ((nI v + 1).toNatClampNeg)) ((hI h_276) 25 ((nI v + 2).toNatClampNeg)) (hI h_276)) (fun x_287 I_288 => zlet (zsFI h_276 (jF h_276) I_288) (fun h_289 => zg (zMok (hK h_289) (jF h_289)) (zka (hK h_289) 1860 6 (fun n_292 => zb1 (F_X7_thrown (hI h_289)) (fun x_295 => if x_295 = x_275 then if ¬ x_275 = 0 then zlet (nI v + 6) (fun v4_296 => some ((0, 0), .inl (v4_296, h_289))) else zka (hK h_289) 1902 67 (fun n_298 => zg (zin 0 n_298) (if (lg_cmp ((hL h_289) 1902 0) x_287.toInt64) = 0 then zlet (nI v + 6) (fun v4_301 => some ((0, 0), .inl (v4_301, h_289))) else some ((0, 0), .inr (.inr (0, h_289))))) else some ((0, 0), .inr (.inr (0, h_289))))))))))))))))))) := by
  obtain ⟨a, N, P, X, b, m, t, ft, hx, hg, hN', ht, hc, hm⟩ := h
  dsimp only [hN, hK, jF, hI] at hg hN' hc hm
  have k25 : K 25 = some (64, Ln) := (hg.1 25 (by decide)).1
  have k0 := hc.1.1.1
  have k2 := hg.2.2.2.1
  have hMok := hg.2.2.2.2
  have k60 := zMok_k hMok
  obtain ⟨hp, hX, hw, hD⟩ := id hx
  obtain ⟨F', J, e1, e2, e3, e4⟩ := F_rest_ok (n := n) (L := L) hc.1 hp (I 25 (v + 1)) (I 25 (v + 2))
  have hM2 : zMok K F' = true := zMok_cg hMok (e3 _ (by decide))
  obtain ⟨o1, o2⟩ := e4.off hc.d
  have r25 : J 25 = I 25 := o2 25 (by decide)
  have hm' := hm.off hp o1
  obtain ⟨J2, f1, f2, f3, f4⟩ := F7_rest_ok hm'.1 hp hc.1.ok (I 25 (v + 1)) (I 25 (v + 2))
  have hq : q1 (q_rest P b (I 25 (v + 1)) (I 25 (v + 2))).1 := by
    unfold q_rest
    repeat' (first | exact q1_l | exact q1_r | exact q1_set | (apply q1_qa; intro _) | split)
  have C := F_X0_rest_c (n := n) (L := L) (I 25 (v + 1)) (I 25 (v + 2)) k0 k2 hq e1
  have hW : zWI Ln nf xs (n, K, F', J2, qL L (q_rest P b (I 25 (v + 1)) (I 25 (v + 2))).1) := zWI_a hx hg hN' ht hc hm e2 e3 e4 f3 f4
  generalize (q_rest P b (I 25 (v + 1)) (I 25 (v + 2))).1 = q at C f1 f2 hq hW
  cases q with
  | inl r =>
    refine ⟨0, 0, _, ?_, hW, by decide, by decide⟩
    dsimp only [qE] at f2
    simp only [hK, jF, hI, hN, hL, zsFI, zsI, zsF, nI_1, nI_p2, nI_p3, nI_p4, nI_p5, nI_p6, zc1_e, zn2, zpay_1, zpay_0, zpay_e, zb1_e, zb2_e, zg_true, zlet_e, ↓zka_eq k25, ↓zka_eq k60, ↓zka_eq k0, ↓zka_eq k2, hMok, F_X7_thrown, ↓reduceIte, eq_t, zin_0, lg_cmp_0, zu_same, not_true_eq_false, not_false_eq_true, Nat.add_zero, Nat.zero_add, zin_n (show v + 1 < Ln by omega) (show Ln < 2 ^ 31 by omega), nI_c (show v + 1 < 2147483648 by omega), zin_n (show v + 2 < Ln by omega) (show Ln < 2 ^ 31 by omega), nI_c (show v + 2 < 2147483648 by omega), ↓zka_eq k0, hM2, C, qcc, qE, qL, r25, f1, f2, qV]
  | inr c =>
    refine ⟨1, 6, _, ?_, hW, by decide, by decide⟩
    obtain rfl := hq c rfl
    have f2' : J2 1860 1 = 1 := f2
    have e9 : qE (.inr 1) = 1 := rfl
    simp only [hK, jF, hI, hN, hL, zsFI, zsI, zsF, nI_1, nI_p2, nI_p3, nI_p4, nI_p5, nI_p6, zc1_e, zn2, zpay_1, zpay_0, zpay_e, zb1_e, zb2_e, zg_true, zlet_e, ↓zka_eq k25, ↓zka_eq k60, ↓zka_eq k0, ↓zka_eq k2, hMok, F_X7_thrown, ↓reduceIte, eq_t, zin_0, lg_cmp_0, zu_same, not_true_eq_false, not_false_eq_true, Nat.add_zero, Nat.zero_add, zin_n (show v + 1 < Ln by omega) (show Ln < 2 ^ 31 by omega), nI_c (show v + 1 < 2147483648 by omega), zin_n (show v + 2 < Ln by omega) (show Ln < 2 ^ 31 by omega), nI_c (show v + 2 < 2147483648 by omega), hM2, C, qcc, e9, qL, r25, f1, f2', qV, n10]
set_option maxHeartbeats 1000000 in
theorem L_op10 (h : zWI Ln nf xs (n, K, F, I, L)) (hv : v + 6 ≤ Ln) (hLn : Ln ≤ 384) : zOK Ln nf xs v (zg (zin (nI v + 1) Ln) (zg (zin (nI v + 2) Ln) (zc1 (F_X0_dye 1000 ((hI ((n, K, F, I, L) : zSt)) 25 ((nI v + 1).toNatClampNeg)) ((hI ((n, K, F, I, L) : zSt)) 25 ((nI v + 2).toNatClampNeg)) 1902 ((n, K, F, I, L) : zSt)) (fun c_308 => zn2 (fun x_306 h_307 => zpay c_308 (zka (hK h_307) 25 64 (fun n_310 => zg (zin (nI v + 1) n_310) (zg (zin (nI v + 2) n_310) (zg (zMok (hK h_307) (jF h_307)) (zka (hK h_307) 1860 6 (fun n_315 => zb2 (F_X7_dye ((hI h_307) 25 ((nI v + 1).toNatClampNeg)) ((hI h_307) 25 ((nI v + 2).toNatClampNeg)) (hI h_307)) (fun x_318 I_319 => zlet (zsFI h_307 (jF h_307) I_319) (fun h_320 => zg (zMok (hK h_320) (jF h_320)) (zka (hK h_320) 1860 6 (fun n_323 => zb1 (F_X7_thrown (hI h_320)) (fun x_326 => if x_326 = x_306 then if ¬ x_306 = 0 then zlet (nI v + 6) (fun v4_327 => some ((0, 0), .inl (v4_327, h_320))) else zka (hK h_320) 1902 67 (fun n_329 => zg (zin 0 n_329) (if (lg_cmp ((hL h_320) 1902 0) x_318.toInt64) = 0 then zlet (nI v + 6) (fun v4_332 => some ((0, 0), .inl (v4_332, h_320))) else some ((0, 0), .inr (.inr (0, h_320))))) else some ((0, 0), .inr (.inr (0, h_320))))))))))))))))))) := by
  obtain ⟨a, N, P, X, b, m, t, ft, hx, hg, hN', ht, hc, hm⟩ := h
  dsimp only [hN, hK, jF, hI] at hg hN' hc hm
  have k25 : K 25 = some (64, Ln) := (hg.1 25 (by decide)).1
  have k0 := hc.1.1.1
  have k2 := hg.2.2.2.1
  have hMok := hg.2.2.2.2
  have k60 := zMok_k hMok
  obtain ⟨hp, hX, hw, hD⟩ := id hx
  obtain ⟨F', J, e1, e2, e3, e4⟩ := F_dye_ok (n := n) (L := L) hc.1 hp (I 25 (v + 1)) (I 25 (v + 2))
  have hM2 : zMok K F' = true := zMok_cg hMok (e3 _ (by decide))
  obtain ⟨o1, o2⟩ := e4.off hc.d
  have r25 : J 25 = I 25 := o2 25 (by decide)
  have hm' := hm.off hp o1
  obtain ⟨J2, f1, f2, f3, f4⟩ := F7_dye_ok hm'.1 hp hc.1.ok (I 25 (v + 1)) (I 25 (v + 2))
  have hq : q1 (q_dye P b (I 25 (v + 1)) (I 25 (v + 2))).1 := by
    unfold q_dye
    repeat' (first | exact q1_l | exact q1_r | exact q1_set | (apply q1_qa; intro _) | split)
  have C := F_X0_dye_c (n := n) (L := L) (I 25 (v + 1)) (I 25 (v + 2)) k0 k2 hq e1
  have hW : zWI Ln nf xs (n, K, F', J2, qL L (q_dye P b (I 25 (v + 1)) (I 25 (v + 2))).1) := zWI_a hx hg hN' ht hc hm e2 e3 e4 f3 f4
  generalize (q_dye P b (I 25 (v + 1)) (I 25 (v + 2))).1 = q at C f1 f2 hq hW
  cases q with
  | inl r =>
    refine ⟨0, 0, _, ?_, hW, by decide, by decide⟩
    dsimp only [qE] at f2
    simp only [hK, jF, hI, hN, hL, zsFI, zsI, zsF, nI_1, nI_p2, nI_p3, nI_p4, nI_p5, nI_p6, zc1_e, zn2, zpay_1, zpay_0, zpay_e, zb1_e, zb2_e, zg_true, zlet_e, ↓zka_eq k25, ↓zka_eq k60, ↓zka_eq k0, ↓zka_eq k2, hMok, F_X7_thrown, ↓reduceIte, eq_t, zin_0, lg_cmp_0, zu_same, not_true_eq_false, not_false_eq_true, Nat.add_zero, Nat.zero_add, zin_n (show v + 1 < Ln by omega) (show Ln < 2 ^ 31 by omega), nI_c (show v + 1 < 2147483648 by omega), zin_n (show v + 2 < Ln by omega) (show Ln < 2 ^ 31 by omega), nI_c (show v + 2 < 2147483648 by omega), ↓zka_eq k0, hM2, C, qcc, qE, qL, r25, f1, f2, qV]
  | inr c =>
    refine ⟨1, 6, _, ?_, hW, by decide, by decide⟩
    obtain rfl := hq c rfl
    have f2' : J2 1860 1 = 1 := f2
    have e9 : qE (.inr 1) = 1 := rfl
    simp only [hK, jF, hI, hN, hL, zsFI, zsI, zsF, nI_1, nI_p2, nI_p3, nI_p4, nI_p5, nI_p6, zc1_e, zn2, zpay_1, zpay_0, zpay_e, zb1_e, zb2_e, zg_true, zlet_e, ↓zka_eq k25, ↓zka_eq k60, ↓zka_eq k0, ↓zka_eq k2, hMok, F_X7_thrown, ↓reduceIte, eq_t, zin_0, lg_cmp_0, zu_same, not_true_eq_false, not_false_eq_true, Nat.add_zero, Nat.zero_add, zin_n (show v + 1 < Ln by omega) (show Ln < 2 ^ 31 by omega), nI_c (show v + 1 < 2147483648 by omega), zin_n (show v + 2 < Ln by omega) (show Ln < 2 ^ 31 by omega), nI_c (show v + 2 < 2147483648 by omega), hM2, C, qcc, e9, qL, r25, f1, f2', qV, n10]
set_option maxHeartbeats 1000000 in
theorem L_op11 (h : zWI Ln nf xs (n, K, F, I, L)) (hv : v + 6 ≤ Ln) (hLn : Ln ≤ 384) : zOK Ln nf xs v (zg (zin (nI v + 1) Ln) (zc1 (F_X0_forgive 1000 ((hI ((n, K, F, I, L) : zSt)) 25 ((nI v + 1).toNatClampNeg)) 1902 ((n, K, F, I, L) : zSt)) (fun c_338 => zn2 (fun x_336 h_337 => zpay c_338 (zka (hK h_337) 25 64 (fun n_340 => zg (zin (nI v + 1) n_340) (zg (zMok (hK h_337) (jF h_337)) (zka (hK h_337) 1860 6 (fun n_344 => zb2 (F_X7_forgive ((hI h_337) 25 ((nI v + 1).toNatClampNeg)) (hI h_337)) (fun x_347 I_348 => zlet (zsFI h_337 (jF h_337) I_348) (fun h_349 => zg (zMok (hK h_349) (jF h_349)) (zka (hK h_349) 1860 6 (fun n_352 => zb1 (F_X7_thrown (hI h_349)) (fun x_355 => if x_355 = x_336 then if ¬ x_336 = 0 then zlet (nI v + 6) (fun v4_356 => some ((0, 0), .inl (v4_356, h_349))) else zka (hK h_349) 1902 67 (fun n_358 => zg (zin 0 n_358) (if (lg_cmp ((hL h_349) 1902 0) x_347.toInt64) = 0 then zlet (nI v + 6) (fun v4_361 => some ((0, 0), .inl (v4_361, h_349))) else some ((0, 0), .inr (.inr (0, h_349))))) else some ((0, 0), .inr (.inr (0, h_349))))))))))))))))) := by
  obtain ⟨a, N, P, X, b, m, t, ft, hx, hg, hN', ht, hc, hm⟩ := h
  dsimp only [hN, hK, jF, hI] at hg hN' hc hm
  have k25 : K 25 = some (64, Ln) := (hg.1 25 (by decide)).1
  have k0 := hc.1.1.1
  have k2 := hg.2.2.2.1
  have hMok := hg.2.2.2.2
  have k60 := zMok_k hMok
  obtain ⟨hp, hX, hw, hD⟩ := id hx
  obtain ⟨F', J, e1, e2, e3, e4⟩ := F_forgive_ok (n := n) (L := L) hc.1 hp (I 25 (v + 1))
  have hM2 : zMok K F' = true := zMok_cg hMok (e3 _ (by decide))
  obtain ⟨o1, o2⟩ := e4.off hc.d
  have r25 : J 25 = I 25 := o2 25 (by decide)
  have hm' := hm.off hp o1
  obtain ⟨J2, f1, f2, f3, f4⟩ := F7_forgive_ok hm'.1 hp hc.1.ok (I 25 (v + 1))
  have hq : q1 (q_forgive P b (I 25 (v + 1))).1 := by
    unfold q_forgive
    repeat' (first | exact q1_l | exact q1_r | exact q1_set | (apply q1_qa; intro _) | split)
  have C := F_X0_forgive_c (n := n) (L := L) (I 25 (v + 1)) k0 k2 hq e1
  have hW : zWI Ln nf xs (n, K, F', J2, qL L (q_forgive P b (I 25 (v + 1))).1) := zWI_a hx hg hN' ht hc hm e2 e3 e4 f3 f4
  generalize (q_forgive P b (I 25 (v + 1))).1 = q at C f1 f2 hq hW
  cases q with
  | inl r =>
    refine ⟨0, 0, _, ?_, hW, by decide, by decide⟩
    dsimp only [qE] at f2
    simp only [hK, jF, hI, hN, hL, zsFI, zsI, zsF, nI_1, nI_p2, nI_p3, nI_p4, nI_p5, nI_p6, zc1_e, zn2, zpay_1, zpay_0, zpay_e, zb1_e, zb2_e, zg_true, zlet_e, ↓zka_eq k25, ↓zka_eq k60, ↓zka_eq k0, ↓zka_eq k2, hMok, F_X7_thrown, ↓reduceIte, eq_t, zin_0, lg_cmp_0, zu_same, not_true_eq_false, not_false_eq_true, Nat.add_zero, Nat.zero_add, zin_n (show v + 1 < Ln by omega) (show Ln < 2 ^ 31 by omega), nI_c (show v + 1 < 2147483648 by omega), ↓zka_eq k0, hM2, C, qcc, qE, qL, r25, f1, f2, qV]
  | inr c =>
    refine ⟨1, 6, _, ?_, hW, by decide, by decide⟩
    obtain rfl := hq c rfl
    have f2' : J2 1860 1 = 1 := f2
    have e9 : qE (.inr 1) = 1 := rfl
    simp only [hK, jF, hI, hN, hL, zsFI, zsI, zsF, nI_1, nI_p2, nI_p3, nI_p4, nI_p5, nI_p6, zc1_e, zn2, zpay_1, zpay_0, zpay_e, zb1_e, zb2_e, zg_true, zlet_e, ↓zka_eq k25, ↓zka_eq k60, ↓zka_eq k0, ↓zka_eq k2, hMok, F_X7_thrown, ↓reduceIte, eq_t, zin_0, lg_cmp_0, zu_same, not_true_eq_false, not_false_eq_true, Nat.add_zero, Nat.zero_add, zin_n (show v + 1 < Ln by omega) (show Ln < 2 ^ 31 by omega), nI_c (show v + 1 < 2147483648 by omega), hM2, C, qcc, e9, qL, r25, f1, f2', qV, n10]
set_option maxHeartbeats 1000000 in
theorem L_op28 (h : zWI Ln nf xs (n, K, F, I, L)) (hv : v + 6 ≤ Ln) (hLn : Ln ≤ 384) : zOK Ln nf xs v (zg (zin (nI v + 1) Ln) (zg (zin (nI v + 2) Ln) (zg (zin (nI v + 3) Ln) (zc1 (F_X0_spy 1000 ((hI ((n, K, F, I, L) : zSt)) 25 ((nI v + 1).toNatClampNeg)) ((hI ((n, K, F, I, L) : zSt)) 25 ((nI v + 2).toNatClampNeg)) ((hI ((n, K, F, I, L) : zSt)) 25 ((nI v + 3).toNatClampNeg)) 1902 ((n, K, F, I, L) : zSt)) (fun c_824 => zn2 (fun x_822 h_823 => zpay c_824 (zka (hK h_823) 25 64 (fun n_826 => zg (zin (nI v + 1) n_826) (zg (zin (nI v + 2) n_826) (zg (zin (nI v + 3) n_826) (zg (zMok (hK h_823) (jF h_823)) (zka (hK h_823) 1860 6 (fun n_832 => zb2 (F_X7_spy ((hI h_823) 25 ((nI v + 1).toNatClampNeg)) ((hI h_823) 25 ((nI v + 2).toNatClampNeg)) ((hI h_823) 25 ((nI v + 3).toNatClampNeg)) (hI h_823)) (fun x_835 I_836 => zlet (zsFI h_823 (jF h_823) I_836) (fun h_837 => zg (zMok (hK h_837) (jF h_837)) (zka (hK h_837) 1860 6 (fun n_840 => zb1 (F_X7_thrown (hI h_837)) (fun x_843 => if x_843 = x_822 then if ¬ x_822 = 0 then zlet (nI v + 6) (fun v4_844 => some ((0, 0), .inl (v4_844, h_837))) else zka (hK h_837) 1902 67 (fun n_846 => zg (zin 0 n_846) (if (lg_cmp ((hL h_837) 1902 0) x_835.toInt64) = 0 then zlet (nI v + 6) (fun v4_849 => some ((0, 0), .inl (v4_849, h_837))) else some ((0, 0), .inr (.inr (0, h_837))))) else some ((0, 0), .inr (.inr (0, h_837))))))))))))))))))))) := by
  obtain ⟨a, N, P, X, b, m, t, ft, hx, hg, hN', ht, hc, hm⟩ := h
  dsimp only [hN, hK, jF, hI] at hg hN' hc hm
  have k25 : K 25 = some (64, Ln) := (hg.1 25 (by decide)).1
  have k0 := hc.1.1.1
  have k2 := hg.2.2.2.1
  have hMok := hg.2.2.2.2
  have k60 := zMok_k hMok
  obtain ⟨hp, hX, hw, hD⟩ := id hx
  obtain ⟨J, e1, e2, e4⟩ := F_spy_ok hc.1 hp (I 25 (v + 1)) (I 25 (v + 2)) (I 25 (v + 3))
  have e3 : ∀ x, x ≠ 1025 → F x = F x := fun _ _ => rfl
  have hM2 := hMok
  obtain ⟨o1, o2⟩ := e4.off hc.d
  have r25 : J 25 = I 25 := o2 25 (by decide)
  have hm' := hm.off hp o1
  obtain ⟨J2, f1, f2, f3, f4⟩ := F7_spy_ok hm'.1 hp hc.1.ok (I 25 (v + 1)) (I 25 (v + 2)) (I 25 (v + 3))
  have hq : q1 (q_spy P b (I 25 (v + 1)) (I 25 (v + 2)) (I 25 (v + 3))).1 := by
    unfold q_spy
    repeat' (first | exact q1_l | exact q1_r | exact q1_set | (apply q1_qa; intro _) | split)
  have C := F_X0_spy_c (n := n) (L := L) (I 25 (v + 1)) (I 25 (v + 2)) (I 25 (v + 3)) k0 k2 hq e1
  have hW : zWI Ln nf xs (n, K, F, J2, qL L (q_spy P b (I 25 (v + 1)) (I 25 (v + 2)) (I 25 (v + 3))).1) := zWI_a hx hg hN' ht hc hm e2 e3 e4 f3 f4
  generalize (q_spy P b (I 25 (v + 1)) (I 25 (v + 2)) (I 25 (v + 3))).1 = q at C f1 f2 hq hW
  cases q with
  | inl r =>
    refine ⟨0, 0, _, ?_, hW, by decide, by decide⟩
    dsimp only [qE] at f2
    simp only [hK, jF, hI, hN, hL, zsFI, zsI, zsF, nI_1, nI_p2, nI_p3, nI_p4, nI_p5, nI_p6, zc1_e, zn2, zpay_1, zpay_0, zpay_e, zb1_e, zb2_e, zg_true, zlet_e, ↓zka_eq k25, ↓zka_eq k60, ↓zka_eq k0, ↓zka_eq k2, hMok, F_X7_thrown, ↓reduceIte, eq_t, zin_0, lg_cmp_0, zu_same, not_true_eq_false, not_false_eq_true, Nat.add_zero, Nat.zero_add, zin_n (show v + 1 < Ln by omega) (show Ln < 2 ^ 31 by omega), nI_c (show v + 1 < 2147483648 by omega), zin_n (show v + 2 < Ln by omega) (show Ln < 2 ^ 31 by omega), nI_c (show v + 2 < 2147483648 by omega), zin_n (show v + 3 < Ln by omega) (show Ln < 2 ^ 31 by omega), nI_c (show v + 3 < 2147483648 by omega), ↓zka_eq k0, hM2, C, qcc, qE, qL, r25, f1, f2, qV]
  | inr c =>
    refine ⟨1, 6, _, ?_, hW, by decide, by decide⟩
    obtain rfl := hq c rfl
    have f2' : J2 1860 1 = 1 := f2
    have e9 : qE (.inr 1) = 1 := rfl
    simp only [hK, jF, hI, hN, hL, zsFI, zsI, zsF, nI_1, nI_p2, nI_p3, nI_p4, nI_p5, nI_p6, zc1_e, zn2, zpay_1, zpay_0, zpay_e, zb1_e, zb2_e, zg_true, zlet_e, ↓zka_eq k25, ↓zka_eq k60, ↓zka_eq k0, ↓zka_eq k2, hMok, F_X7_thrown, ↓reduceIte, eq_t, zin_0, lg_cmp_0, zu_same, not_true_eq_false, not_false_eq_true, Nat.add_zero, Nat.zero_add, zin_n (show v + 1 < Ln by omega) (show Ln < 2 ^ 31 by omega), nI_c (show v + 1 < 2147483648 by omega), zin_n (show v + 2 < Ln by omega) (show Ln < 2 ^ 31 by omega), nI_c (show v + 2 < 2147483648 by omega), zin_n (show v + 3 < Ln by omega) (show Ln < 2 ^ 31 by omega), nI_c (show v + 3 < 2147483648 by omega), hM2, C, qcc, e9, qL, r25, f1, f2', qV, n10]
set_option maxHeartbeats 1000000 in
theorem L_op6 (h : zWI Ln nf xs (n, K, F, I, L)) (hv : v + 6 ≤ Ln) (hLn : Ln ≤ 384) : zOK Ln nf xs v (zg (zin (nI v + 1) Ln) (zka (hK ((n, K, F, I, L) : zSt)) 1000 0 (fun n_190 => zc1 (F_X1_years 1000 ((hI ((n, K, F, I, L) : zSt)) 25 ((nI v + 1).toNatClampNeg)) ((n, K, F, I, L) : zSt)) (fun c_195 => zn2 (fun x_193 h_194 => zpay c_195 (zka (hK h_194) 25 64 (fun n_197 => zg (zin (nI v + 1) n_197) (zg (zMok (hK h_194) (jF h_194)) (zka (hK h_194) 1860 6 (fun n_201 => zb2 (F_X7_years ((hI h_194) 25 ((nI v + 1).toNatClampNeg)) (hI h_194)) (fun x_204 I_205 => zlet (zsFI h_194 (jF h_194) I_205) (fun h_206 => if x_193 = x_204 then zlet (nI v + 6) (fun v4_208 => some ((0, 0), .inl (v4_208, h_206))) else some ((0, 0), .inr (.inr (0, h_206))))))))))))))) := by
  obtain ⟨a, N, P, X, b, m, t, ft, hx, hg, hN', ht, hc, hm⟩ := h
  dsimp only [hN, hK, jF, hI] at hg hN' hc hm
  have k25 : K 25 = some (64, Ln) := (hg.1 25 (by decide)).1
  have k0 := hc.1.1.1
  have k2 := hg.2.2.2.1
  have hMok := hg.2.2.2.2
  have k60 := zMok_k hMok
  obtain ⟨hp, hX, hw, hD⟩ := id hx
  obtain ⟨F', J, e1, e2, e3, e4⟩ := F_years_ok (n := n) (L := L) hc.1 hp (I 25 (v + 1))
  have hM2 : zMok K F' = true := zMok_cg hMok (e3 _ (by decide))
  obtain ⟨o1, o2⟩ := e4.off hc.d
  have r25 : J 25 = I 25 := o2 25 (by decide)
  have hm' := hm.off hp o1
  obtain ⟨J2, f1, f3, f4⟩ := F7_years_ok hm'.1 hp hc.1.ok (I 25 (v + 1))
  have hW : zWI Ln nf xs (n, K, F', J2, L) := zWI_a hx hg hN' ht hc hm e2 e3 e4 f3 f4
  refine ⟨0, 0, _, ?_, hW, by decide, by decide⟩
  simp only [hK, jF, hI, hN, hL, zsFI, zsI, zsF, nI_1, nI_p2, nI_p3, nI_p4, nI_p5, nI_p6, zc1_e, zn2, zpay_1, zpay_0, zpay_e, zb1_e, zb2_e, zg_true, zlet_e, ↓zka_eq k25, ↓zka_eq k60, ↓zka_eq k0, ↓zka_eq k2, hMok, F_X7_thrown, ↓reduceIte, eq_t, zin_0, lg_cmp_0, zu_same, not_true_eq_false, not_false_eq_true, Nat.add_zero, Nat.zero_add, zin_n (show v + 1 < Ln by omega) (show Ln < 2 ^ 31 by omega), nI_c (show v + 1 < 2147483648 by omega), hM2, e1, r25, f1]
set_option maxHeartbeats 1000000 in
theorem L_op12 (h : zWI Ln nf xs (n, K, F, I, L)) (hv : v + 6 ≤ Ln) (hLn : Ln ≤ 384) : zOK Ln nf xs v (zka (hK ((n, K, F, I, L) : zSt)) 1000 0 (fun n_363 => zb2 (F_X1_undo (hK ((n, K, F, I, L) : zSt)) (jF ((n, K, F, I, L) : zSt)) 1000 (hI ((n, K, F, I, L) : zSt))) (fun x_366 I_367 => zlet (zsFI ((n, K, F, I, L) : zSt) (jF ((n, K, F, I, L) : zSt)) I_367) (fun h_368 => zg (zMok (hK h_368) (jF h_368)) (zka (hK h_368) 1860 6 (fun n_371 => zb2 (F_X7_undo (hI h_368)) (fun x_374 I_375 => zlet (zsFI h_368 (jF h_368) I_375) (fun h_376 => if x_366 = x_374 then zlet (nI v + 6) (fun v4_378 => some ((0, 0), .inl (v4_378, h_376))) else some ((0, 0), .inr (.inr (0, h_376))))))))))) := by
  obtain ⟨a, N, P, X, b, m, t, ft, hx, hg, hN', ht, hc, hm⟩ := h
  dsimp only [hN, hK, jF, hI] at hg hN' hc hm
  have k25 : K 25 = some (64, Ln) := (hg.1 25 (by decide)).1
  have k0 := hc.1.1.1
  have k2 := hg.2.2.2.1
  have hMok := hg.2.2.2.2
  have k60 := zMok_k hMok
  obtain ⟨hp, hX, hw, hD⟩ := id hx
  obtain ⟨J, e1, e2, e4⟩ := F_undo_ok hc.1 hp
  obtain ⟨o1, o2⟩ := e4.off hc.d
  have hm' := hm.off hp o1
  obtain ⟨J2, f1, f3, f4⟩ := F7_undo_ok hm'.1 hp hc.1.ok
  have hW : zWI Ln nf xs (n, K, F, J2, L) := zWI_a hx hg hN' ht hc hm e2 (fun _ _ => rfl) e4 f3 f4
  refine ⟨0, 0, _, ?_, hW, by decide, by decide⟩
  simp only [hK, jF, hI, hN, hL, zsFI, zsI, zsF, nI_1, nI_p2, nI_p3, nI_p4, nI_p5, nI_p6, zc1_e, zn2, zpay_1, zpay_0, zpay_e, zb1_e, zb2_e, zg_true, zlet_e, ↓zka_eq k25, ↓zka_eq k60, ↓zka_eq k0, ↓zka_eq k2, hMok, F_X7_thrown, ↓reduceIte, eq_t, zin_0, lg_cmp_0, zu_same, not_true_eq_false, not_false_eq_true, Nat.add_zero, Nat.zero_add, e1, f1]
set_option maxHeartbeats 1000000 in
theorem L_op31 (h : zWI Ln nf xs (n, K, F, I, L)) (hv : v + 6 ≤ Ln) (hLn : Ln ≤ 384) : zOK Ln nf xs v (zka (hK ((n, K, F, I, L) : zSt)) 1000 0 (fun n_909 => zb1 (F_X1_forget (hK ((n, K, F, I, L) : zSt)) (jF ((n, K, F, I, L) : zSt)) 1000 (hI ((n, K, F, I, L) : zSt))) (fun I_912 => zlet (zsFI ((n, K, F, I, L) : zSt) (jF ((n, K, F, I, L) : zSt)) I_912) (fun h_913 => zg (zMok (hK h_913) (jF h_913)) (zka (hK h_913) 1860 6 (fun n_916 => zb1 (F_X7_forget (hI h_913)) (fun I_919 => zlet (zsFI h_913 (jF h_913) I_919) (fun h_920 => zlet (nI v + 6) (fun v4_922 => some ((0, 0), .inl (v4_922, h_920))))))))))) := by
  obtain ⟨a, N, P, X, b, m, t, ft, hx, hg, hN', ht, hc, hm⟩ := h
  dsimp only [hN, hK, jF, hI] at hg hN' hc hm
  have k25 : K 25 = some (64, Ln) := (hg.1 25 (by decide)).1
  have k0 := hc.1.1.1
  have k2 := hg.2.2.2.1
  have hMok := hg.2.2.2.2
  have k60 := zMok_k hMok
  obtain ⟨hp, hX, hw, hD⟩ := id hx
  obtain ⟨J, e1, e2, e4⟩ := F_forget_ok hc.1
  obtain ⟨o1, o2⟩ := e4.off hc.d
  have hm' := hm.off hp o1
  obtain ⟨J2, f1, f3, f4, -⟩ := F7_forget_ok hm'.1 hp
  have hW : zWI Ln nf xs (n, K, F, J2, L) := zWI_a hx hg hN' ht hc hm e2 (fun _ _ => rfl) e4 f3 f4
  refine ⟨0, 0, _, ?_, hW, by decide, by decide⟩
  simp only [hK, jF, hI, hN, hL, zsFI, zsI, zsF, nI_1, nI_p2, nI_p3, nI_p4, nI_p5, nI_p6, zc1_e, zn2, zpay_1, zpay_0, zpay_e, zb1_e, zb2_e, zg_true, zlet_e, ↓zka_eq k25, ↓zka_eq k60, ↓zka_eq k0, ↓zka_eq k2, hMok, F_X7_thrown, ↓reduceIte, eq_t, zin_0, lg_cmp_0, zu_same, not_true_eq_false, not_false_eq_true, Nat.add_zero, Nat.zero_add, e1, f1]
set_option maxHeartbeats 1000000 in
theorem L_op18 (h : zWI Ln nf xs (n, K, F, I, L)) (hv : v + 6 ≤ Ln) (hLn : Ln ≤ 384) : zOK Ln nf xs v (zka (hK ((n, K, F, I, L) : zSt)) 1000 0 (fun n_529 => zb1 (F_X1_blackest (hK ((n, K, F, I, L) : zSt)) (jF ((n, K, F, I, L) : zSt)) 1000 (hI ((n, K, F, I, L) : zSt))) (fun x_532 => zg (zMok (hK ((n, K, F, I, L) : zSt)) (jF ((n, K, F, I, L) : zSt))) (zka (hK ((n, K, F, I, L) : zSt)) 1860 6 (fun n_534 => zb2 (F_X7_blackest (hI ((n, K, F, I, L) : zSt))) (fun x_537 I_538 => zlet (zsFI ((n, K, F, I, L) : zSt) (jF ((n, K, F, I, L) : zSt)) I_538) (fun h_539 => if x_532 = x_537 then zlet (nI v + 6) (fun v4_541 => some ((0, 0), .inl (v4_541, h_539))) else some ((0, 0), .inr (.inr (0, h_539)))))))))) := by
  obtain ⟨a, N, P, X, b, m, t, ft, hx, hg, hN', ht, hc, hm⟩ := h
  dsimp only [hN, hK, jF, hI] at hg hN' hc hm
  have k25 : K 25 = some (64, Ln) := (hg.1 25 (by decide)).1
  have k0 := hc.1.1.1
  have k2 := hg.2.2.2.1
  have hMok := hg.2.2.2.2
  have k60 := zMok_k hMok
  obtain ⟨hp, hX, hw, hD⟩ := id hx
  have hi : sInv P (zcv (pnf P) (pnb P) I 1014) := by rw [hc.1.now]; exact hc.1.si
  have A := F_black_ok hc.1.1 hp hi
  rw [hc.1.now] at A
  have hi7 : sInv P (zmv2 (pnf P) (pnb P) I) := by rw [hm.1.2.1]; exact hc.1.si
  have B := F7_black_ok hm.1.1 hp hi7
  rw [hm.1.2.1] at B
  obtain ⟨J2, f1, f2, f3, f4⟩ := B
  have hW : zWI Ln nf xs (n, K, F, J2, L) := zWI_q hx hg hN' ht hc hm zcf.rf f4 (f3.trans hm.1.2.1.symm)
  refine ⟨0, 0, _, ?_, hW, by decide, by decide⟩
  simp only [hK, jF, hI, hN, hL, zsFI, zsI, zsF, nI_1, nI_p2, nI_p3, nI_p4, nI_p5, nI_p6, zc1_e, zn2, zpay_1, zpay_0, zpay_e, zb1_e, zb2_e, zg_true, zlet_e, ↓zka_eq k25, ↓zka_eq k60, ↓zka_eq k0, ↓zka_eq k2, hMok, F_X7_thrown, ↓reduceIte, eq_t, zin_0, lg_cmp_0, zu_same, not_true_eq_false, not_false_eq_true, Nat.add_zero, Nat.zero_add, A, f1]
set_option maxHeartbeats 1000000 in
theorem L_op2 (h : zWI Ln nf xs (n, K, F, I, L)) (hv : v + 6 ≤ Ln) (hLn : Ln ≤ 384) : zOK Ln nf xs v (zka (hK ((n, K, F, I, L) : zSt)) 1000 0 (fun n_84 => zb1 (F_X1_fault (hK ((n, K, F, I, L) : zSt)) (jF ((n, K, F, I, L) : zSt)) 1000 (hI ((n, K, F, I, L) : zSt))) (fun x_87 => zg (zMok (hK ((n, K, F, I, L) : zSt)) (jF ((n, K, F, I, L) : zSt))) (zka (hK ((n, K, F, I, L) : zSt)) 1860 6 (fun n_89 => zb2 (F_X7_fault (hI ((n, K, F, I, L) : zSt))) (fun x_92 I_93 => zlet (zsFI ((n, K, F, I, L) : zSt) (jF ((n, K, F, I, L) : zSt)) I_93) (fun h_94 => if x_87 = x_92 then zlet (nI v + 6) (fun v4_96 => some ((0, 0), .inl (v4_96, h_94))) else some ((0, 0), .inr (.inr (0, h_94)))))))))) := by
  obtain ⟨a, N, P, X, b, m, t, ft, hx, hg, hN', ht, hc, hm⟩ := h
  dsimp only [hN, hK, jF, hI] at hg hN' hc hm
  have k25 : K 25 = some (64, Ln) := (hg.1 25 (by decide)).1
  have k0 := hc.1.1.1
  have k2 := hg.2.2.2.1
  have hMok := hg.2.2.2.2
  have k60 := zMok_k hMok
  obtain ⟨hp, hX, hw, hD⟩ := id hx
  have A := F_fault_ok hc
  obtain ⟨J2, f1, f3⟩ := F7_fault_ok hp hm
  have j2 : J2 = zu I 1860 1 0 := by
    simp only [F_X7_fault, zlet_e, Option.some.injEq, Prod.mk.injEq] at f1
    exact f1.2.symm
  have hW : zWI Ln nf xs (n, K, F, J2, L) := by
    subst j2
    exact zWI_q hx hg hN' ht hc hm zcf.rf zmf_c1 zmv2_c1
  refine ⟨0, 0, _, ?_, hW, by decide, by decide⟩
  simp only [hK, jF, hI, hN, hL, zsFI, zsI, zsF, nI_1, nI_p2, nI_p3, nI_p4, nI_p5, nI_p6, zc1_e, zn2, zpay_1, zpay_0, zpay_e, zb1_e, zb2_e, zg_true, zlet_e, ↓zka_eq k25, ↓zka_eq k60, ↓zka_eq k0, ↓zka_eq k2, hMok, F_X7_thrown, ↓reduceIte, eq_t, zin_0, lg_cmp_0, zu_same, not_true_eq_false, not_false_eq_true, Nat.add_zero, Nat.zero_add, A, f1]
theorem q_feed_rg {t : zTp} {x0 x1 x2 x3 x4 : Int32} (h : ∀ k, k < t.1 → rg (t.2 k) 0 255) : ∀ k, k < (q_feed t x0 x1 x2 x3 x4).2.1 → rg ((q_feed t x0 x1 x2 x3 x4).2.2 k) 0 255 := by
  intro k hk
  unfold q_feed at hk ⊢
  split at hk
  · rename_i c
    rw [if_pos c]
    show rg (if k < t.1 then t.2 k else wby _ _) 0 255
    by_cases c2 : k < t.1
    · rw [if_pos c2]; exact h k c2
    · rw [if_neg c2]; exact wby_rg
  · rename_i c
    rw [if_neg c]
    exact h k hk
theorem zWI_w {a N : Nat} {P : zP} {X : zXd} {b' : zBk} {m' : Bool × zBk} {t' : zTp} {ft' : Int32} {J J2 : zId} (hx : zPX P X) (hg : zGn Ln nf xs n K F I) (hN : N ≤ n) (ht : ∀ k, k < t'.1 → rg (t'.2 k) 0 255) (hc : zCW K F J a N P X b' m' t' ft') (h7 : zMW J2 P X b' m' t' ft') (e : ∀ x, x < 600 → J x = I x) (e2 : ∀ x, (x < 1860 ∨ 1901 < x) → J2 x = J x) : zWI Ln nf xs (n, K, F, J2, L) := ⟨a, N, P, X, b', m', t', ft', hx, hg.cg (fun _ _ => rfl) (fun x hx => (e2 x (by omega)).trans (e x hx)), hN, ht, hc.off e2, h7⟩
set_option maxHeartbeats 1000000 in
theorem L_op34 (h : zWI Ln nf xs (n, K, F, I, L)) (hv : v + 6 ≤ Ln) (hLn : Ln ≤ 384) : zOK Ln nf xs v (zka (hK ((n, K, F, I, L) : zSt)) 1000 0 (fun n_994 => zb1 (F_X1_image (hK ((n, K, F, I, L) : zSt)) (jF ((n, K, F, I, L) : zSt)) 1000 (hI ((n, K, F, I, L) : zSt))) (fun I_997 => zlet (zsFI ((n, K, F, I, L) : zSt) (jF ((n, K, F, I, L) : zSt)) I_997) (fun h_998 => zg (zMok (hK h_998) (jF h_998)) (zka (hK h_998) 1860 6 (fun n_1001 => zb1 (F_X7_image (hI h_998)) (fun I_1004 => zlet (zsFI h_998 (jF h_998) I_1004) (fun h_1005 => zlet (nI v + 6) (fun v4_1007 => some ((0, 0), .inl (v4_1007, h_1005))))))))))) := by
  obtain ⟨a, N, P, X, b, m, t, ft, hx, hg, hN', ht, hc, hm⟩ := h
  dsimp only [hN, hK, jF, hI] at hg hN' hc hm
  have k25 : K 25 = some (64, Ln) := (hg.1 25 (by decide)).1
  have k0 := hc.1.1.1
  have k2 := hg.2.2.2.1
  have hMok := hg.2.2.2.2
  have k60 := zMok_k hMok
  obtain ⟨hp, hX, hw, hD⟩ := id hx
  obtain ⟨J, e1, e2, o3⟩ := F_image_ok hc hp
  have hm' := hm.off hp fun x p q => o3 x (by omega)
  obtain ⟨J2, f1, f3, f4⟩ := F7_image_ok hp hm' hc.1.ok
  have hW : zWI Ln nf xs (n, K, F, J2, L) := zWI_w (I := I) hx hg hN' ht e2 f3 (fun x hx => o3 x (by omega)) f4
  refine ⟨0, 0, _, ?_, hW, by decide, by decide⟩
  simp only [hK, jF, hI, hN, hL, zsFI, zsI, zsF, nI_1, nI_p2, nI_p3, nI_p4, nI_p5, nI_p6, zc1_e, zn2, zpay_1, zpay_0, zpay_e, zb1_e, zb2_e, zg_true, zlet_e, ↓zka_eq k25, ↓zka_eq k60, ↓zka_eq k0, ↓zka_eq k2, hMok, F_X7_thrown, ↓reduceIte, eq_t, zin_0, lg_cmp_0, zu_same, not_true_eq_false, not_false_eq_true, Nat.add_zero, Nat.zero_add, e1, f1]
set_option maxHeartbeats 1000000 in
theorem L_op35 (h : zWI Ln nf xs (n, K, F, I, L)) (hv : v + 6 ≤ Ln) (hLn : Ln ≤ 384) : zOK Ln nf xs v (zka (hK ((n, K, F, I, L) : zSt)) 1000 0 (fun n_1009 => zb2 (F_X1_restore (hK ((n, K, F, I, L) : zSt)) (jF ((n, K, F, I, L) : zSt)) 1000 (hI ((n, K, F, I, L) : zSt))) (fun x_1012 I_1013 => zlet (zsFI ((n, K, F, I, L) : zSt) (jF ((n, K, F, I, L) : zSt)) I_1013) (fun h_1014 => zg (zMok (hK h_1014) (jF h_1014)) (zka (hK h_1014) 1860 6 (fun n_1017 => zb2 (F_X7_restore (hI h_1014)) (fun x_1020 I_1021 => zlet (zsFI h_1014 (jF h_1014) I_1021) (fun h_1022 => if x_1012 = x_1020 then zlet (nI v + 6) (fun v4_1024 => some ((0, 0), .inl (v4_1024, h_1022))) else some ((0, 0), .inr (.inr (0, h_1022))))))))))) := by
  obtain ⟨a, N, P, X, b, m, t, ft, hx, hg, hN', ht, hc, hm⟩ := h
  dsimp only [hN, hK, jF, hI] at hg hN' hc hm
  have k25 : K 25 = some (64, Ln) := (hg.1 25 (by decide)).1
  have k0 := hc.1.1.1
  have k2 := hg.2.2.2.1
  have hMok := hg.2.2.2.2
  have k60 := zMok_k hMok
  obtain ⟨hp, hX, hw, hD⟩ := id hx
  obtain ⟨J, e1, e2, o3⟩ := F_restore_ok hc hp
  have hm' := hm.off hp fun x p q => o3 x (by omega)
  obtain ⟨J2, f1, f3, f4⟩ := F7_restore_ok hp hm' hc.2.2.2.2.1.2
  have hW : zWI Ln nf xs (n, K, F, J2, L) := zWI_w (I := I) hx hg hN' ht e2 f3 (fun x hx => o3 x (by omega)) f4
  refine ⟨0, 0, _, ?_, hW, by decide, by decide⟩
  simp only [hK, jF, hI, hN, hL, zsFI, zsI, zsF, nI_1, nI_p2, nI_p3, nI_p4, nI_p5, nI_p6, zc1_e, zn2, zpay_1, zpay_0, zpay_e, zb1_e, zb2_e, zg_true, zlet_e, ↓zka_eq k25, ↓zka_eq k60, ↓zka_eq k0, ↓zka_eq k2, hMok, F_X7_thrown, ↓reduceIte, eq_t, zin_0, lg_cmp_0, zu_same, not_true_eq_false, not_false_eq_true, Nat.add_zero, Nat.zero_add, e1, f1]
set_option maxHeartbeats 1000000 in
theorem L_op0 (h : zWI Ln nf xs (n, K, F, I, L)) (hv : v + 6 ≤ Ln) (hLn : Ln ≤ 384) : zOK Ln nf xs v (zg (zin (nI v + 1) Ln) (zg (zin (nI v + 2) Ln) (zg (zin (nI v + 3) Ln) (zg (zin (nI v + 4) Ln) (zg (zin (nI v + 5) Ln) (zka (hK ((n, K, F, I, L) : zSt)) 1000 0 (fun n_31 => zb2 (F_X1_feed (hK ((n, K, F, I, L) : zSt)) (jF ((n, K, F, I, L) : zSt)) 1000 ((hI ((n, K, F, I, L) : zSt)) 25 ((nI v + 1).toNatClampNeg)) ((hI ((n, K, F, I, L) : zSt)) 25 ((nI v + 2).toNatClampNeg)) ((hI ((n, K, F, I, L) : zSt)) 25 ((nI v + 3).toNatClampNeg)) ((hI ((n, K, F, I, L) : zSt)) 25 ((nI v + 4).toNatClampNeg)) ((hI ((n, K, F, I, L) : zSt)) 25 ((nI v + 5).toNatClampNeg)) (hI ((n, K, F, I, L) : zSt))) (fun x_34 I_35 => zlet (zsFI ((n, K, F, I, L) : zSt) (jF ((n, K, F, I, L) : zSt)) I_35) (fun h_36 => zka (hK h_36) 25 64 (fun n_38 => zg (zin (nI v + 1) n_38) (zg (zin (nI v + 2) n_38) (zg (zin (nI v + 3) n_38) (zg (zin (nI v + 4) n_38) (zg (zin (nI v + 5) n_38) (zg (zMok (hK h_36) (jF h_36)) (zka (hK h_36) 1860 6 (fun n_46 => zb2 (F_X7_feed ((hI h_36) 25 ((nI v + 1).toNatClampNeg)) ((hI h_36) 25 ((nI v + 2).toNatClampNeg)) ((hI h_36) 25 ((nI v + 3).toNatClampNeg)) ((hI h_36) 25 ((nI v + 4).toNatClampNeg)) ((hI h_36) 25 ((nI v + 5).toNatClampNeg)) (hI h_36)) (fun x_49 I_50 => zlet (zsFI h_36 (jF h_36) I_50) (fun h_51 => if x_34 = x_49 then zlet (nI v + 6) (fun v4_53 => some ((0, 0), .inl (v4_53, h_51))) else some ((0, 0), .inr (.inr (0, h_51)))))))))))))))))))))) := by
  obtain ⟨a, N, P, X, b, m, t, ft, hx, hg, hN', ht, hc, hm⟩ := h
  dsimp only [hN, hK, jF, hI] at hg hN' hc hm
  have k25 : K 25 = some (64, Ln) := (hg.1 25 (by decide)).1
  have k0 := hc.1.1.1
  have k2 := hg.2.2.2.1
  have hMok := hg.2.2.2.2
  have k60 := zMok_k hMok
  obtain ⟨hp, hX, hw, hD⟩ := id hx
  obtain ⟨J, e1, e2, o3⟩ := F_feed_ok hc (I 25 (v + 1)) (I 25 (v + 2)) (I 25 (v + 3)) (I 25 (v + 4)) (I 25 (v + 5))
  have r25 : J 25 = I 25 := o3 25 (by decide)
  have hm' := hm.off hp fun x p q => o3 x (by omega)
  obtain ⟨J2, f1, f3, f4⟩ := F7_feed_ok hp hm' hc.2.2.2.2.2.1.2.1 (I 25 (v + 1)) (I 25 (v + 2)) (I 25 (v + 3)) (I 25 (v + 4)) (I 25 (v + 5))
  have hW : zWI Ln nf xs (n, K, F, J2, L) := zWI_w (I := I) hx hg hN' (q_feed_rg ht) e2 f3 (fun x hx => o3 x (by omega)) f4
  refine ⟨0, 0, _, ?_, hW, by decide, by decide⟩
  simp only [hK, jF, hI, hN, hL, zsFI, zsI, zsF, nI_1, nI_p2, nI_p3, nI_p4, nI_p5, nI_p6, zc1_e, zn2, zpay_1, zpay_0, zpay_e, zb1_e, zb2_e, zg_true, zlet_e, ↓zka_eq k25, ↓zka_eq k60, ↓zka_eq k0, ↓zka_eq k2, hMok, F_X7_thrown, ↓reduceIte, eq_t, zin_0, lg_cmp_0, zu_same, not_true_eq_false, not_false_eq_true, Nat.add_zero, Nat.zero_add, zin_n (show v + 1 < Ln by omega) (show Ln < 2 ^ 31 by omega), nI_c (show v + 1 < 2147483648 by omega), zin_n (show v + 2 < Ln by omega) (show Ln < 2 ^ 31 by omega), nI_c (show v + 2 < 2147483648 by omega), zin_n (show v + 3 < Ln by omega) (show Ln < 2 ^ 31 by omega), nI_c (show v + 3 < 2147483648 by omega), zin_n (show v + 4 < Ln by omega) (show Ln < 2 ^ 31 by omega), nI_c (show v + 4 < 2147483648 by omega), zin_n (show v + 5 < Ln by omega) (show Ln < 2 ^ 31 by omega), nI_c (show v + 5 < 2147483648 by omega), e1, r25, f1]
theorem L_op36 (h : zWI Ln nf xs (n, K, F, I, L)) : zOK Ln nf xs v (zlet (nI v + 6) (fun v4_1026 => some ((0, 0), .inl (v4_1026, ((n, K, F, I, L) : zSt))))) := ⟨0, 0, _, by simp only [zlet_e, nI_p6], h, by decide, by decide⟩
end L54
