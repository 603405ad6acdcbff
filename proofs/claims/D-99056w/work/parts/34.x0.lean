theorem hcee_X1_band : zCee yX1_band RX1 2 := ⟨rfl, by decide +kernel, by decide +kernel, by decide +kernel⟩
abbrev MX0_band : zM := (RX0, cX0_band, 5, (some .int), "band", [((0 : Nat), (10 : Nat), (13 : Nat), (18 : Nat))])
noncomputable def F_X0_band (a0 : Nat) (a1 : Int32) (a2 : Int32) (a3 : Nat) (h : zSt) : Option ((Nat × Nat) × (Int32 × zSt)) := zka (hK h) a0 0 (fun n_1 => zb2 (F_X1_band (hK h) (jF h) a0 a1 a2 (hI h)) (fun s_4 I_5 => zpay (zxc s_4, zxs s_4) (zlet (zsFI h (jF h) I_5) (fun h_7 => zsum s_4 (fun x_9 => zka (hK h_7) a3 67 (fun n_12 => zg (zin 0 n_12) (zg (decide (600 ≤ a3)) (zlet (zsL h_7 (zu (hL h_7) a3 0 x_9.toInt64)) (fun h_16 => some ((0, 0), (0, h_16))))))) (fun w_10 => zx (decide (w_10.1 = "java/util/NoSuchElementException")) (some ((0, 0), (1, h_7))) (none))))))
set_option maxHeartbeats 1000000 in
theorem C_X0_band {l : Launch} {G : zGt} (htr : l.stackTraces = false) {a0 : Nat} {a1 : Int32} {a2 : Int32} {a3 : Nat} {h : zSt} {cc : Nat × Nat} {r : Int32 × zSt} (hF : F_X0_band a0 a1 a2 a3 h = some (cc, r)) : zMet l G yX0_band (wsW_ yX0_band cX0_band 5 (some .int) [((0 : Nat), (10 : Nat), (13 : Nat), (18 : Nat))]) 1004 24046 (cc.1 + 0) (cc.2 + 0) [.ref a0, .int a1, .int a2, .ref a3] (hK h) (jF h) (hI h) (hL h) (zQe (.inl (some (.int r.1))) (hK r.2) (jF r.2) (hI r.2) (hL r.2)) := by
  refine zMet.ofH (by decide +kernel) htr (Nat.le_of_ble_eq_true rfl) ?_
  change zW l G MX0_band 1004 24046 (cc.1 + 0) (cc.2 + 0) 0 [(0, .ref a0), (1, .int a1), (2, .int a2), (3, .ref a3)] [] (hK h) (jF h) (hI h) (hL h) (zQe (.inl (some (.int r.1))) (hK r.2) (jF r.2) (hI r.2) (hL r.2))
  unfold F_X0_band at hF
  refine z_aload_n (n := 1) dX0_band_0 rfl 3 rfl rfl ?_
  refine z_iconst (n := 2) (v := 0) dX0_band_1 rfl (by decide) ?_
  refine z_aload_n (n := 3) dX0_band_2 rfl 0 rfl rfl ?_
  refine z_iload_n (n := 4) dX0_band_3 rfl 1 rfl rfl ?_
  refine z_iload_n (n := 5) dX0_band_4 rfl 2 rfl rfl ?_
  obtain ⟨n_1, hk_2, hF⟩ := zka_some hF
  obtain ⟨s_4, I_5, c_3, hF⟩ := zb2_some hF
  obtain ⟨cc, hF, hcc⟩ := zpay_some hF
  refine z_payE hcc ?_
  obtain ⟨h_7, e_8, hF⟩ := zlet_ob hF
  rcases zsum_some hF with ⟨x_9, e_6, hF⟩ | ⟨w_10, e_6, hF⟩
  rotate_left
  · first | rw [e_6] at c_3 ⊢ | rw [e_6] at c_3
    rcases zx_some hF with ⟨hx_11, hF⟩ | ⟨hx_11, hF⟩
    · skip
      refine z_cVx (n := 8) (mc2 := (cc.1 + 0)) (ms2 := (cc.2 + 0)) (st := [.int 0, .ref a3]) (C_X1_band htr c_3) dX0_band_5 rfl (lw_V q1417 q1418 q1419 q105 q1420) hcee_X1_band rfl (by decide) hk_2 rfl rfl rfl (Nat.le_of_ble_eq_true rfl) (Nat.le_of_eq (Nat.add_comm _ _)) (Nat.le_of_eq (Nat.add_comm _ _)) ?_
      subst e_8
      refine z_catchP (nm := "java/util/NoSuchElementException") (tpre := []) rfl rfl (by decide) q1362 (by rw [of_decide_eq_true hx_11]; exact q1372) (fun z hz => nomatch hz) dX0_band_13 (by decide) (n := 15) rfl ?_
      refine z_iconst (n := 16) (v := 1) dX0_band_15 rfl (by decide) ?_
      obtain ⟨rfl, rfl⟩ := zpair hF
      exact z_iret dX0_band_16 rfl rfl ⟨rfl, rfl, rfl, rfl, rfl⟩
    cases hF
  first | rw [e_6] at c_3 ⊢ | rw [e_6] at c_3
  refine z_cV (n := 8) (mc2 := (cc.1 + 0)) (ms2 := (cc.2 + 0)) (st := [.int 0, .ref a3]) (C_X1_band htr c_3) dX0_band_5 rfl (lw_V q1417 q1418 q1419 q105 q1420) hcee_X1_band rfl (by decide) hk_2 rfl rfl rfl (Nat.le_of_ble_eq_true rfl) (Nat.le_of_eq (Nat.add_comm _ _)) (Nat.le_of_eq (Nat.add_comm _ _)) ?_
  refine z_toFI e_8 ?_
  refine z_i2l (n := 9) dX0_band_8 rfl ?_
  obtain ⟨n_12, hk_13, hF⟩ := zka_some hF
  obtain ⟨h_14, hF⟩ := zg_some hF
  obtain ⟨hb_15, hF⟩ := zg_some hF
  obtain ⟨h_16, e_17, hF⟩ := zlet_ob hF
  refine z_lastK (n := 10) 0 (by decide) dX0_band_9 rfl hk_13 (zbig hb_15) (zin_ok h_14) ?_
  refine z_toL e_17 ?_
  refine z_goto (t := 17) dX0_band_10 (by decide) ?_
  refine z_iconst (n := 18) (v := 0) dX0_band_17 rfl (by decide) ?_
  obtain ⟨rfl, rfl⟩ := zpair hF
  exact z_iret dX0_band_18 rfl rfl ⟨rfl, rfl, rfl, rfl, rfl⟩
theorem hcee_X1_bows : zCee yX1_bows RX1 2 := ⟨rfl, by decide +kernel, by decide +kernel, by decide +kernel⟩
abbrev MX0_bows : zM := (RX0, cX0_bows, 5, (some .int), "bows", [((0 : Nat), (10 : Nat), (13 : Nat), (18 : Nat))])
noncomputable def F_X0_bows (a0 : Nat) (a1 : Int32) (a2 : Int32) (a3 : Nat) (h : zSt) : Option ((Nat × Nat) × (Int32 × zSt)) := zka (hK h) a0 0 (fun n_1 => zc1 (F_X1_bows a0 a1 a2 h) (fun c_6 => zn2 (fun s_4 h_5 => zpay c_6 (zsum s_4 (fun x_9 => zka (hK h_5) a3 67 (fun n_12 => zg (zin 0 n_12) (zg (decide (600 ≤ a3)) (zlet (zsL h_5 (zu (hL h_5) a3 0 x_9.toInt64)) (fun h_16 => some ((0, 0), (0, h_16))))))) (fun w_10 => zx (decide (w_10.1 = "java/util/NoSuchElementException")) (some ((0, 0), (1, h_5))) (none))))))
set_option maxHeartbeats 1000000 in
theorem C_X0_bows {l : Launch} {G : zGt} (htr : l.stackTraces = false) {a0 : Nat} {a1 : Int32} {a2 : Int32} {a3 : Nat} {h : zSt} {cc : Nat × Nat} {r : Int32 × zSt} (hF : F_X0_bows a0 a1 a2 a3 h = some (cc, r)) : zMet l G yX0_bows (wsW_ yX0_bows cX0_bows 5 (some .int) [((0 : Nat), (10 : Nat), (13 : Nat), (18 : Nat))]) 11 264 (cc.1 + 0) (cc.2 + 0) [.ref a0, .int a1, .int a2, .ref a3] (hK h) (jF h) (hI h) (hL h) (zQe (.inl (some (.int r.1))) (hK r.2) (jF r.2) (hI r.2) (hL r.2)) := by
  refine zMet.ofH (by decide +kernel) htr (Nat.le_of_ble_eq_true rfl) ?_
  change zW l G MX0_bows 11 264 (cc.1 + 0) (cc.2 + 0) 0 [(0, .ref a0), (1, .int a1), (2, .int a2), (3, .ref a3)] [] (hK h) (jF h) (hI h) (hL h) (zQe (.inl (some (.int r.1))) (hK r.2) (jF r.2) (hI r.2) (hL r.2))
  unfold F_X0_bows at hF
  refine z_aload_n (n := 1) dX0_bows_0 rfl 3 rfl rfl ?_
  refine z_iconst (n := 2) (v := 0) dX0_bows_1 rfl (by decide) ?_
  refine z_aload_n (n := 3) dX0_bows_2 rfl 0 rfl rfl ?_
  refine z_iload_n (n := 4) dX0_bows_3 rfl 1 rfl rfl ?_
  refine z_iload_n (n := 5) dX0_bows_4 rfl 2 rfl rfl ?_
  obtain ⟨n_1, hk_2, hF⟩ := zka_some hF
  obtain ⟨c_6, t_7, c_3, hF⟩ := zc1_some hF
  obtain ⟨s_4, h_5⟩ := t_7
  dsimp only [zn2] at hF
  obtain ⟨cc, hF, hcc⟩ := zpay_some hF
  refine z_payE hcc ?_
  rcases zsum_some hF with ⟨x_9, e_8, hF⟩ | ⟨w_10, e_8, hF⟩
  rotate_left
  · first | rw [e_8] at c_3 ⊢ | rw [e_8] at c_3
    rcases zx_some hF with ⟨hx_11, hF⟩ | ⟨hx_11, hF⟩
    · skip
      refine z_cVx (n := 8) (mc2 := (cc.1 + 0)) (ms2 := (cc.2 + 0)) (st := [.int 0, .ref a3]) (C_X1_bows htr c_3) dX0_bows_5 rfl (lw_V q1436 q1437 q1438 q105 q1439) hcee_X1_bows rfl (by decide) hk_2 rfl rfl rfl (Nat.le_of_ble_eq_true rfl) (Nat.le_of_eq (Nat.add_comm _ _)) (Nat.le_of_eq (Nat.add_comm _ _)) ?_
      refine z_catchP (nm := "java/util/NoSuchElementException") (tpre := []) rfl rfl (by decide) q1362 (by rw [of_decide_eq_true hx_11]; exact q1372) (fun z hz => nomatch hz) dX0_bows_13 (by decide) (n := 15) rfl ?_
      refine z_iconst (n := 16) (v := 1) dX0_bows_15 rfl (by decide) ?_
      obtain ⟨rfl, rfl⟩ := zpair hF
      exact z_iret dX0_bows_16 rfl rfl ⟨rfl, rfl, rfl, rfl, rfl⟩
    cases hF
  first | rw [e_8] at c_3 ⊢ | rw [e_8] at c_3
  refine z_cV (n := 8) (mc2 := (cc.1 + 0)) (ms2 := (cc.2 + 0)) (st := [.int 0, .ref a3]) (C_X1_bows htr c_3) dX0_bows_5 rfl (lw_V q1436 q1437 q1438 q105 q1439) hcee_X1_bows rfl (by decide) hk_2 rfl rfl rfl (Nat.le_of_ble_eq_true rfl) (Nat.le_of_eq (Nat.add_comm _ _)) (Nat.le_of_eq (Nat.add_comm _ _)) ?_
  refine z_i2l (n := 9) dX0_bows_8 rfl ?_
  obtain ⟨n_12, hk_13, hF⟩ := zka_some hF
  obtain ⟨h_14, hF⟩ := zg_some hF
  obtain ⟨hb_15, hF⟩ := zg_some hF
  obtain ⟨h_16, e_17, hF⟩ := zlet_ob hF
  refine z_lastK (n := 10) 0 (by decide) dX0_bows_9 rfl hk_13 (zbig hb_15) (zin_ok h_14) ?_
  refine z_toL e_17 ?_
  refine z_goto (t := 17) dX0_bows_10 (by decide) ?_
  refine z_iconst (n := 18) (v := 0) dX0_bows_17 rfl (by decide) ?_
  obtain ⟨rfl, rfl⟩ := zpair hF
  exact z_iret dX0_bows_18 rfl rfl ⟨rfl, rfl, rfl, rfl, rfl⟩
theorem hcee_X1_count : zCee yX1_count RX1 1 := ⟨rfl, by decide +kernel, by decide +kernel, by decide +kernel⟩
abbrev MX0_count : zM := (RX0, cX0_count, 4, (some .int), "count", [((0 : Nat), (9 : Nat), (12 : Nat), (18 : Nat))])
noncomputable def F_X0_count (a0 : Nat) (a1 : Int32) (a2 : Nat) (h : zSt) : Option ((Nat × Nat) × (Int32 × zSt)) := zka (hK h) a0 0 (fun n_1 => zb2 (F_X1_count (hK h) (jF h) a0 a1 (hI h)) (fun s_4 I_5 => zpay (zxc s_4, zxs s_4) (zlet (zsFI h (jF h) I_5) (fun h_7 => zsum s_4 (fun x_9 => zka (hK h_7) a2 67 (fun n_12 => zg (zin 0 n_12) (zg (decide (600 ≤ a2)) (zlet (zsL h_7 (zu (hL h_7) a2 0 x_9.toInt64)) (fun h_16 => some ((0, 0), (0, h_16))))))) (fun w_10 => zx (decide (w_10.1 = "java/util/NoSuchElementException")) (some ((0, 0), (1, h_7))) (none))))))
set_option maxHeartbeats 1000000 in
theorem C_X0_count {l : Launch} {G : zGt} (htr : l.stackTraces = false) {a0 : Nat} {a1 : Int32} {a2 : Nat} {h : zSt} {cc : Nat × Nat} {r : Int32 × zSt} (hF : F_X0_count a0 a1 a2 h = some (cc, r)) : zMet l G yX0_count (wsW_ yX0_count cX0_count 4 (some .int) [((0 : Nat), (9 : Nat), (12 : Nat), (18 : Nat))]) 10 241 (cc.1 + 0) (cc.2 + 0) [.ref a0, .int a1, .ref a2] (hK h) (jF h) (hI h) (hL h) (zQe (.inl (some (.int r.1))) (hK r.2) (jF r.2) (hI r.2) (hL r.2)) := by
  refine zMet.ofH (by decide +kernel) htr (Nat.le_of_ble_eq_true rfl) ?_
  change zW l G MX0_count 10 241 (cc.1 + 0) (cc.2 + 0) 0 [(0, .ref a0), (1, .int a1), (2, .ref a2)] [] (hK h) (jF h) (hI h) (hL h) (zQe (.inl (some (.int r.1))) (hK r.2) (jF r.2) (hI r.2) (hL r.2))
  unfold F_X0_count at hF
  refine z_aload_n (n := 1) dX0_count_0 rfl 2 rfl rfl ?_
  refine z_iconst (n := 2) (v := 0) dX0_count_1 rfl (by decide) ?_
  refine z_aload_n (n := 3) dX0_count_2 rfl 0 rfl rfl ?_
  refine z_iload_n (n := 4) dX0_count_3 rfl 1 rfl rfl ?_
  obtain ⟨n_1, hk_2, hF⟩ := zka_some hF
  obtain ⟨s_4, I_5, c_3, hF⟩ := zb2_some hF
  obtain ⟨cc, hF, hcc⟩ := zpay_some hF
  refine z_payE hcc ?_
  obtain ⟨h_7, e_8, hF⟩ := zlet_ob hF
  rcases zsum_some hF with ⟨x_9, e_6, hF⟩ | ⟨w_10, e_6, hF⟩
  rotate_left
  · first | rw [e_6] at c_3 ⊢ | rw [e_6] at c_3
    rcases zx_some hF with ⟨hx_11, hF⟩ | ⟨hx_11, hF⟩
    · skip
      refine z_cVx (n := 7) (mc2 := (cc.1 + 0)) (ms2 := (cc.2 + 0)) (st := [.int 0, .ref a2]) (C_X1_count htr c_3) dX0_count_4 rfl (lw_V q1363 q1364 q1365 q105 q1366) hcee_X1_count rfl (by decide) hk_2 rfl rfl rfl (Nat.le_of_ble_eq_true rfl) (Nat.le_of_eq (Nat.add_comm _ _)) (Nat.le_of_eq (Nat.add_comm _ _)) ?_
      subst e_8
      refine z_catchO (nm := "java/util/NoSuchElementException") (tpre := []) rfl rfl (by decide) q1362 (by rw [of_decide_eq_true hx_11]; exact q1372) (fun z hz => nomatch hz) dX0_count_12 rfl (by decide) (n := 13) rfl ?_
      refine z_iconst (n := 14) (v := 1) dX0_count_13 rfl (by decide) ?_
      obtain ⟨rfl, rfl⟩ := zpair hF
      exact z_iret dX0_count_14 rfl rfl ⟨rfl, rfl, rfl, rfl, rfl⟩
    cases hF
  first | rw [e_6] at c_3 ⊢ | rw [e_6] at c_3
  refine z_cV (n := 7) (mc2 := (cc.1 + 0)) (ms2 := (cc.2 + 0)) (st := [.int 0, .ref a2]) (C_X1_count htr c_3) dX0_count_4 rfl (lw_V q1363 q1364 q1365 q105 q1366) hcee_X1_count rfl (by decide) hk_2 rfl rfl rfl (Nat.le_of_ble_eq_true rfl) (Nat.le_of_eq (Nat.add_comm _ _)) (Nat.le_of_eq (Nat.add_comm _ _)) ?_
  refine z_toFI e_8 ?_
  refine z_i2l (n := 8) dX0_count_7 rfl ?_
  obtain ⟨n_12, hk_13, hF⟩ := zka_some hF
  obtain ⟨h_14, hF⟩ := zg_some hF
  obtain ⟨hb_15, hF⟩ := zg_some hF
  obtain ⟨h_16, e_17, hF⟩ := zlet_ob hF
  refine z_lastK (n := 9) 0 (by decide) dX0_count_8 rfl hk_13 (zbig hb_15) (zin_ok h_14) ?_
  refine z_toL e_17 ?_
  refine z_goto (t := 15) dX0_count_9 (by decide) ?_
  refine z_iconst (n := 16) (v := 0) dX0_count_15 rfl (by decide) ?_
  obtain ⟨rfl, rfl⟩ := zpair hF
  exact z_iret dX0_count_16 rfl rfl ⟨rfl, rfl, rfl, rfl, rfl⟩
theorem hcee_X1_counted : zCee yX1_counted RX1 2 := ⟨rfl, by decide +kernel, by decide +kernel, by decide +kernel⟩
abbrev MX0_counted : zM := (RX0, cX0_counted, 5, (some .int), "counted", [((0 : Nat), (10 : Nat), (13 : Nat), (18 : Nat)), ((0 : Nat), (10 : Nat), (17 : Nat), (13 : Nat))])
noncomputable def F_X0_counted (a0 : Nat) (a1 : Int32) (a2 : Int32) (a3 : Nat) (h : zSt) : Option ((Nat × Nat) × (Int32 × zSt)) := zka (hK h) a0 0 (fun n_1 => zb2 (F_X1_counted (hK h) (jF h) a0 a1 a2 (hI h)) (fun s_4 I_5 => zpay (zxc s_4, zxs s_4) (zlet (zsFI h (jF h) I_5) (fun h_7 => zsum s_4 (fun x_9 => zka (hK h_7) a3 67 (fun n_13 => zg (zin 0 n_13) (zg (decide (600 ≤ a3)) (zlet (zsL h_7 (zu (hL h_7) a3 0 x_9.toInt64)) (fun h_17 => some ((0, 0), (0, h_17))))))) (fun w_10 => zx (decide (w_10.1 = "java/util/NoSuchElementException")) (some ((0, 0), (1, h_7))) (zx (decide (w_10.1 = "java/lang/IllegalArgumentException")) (some ((0, 0), (2, h_7))) (none)))))))
set_option maxHeartbeats 1000000 in
theorem C_X0_counted {l : Launch} {G : zGt} (htr : l.stackTraces = false) {a0 : Nat} {a1 : Int32} {a2 : Int32} {a3 : Nat} {h : zSt} {cc : Nat × Nat} {r : Int32 × zSt} (hF : F_X0_counted a0 a1 a2 a3 h = some (cc, r)) : zMet l G yX0_counted (wsW_ yX0_counted cX0_counted 5 (some .int) [((0 : Nat), (10 : Nat), (13 : Nat), (18 : Nat)), ((0 : Nat), (10 : Nat), (17 : Nat), (13 : Nat))]) 1008 24140 (cc.1 + 0) (cc.2 + 0) [.ref a0, .int a1, .int a2, .ref a3] (hK h) (jF h) (hI h) (hL h) (zQe (.inl (some (.int r.1))) (hK r.2) (jF r.2) (hI r.2) (hL r.2)) := by
  refine zMet.ofH (by decide +kernel) htr (Nat.le_of_ble_eq_true rfl) ?_
  change zW l G MX0_counted 1008 24140 (cc.1 + 0) (cc.2 + 0) 0 [(0, .ref a0), (1, .int a1), (2, .int a2), (3, .ref a3)] [] (hK h) (jF h) (hI h) (hL h) (zQe (.inl (some (.int r.1))) (hK r.2) (jF r.2) (hI r.2) (hL r.2))
  unfold F_X0_counted at hF
  refine z_aload_n (n := 1) dX0_counted_0 rfl 3 rfl rfl ?_
  refine z_iconst (n := 2) (v := 0) dX0_counted_1 rfl (by decide) ?_
  refine z_aload_n (n := 3) dX0_counted_2 rfl 0 rfl rfl ?_
  refine z_iload_n (n := 4) dX0_counted_3 rfl 1 rfl rfl ?_
  refine z_iload_n (n := 5) dX0_counted_4 rfl 2 rfl rfl ?_
  obtain ⟨n_1, hk_2, hF⟩ := zka_some hF
  obtain ⟨s_4, I_5, c_3, hF⟩ := zb2_some hF
  obtain ⟨cc, hF, hcc⟩ := zpay_some hF
  refine z_payE hcc ?_
  obtain ⟨h_7, e_8, hF⟩ := zlet_ob hF
  rcases zsum_some hF with ⟨x_9, e_6, hF⟩ | ⟨w_10, e_6, hF⟩
  rotate_left
  · first | rw [e_6] at c_3 ⊢ | rw [e_6] at c_3
    rcases zx_some hF with ⟨hx_11, hF⟩ | ⟨hx_11, hF⟩
    · skip
      refine z_cVx (n := 8) (mc2 := (cc.1 + 0)) (ms2 := (cc.2 + 0)) (st := [.int 0, .ref a3]) (C_X1_counted htr c_3) dX0_counted_5 rfl (lw_V q1593 q1594 q1595 q105 q1596) hcee_X1_counted rfl (by decide) hk_2 rfl rfl rfl (Nat.le_of_ble_eq_true rfl) (Nat.le_of_eq (Nat.add_comm _ _)) (Nat.le_of_eq (Nat.add_comm _ _)) ?_
      subst e_8
      refine z_catchP (nm := "java/util/NoSuchElementException") (tpre := []) rfl rfl (by decide) q1362 (by rw [of_decide_eq_true hx_11]; exact q1372) (fun z hz => nomatch hz) dX0_counted_13 (by decide) (n := 15) rfl ?_
      refine z_iconst (n := 16) (v := 1) dX0_counted_15 rfl (by decide) ?_
      obtain ⟨rfl, rfl⟩ := zpair hF
      exact z_iret dX0_counted_16 rfl rfl ⟨rfl, rfl, rfl, rfl, rfl⟩
    rcases zx_some hF with ⟨hx_12, hF⟩ | ⟨hx_12, hF⟩
    · skip
      refine z_cVx (n := 8) (mc2 := (cc.1 + 0)) (ms2 := (cc.2 + 0)) (st := [.int 0, .ref a3]) (C_X1_counted htr c_3) dX0_counted_5 rfl (lw_V q1593 q1594 q1595 q105 q1596) hcee_X1_counted rfl (by decide) hk_2 rfl rfl rfl (Nat.le_of_ble_eq_true rfl) (Nat.le_of_eq (Nat.add_comm _ _)) (Nat.le_of_eq (Nat.add_comm _ _)) ?_
      subst e_8
      refine z_catchP (nm := "java/lang/IllegalArgumentException") (tpre := [(0, 10, 13, 18)]) rfl rfl (by decide) q948 (by rw [of_decide_eq_true hx_12]; exact q177) (fun z hz => by cases List.mem_singleton.mp hz; exact ⟨by decide, of_decide_eq_true hx_12, q1362⟩) dX0_counted_17 (by decide) (n := 19) rfl ?_
      refine z_iconst (n := 20) (v := 2) dX0_counted_19 rfl (by decide) ?_
      obtain ⟨rfl, rfl⟩ := zpair hF
      exact z_iret dX0_counted_20 rfl rfl ⟨rfl, rfl, rfl, rfl, rfl⟩
    cases hF
  first | rw [e_6] at c_3 ⊢ | rw [e_6] at c_3
  refine z_cV (n := 8) (mc2 := (cc.1 + 0)) (ms2 := (cc.2 + 0)) (st := [.int 0, .ref a3]) (C_X1_counted htr c_3) dX0_counted_5 rfl (lw_V q1593 q1594 q1595 q105 q1596) hcee_X1_counted rfl (by decide) hk_2 rfl rfl rfl (Nat.le_of_ble_eq_true rfl) (Nat.le_of_eq (Nat.add_comm _ _)) (Nat.le_of_eq (Nat.add_comm _ _)) ?_
  refine z_toFI e_8 ?_
  refine z_i2l (n := 9) dX0_counted_8 rfl ?_
  obtain ⟨n_13, hk_14, hF⟩ := zka_some hF
  obtain ⟨h_15, hF⟩ := zg_some hF
  obtain ⟨hb_16, hF⟩ := zg_some hF
  obtain ⟨h_17, e_18, hF⟩ := zlet_ob hF
  refine z_lastK (n := 10) 0 (by decide) dX0_counted_9 rfl hk_14 (zbig hb_16) (zin_ok h_15) ?_
  refine z_toL e_18 ?_
  refine z_goto (t := 21) dX0_counted_10 (by decide) ?_
  refine z_iconst (n := 22) (v := 0) dX0_counted_21 rfl (by decide) ?_
  obtain ⟨rfl, rfl⟩ := zpair hF
  exact z_iret dX0_counted_22 rfl rfl ⟨rfl, rfl, rfl, rfl, rfl⟩
theorem hcee_X1_dye : zCee yX1_dye RX1 2 := ⟨rfl, by decide +kernel, by decide +kernel, by decide +kernel⟩
abbrev MX0_dye : zM := (RX0, cX0_dye, 5, (some .int), "dye", [((0 : Nat), (10 : Nat), (13 : Nat), (18 : Nat))])
noncomputable def F_X0_dye (a0 : Nat) (a1 : Int32) (a2 : Int32) (a3 : Nat) (h : zSt) : Option ((Nat × Nat) × (Int32 × zSt)) := zka (hK h) a0 0 (fun n_1 => zc1 (F_X1_dye a0 a1 a2 h) (fun c_6 => zn2 (fun s_4 h_5 => zpay c_6 (zsum s_4 (fun x_9 => zka (hK h_5) a3 67 (fun n_12 => zg (zin 0 n_12) (zg (decide (600 ≤ a3)) (zlet (zsL h_5 (zu (hL h_5) a3 0 x_9.toInt64)) (fun h_16 => some ((0, 0), (0, h_16))))))) (fun w_10 => zx (decide (w_10.1 = "java/util/NoSuchElementException")) (some ((0, 0), (1, h_5))) (none))))))
set_option maxHeartbeats 1000000 in
theorem C_X0_dye {l : Launch} {G : zGt} (htr : l.stackTraces = false) {a0 : Nat} {a1 : Int32} {a2 : Int32} {a3 : Nat} {h : zSt} {cc : Nat × Nat} {r : Int32 × zSt} (hF : F_X0_dye a0 a1 a2 a3 h = some (cc, r)) : zMet l G yX0_dye (wsW_ yX0_dye cX0_dye 5 (some .int) [((0 : Nat), (10 : Nat), (13 : Nat), (18 : Nat))]) 11 263 (cc.1 + 0) (cc.2 + 0) [.ref a0, .int a1, .int a2, .ref a3] (hK h) (jF h) (hI h) (hL h) (zQe (.inl (some (.int r.1))) (hK r.2) (jF r.2) (hI r.2) (hL r.2)) := by
  refine zMet.ofH (by decide +kernel) htr (Nat.le_of_ble_eq_true rfl) ?_
  change zW l G MX0_dye 11 263 (cc.1 + 0) (cc.2 + 0) 0 [(0, .ref a0), (1, .int a1), (2, .int a2), (3, .ref a3)] [] (hK h) (jF h) (hI h) (hL h) (zQe (.inl (some (.int r.1))) (hK r.2) (jF r.2) (hI r.2) (hL r.2))
  unfold F_X0_dye at hF
  refine z_aload_n (n := 1) dX0_dye_0 rfl 3 rfl rfl ?_
  refine z_iconst (n := 2) (v := 0) dX0_dye_1 rfl (by decide) ?_
  refine z_aload_n (n := 3) dX0_dye_2 rfl 0 rfl rfl ?_
  refine z_iload_n (n := 4) dX0_dye_3 rfl 1 rfl rfl ?_
  refine z_iload_n (n := 5) dX0_dye_4 rfl 2 rfl rfl ?_
  obtain ⟨n_1, hk_2, hF⟩ := zka_some hF
  obtain ⟨c_6, t_7, c_3, hF⟩ := zc1_some hF
  obtain ⟨s_4, h_5⟩ := t_7
  dsimp only [zn2] at hF
  obtain ⟨cc, hF, hcc⟩ := zpay_some hF
  refine z_payE hcc ?_
  rcases zsum_some hF with ⟨x_9, e_8, hF⟩ | ⟨w_10, e_8, hF⟩
  rotate_left
  · first | rw [e_8] at c_3 ⊢ | rw [e_8] at c_3
    rcases zx_some hF with ⟨hx_11, hF⟩ | ⟨hx_11, hF⟩
    · skip
      refine z_cVx (n := 8) (mc2 := (cc.1 + 0)) (ms2 := (cc.2 + 0)) (st := [.int 0, .ref a3]) (C_X1_dye htr c_3) dX0_dye_5 rfl (lw_V q1450 q1451 q1452 q105 q1453) hcee_X1_dye rfl (by decide) hk_2 rfl rfl rfl (Nat.le_of_ble_eq_true rfl) (Nat.le_of_eq (Nat.add_comm _ _)) (Nat.le_of_eq (Nat.add_comm _ _)) ?_
      refine z_catchP (nm := "java/util/NoSuchElementException") (tpre := []) rfl rfl (by decide) q1362 (by rw [of_decide_eq_true hx_11]; exact q1372) (fun z hz => nomatch hz) dX0_dye_13 (by decide) (n := 15) rfl ?_
      refine z_iconst (n := 16) (v := 1) dX0_dye_15 rfl (by decide) ?_
      obtain ⟨rfl, rfl⟩ := zpair hF
      exact z_iret dX0_dye_16 rfl rfl ⟨rfl, rfl, rfl, rfl, rfl⟩
    cases hF
  first | rw [e_8] at c_3 ⊢ | rw [e_8] at c_3
  refine z_cV (n := 8) (mc2 := (cc.1 + 0)) (ms2 := (cc.2 + 0)) (st := [.int 0, .ref a3]) (C_X1_dye htr c_3) dX0_dye_5 rfl (lw_V q1450 q1451 q1452 q105 q1453) hcee_X1_dye rfl (by decide) hk_2 rfl rfl rfl (Nat.le_of_ble_eq_true rfl) (Nat.le_of_eq (Nat.add_comm _ _)) (Nat.le_of_eq (Nat.add_comm _ _)) ?_
  refine z_i2l (n := 9) dX0_dye_8 rfl ?_
  obtain ⟨n_12, hk_13, hF⟩ := zka_some hF
  obtain ⟨h_14, hF⟩ := zg_some hF
  obtain ⟨hb_15, hF⟩ := zg_some hF
  obtain ⟨h_16, e_17, hF⟩ := zlet_ob hF
  refine z_lastK (n := 10) 0 (by decide) dX0_dye_9 rfl hk_13 (zbig hb_15) (zin_ok h_14) ?_
  refine z_toL e_17 ?_
  refine z_goto (t := 17) dX0_dye_10 (by decide) ?_
  refine z_iconst (n := 18) (v := 0) dX0_dye_17 rfl (by decide) ?_
  obtain ⟨rfl, rfl⟩ := zpair hF
  exact z_iret dX0_dye_18 rfl rfl ⟨rfl, rfl, rfl, rfl, rfl⟩
theorem hcee_X1_empty : zCee yX1_empty RX1 1 := ⟨rfl, by decide +kernel, by decide +kernel, by decide +kernel⟩
abbrev MX0_empty : zM := (RX0, cX0_empty, 4, (some .int), "empty", [((0 : Nat), (9 : Nat), (12 : Nat), (18 : Nat))])
noncomputable def F_X0_empty (a0 : Nat) (a1 : Int32) (a2 : Nat) (h : zSt) : Option ((Nat × Nat) × (Int32 × zSt)) := zka (hK h) a0 0 (fun n_1 => zb2 (F_X1_empty (hK h) (jF h) a0 a1 (hI h)) (fun s_4 I_5 => zpay (zxc s_4, zxs s_4) (zlet (zsFI h (jF h) I_5) (fun h_7 => zsum s_4 (fun x_9 => zka (hK h_7) a2 67 (fun n_12 => zg (zin 0 n_12) (zg (decide (600 ≤ a2)) (zlet (zsL h_7 (zu (hL h_7) a2 0 x_9.toInt64)) (fun h_16 => some ((0, 0), (0, h_16))))))) (fun w_10 => zx (decide (w_10.1 = "java/util/NoSuchElementException")) (some ((0, 0), (1, h_7))) (none))))))
set_option maxHeartbeats 1000000 in
theorem C_X0_empty {l : Launch} {G : zGt} (htr : l.stackTraces = false) {a0 : Nat} {a1 : Int32} {a2 : Nat} {h : zSt} {cc : Nat × Nat} {r : Int32 × zSt} (hF : F_X0_empty a0 a1 a2 h = some (cc, r)) : zMet l G yX0_empty (wsW_ yX0_empty cX0_empty 4 (some .int) [((0 : Nat), (9 : Nat), (12 : Nat), (18 : Nat))]) 1006 24093 (cc.1 + 0) (cc.2 + 0) [.ref a0, .int a1, .ref a2] (hK h) (jF h) (hI h) (hL h) (zQe (.inl (some (.int r.1))) (hK r.2) (jF r.2) (hI r.2) (hL r.2)) := by
  refine zMet.ofH (by decide +kernel) htr (Nat.le_of_ble_eq_true rfl) ?_
  change zW l G MX0_empty 1006 24093 (cc.1 + 0) (cc.2 + 0) 0 [(0, .ref a0), (1, .int a1), (2, .ref a2)] [] (hK h) (jF h) (hI h) (hL h) (zQe (.inl (some (.int r.1))) (hK r.2) (jF r.2) (hI r.2) (hL r.2))
  unfold F_X0_empty at hF
  refine z_aload_n (n := 1) dX0_empty_0 rfl 2 rfl rfl ?_
  refine z_iconst (n := 2) (v := 0) dX0_empty_1 rfl (by decide) ?_
  refine z_aload_n (n := 3) dX0_empty_2 rfl 0 rfl rfl ?_
  refine z_iload_n (n := 4) dX0_empty_3 rfl 1 rfl rfl ?_
  obtain ⟨n_1, hk_2, hF⟩ := zka_some hF
  obtain ⟨s_4, I_5, c_3, hF⟩ := zb2_some hF
  obtain ⟨cc, hF, hcc⟩ := zpay_some hF
  refine z_payE hcc ?_
  obtain ⟨h_7, e_8, hF⟩ := zlet_ob hF
  rcases zsum_some hF with ⟨x_9, e_6, hF⟩ | ⟨w_10, e_6, hF⟩
  rotate_left
  · first | rw [e_6] at c_3 ⊢ | rw [e_6] at c_3
    rcases zx_some hF with ⟨hx_11, hF⟩ | ⟨hx_11, hF⟩
    · skip
      refine z_cVx (n := 7) (mc2 := (cc.1 + 0)) (ms2 := (cc.2 + 0)) (st := [.int 0, .ref a2]) (C_X1_empty htr c_3) dX0_empty_4 rfl (lw_V q1476 q1477 q1478 q105 q1479) hcee_X1_empty rfl (by decide) hk_2 rfl rfl rfl (Nat.le_of_ble_eq_true rfl) (Nat.le_of_eq (Nat.add_comm _ _)) (Nat.le_of_eq (Nat.add_comm _ _)) ?_
      subst e_8
      refine z_catchO (nm := "java/util/NoSuchElementException") (tpre := []) rfl rfl (by decide) q1362 (by rw [of_decide_eq_true hx_11]; exact q1372) (fun z hz => nomatch hz) dX0_empty_12 rfl (by decide) (n := 13) rfl ?_
      refine z_iconst (n := 14) (v := 1) dX0_empty_13 rfl (by decide) ?_
      obtain ⟨rfl, rfl⟩ := zpair hF
      exact z_iret dX0_empty_14 rfl rfl ⟨rfl, rfl, rfl, rfl, rfl⟩
    cases hF
  first | rw [e_6] at c_3 ⊢ | rw [e_6] at c_3
  refine z_cV (n := 7) (mc2 := (cc.1 + 0)) (ms2 := (cc.2 + 0)) (st := [.int 0, .ref a2]) (C_X1_empty htr c_3) dX0_empty_4 rfl (lw_V q1476 q1477 q1478 q105 q1479) hcee_X1_empty rfl (by decide) hk_2 rfl rfl rfl (Nat.le_of_ble_eq_true rfl) (Nat.le_of_eq (Nat.add_comm _ _)) (Nat.le_of_eq (Nat.add_comm _ _)) ?_
  refine z_toFI e_8 ?_
  refine z_i2l (n := 8) dX0_empty_7 rfl ?_
  obtain ⟨n_12, hk_13, hF⟩ := zka_some hF
  obtain ⟨h_14, hF⟩ := zg_some hF
  obtain ⟨hb_15, hF⟩ := zg_some hF
  obtain ⟨h_16, e_17, hF⟩ := zlet_ob hF
  refine z_lastK (n := 9) 0 (by decide) dX0_empty_8 rfl hk_13 (zbig hb_15) (zin_ok h_14) ?_
  refine z_toL e_17 ?_
  refine z_goto (t := 15) dX0_empty_9 (by decide) ?_
  refine z_iconst (n := 16) (v := 0) dX0_empty_15 rfl (by decide) ?_
  obtain ⟨rfl, rfl⟩ := zpair hF
  exact z_iret dX0_empty_16 rfl rfl ⟨rfl, rfl, rfl, rfl, rfl⟩
theorem hcee_X1_far : zCee yX1_far RX1 2 := ⟨rfl, by decide +kernel, by decide +kernel, by decide +kernel⟩
abbrev MX0_far : zM := (RX0, cX0_far, 5, (some .int), "far", [((0 : Nat), (10 : Nat), (13 : Nat), (18 : Nat))])
noncomputable def F_X0_far (a0 : Nat) (a1 : Int32) (a2 : Int32) (a3 : Nat) (h : zSt) : Option ((Nat × Nat) × (Int32 × zSt)) := zka (hK h) a0 0 (fun n_1 => zb2 (F_X1_far (hK h) (jF h) a0 a1 a2 (hI h)) (fun s_4 I_5 => zpay (zxc s_4, zxs s_4) (zlet (zsFI h (jF h) I_5) (fun h_7 => zsum s_4 (fun x_9 => zka (hK h_7) a3 67 (fun n_12 => zg (zin 0 n_12) (zg (decide (600 ≤ a3)) (zlet (zsL h_7 (zu (hL h_7) a3 0 x_9.toInt64)) (fun h_16 => some ((0, 0), (0, h_16))))))) (fun w_10 => zx (decide (w_10.1 = "java/util/NoSuchElementException")) (some ((0, 0), (1, h_7))) (none))))))
set_option maxHeartbeats 1000000 in
theorem C_X0_far {l : Launch} {G : zGt} (htr : l.stackTraces = false) {a0 : Nat} {a1 : Int32} {a2 : Int32} {a3 : Nat} {h : zSt} {cc : Nat × Nat} {r : Int32 × zSt} (hF : F_X0_far a0 a1 a2 a3 h = some (cc, r)) : zMet l G yX0_far (wsW_ yX0_far cX0_far 5 (some .int) [((0 : Nat), (10 : Nat), (13 : Nat), (18 : Nat))]) 11 263 (cc.1 + 0) (cc.2 + 0) [.ref a0, .int a1, .int a2, .ref a3] (hK h) (jF h) (hI h) (hL h) (zQe (.inl (some (.int r.1))) (hK r.2) (jF r.2) (hI r.2) (hL r.2)) := by
  refine zMet.ofH (by decide +kernel) htr (Nat.le_of_ble_eq_true rfl) ?_
  change zW l G MX0_far 11 263 (cc.1 + 0) (cc.2 + 0) 0 [(0, .ref a0), (1, .int a1), (2, .int a2), (3, .ref a3)] [] (hK h) (jF h) (hI h) (hL h) (zQe (.inl (some (.int r.1))) (hK r.2) (jF r.2) (hI r.2) (hL r.2))
  unfold F_X0_far at hF
  refine z_aload_n (n := 1) dX0_far_0 rfl 3 rfl rfl ?_
  refine z_iconst (n := 2) (v := 0) dX0_far_1 rfl (by decide) ?_
  refine z_aload_n (n := 3) dX0_far_2 rfl 0 rfl rfl ?_
  refine z_iload_n (n := 4) dX0_far_3 rfl 1 rfl rfl ?_
  refine z_iload_n (n := 5) dX0_far_4 rfl 2 rfl rfl ?_
  obtain ⟨n_1, hk_2, hF⟩ := zka_some hF
  obtain ⟨s_4, I_5, c_3, hF⟩ := zb2_some hF
  obtain ⟨cc, hF, hcc⟩ := zpay_some hF
  refine z_payE hcc ?_
  obtain ⟨h_7, e_8, hF⟩ := zlet_ob hF
  rcases zsum_some hF with ⟨x_9, e_6, hF⟩ | ⟨w_10, e_6, hF⟩
  rotate_left
  · first | rw [e_6] at c_3 ⊢ | rw [e_6] at c_3
    rcases zx_some hF with ⟨hx_11, hF⟩ | ⟨hx_11, hF⟩
    · skip
      refine z_cVx (n := 8) (mc2 := (cc.1 + 0)) (ms2 := (cc.2 + 0)) (st := [.int 0, .ref a3]) (C_X1_far htr c_3) dX0_far_5 rfl (lw_V q1534 q1535 q1536 q105 q1537) hcee_X1_far rfl (by decide) hk_2 rfl rfl rfl (Nat.le_of_ble_eq_true rfl) (Nat.le_of_eq (Nat.add_comm _ _)) (Nat.le_of_eq (Nat.add_comm _ _)) ?_
      subst e_8
      refine z_catchP (nm := "java/util/NoSuchElementException") (tpre := []) rfl rfl (by decide) q1362 (by rw [of_decide_eq_true hx_11]; exact q1372) (fun z hz => nomatch hz) dX0_far_13 (by decide) (n := 15) rfl ?_
      refine z_iconst (n := 16) (v := 1) dX0_far_15 rfl (by decide) ?_
      obtain ⟨rfl, rfl⟩ := zpair hF
      exact z_iret dX0_far_16 rfl rfl ⟨rfl, rfl, rfl, rfl, rfl⟩
    cases hF
  first | rw [e_6] at c_3 ⊢ | rw [e_6] at c_3
  refine z_cV (n := 8) (mc2 := (cc.1 + 0)) (ms2 := (cc.2 + 0)) (st := [.int 0, .ref a3]) (C_X1_far htr c_3) dX0_far_5 rfl (lw_V q1534 q1535 q1536 q105 q1537) hcee_X1_far rfl (by decide) hk_2 rfl rfl rfl (Nat.le_of_ble_eq_true rfl) (Nat.le_of_eq (Nat.add_comm _ _)) (Nat.le_of_eq (Nat.add_comm _ _)) ?_
  refine z_toFI e_8 ?_
  refine z_i2l (n := 9) dX0_far_8 rfl ?_
  obtain ⟨n_12, hk_13, hF⟩ := zka_some hF
  obtain ⟨h_14, hF⟩ := zg_some hF
  obtain ⟨hb_15, hF⟩ := zg_some hF
  obtain ⟨h_16, e_17, hF⟩ := zlet_ob hF
  refine z_lastK (n := 10) 0 (by decide) dX0_far_9 rfl hk_13 (zbig hb_15) (zin_ok h_14) ?_
  refine z_toL e_17 ?_
  refine z_goto (t := 17) dX0_far_10 (by decide) ?_
  refine z_iconst (n := 18) (v := 0) dX0_far_17 rfl (by decide) ?_
  obtain ⟨rfl, rfl⟩ := zpair hF
  exact z_iret dX0_far_18 rfl rfl ⟨rfl, rfl, rfl, rfl, rfl⟩
theorem hcee_X1_first : zCee yX1_first RX1 1 := ⟨rfl, by decide +kernel, by decide +kernel, by decide +kernel⟩
abbrev MX0_first : zM := (RX0, cX0_first, 4, (some .int), "first", [((0 : Nat), (9 : Nat), (12 : Nat), (18 : Nat))])
noncomputable def F_X0_first (a0 : Nat) (a1 : Int32) (a2 : Nat) (h : zSt) : Option ((Nat × Nat) × (Int32 × zSt)) := zka (hK h) a0 0 (fun n_1 => zb2 (F_X1_first (hK h) (jF h) a0 a1 (hI h)) (fun s_4 I_5 => zpay (zxc s_4, zxs s_4) (zlet (zsFI h (jF h) I_5) (fun h_7 => zsum s_4 (fun x_9 => zka (hK h_7) a2 67 (fun n_12 => zg (zin 0 n_12) (zg (decide (600 ≤ a2)) (zlet (zsL h_7 (zu (hL h_7) a2 0 x_9.toInt64)) (fun h_16 => some ((0, 0), (0, h_16))))))) (fun w_10 => zx (decide (w_10.1 = "java/util/NoSuchElementException")) (some ((0, 0), (1, h_7))) (none))))))
set_option maxHeartbeats 1000000 in
theorem C_X0_first {l : Launch} {G : zGt} (htr : l.stackTraces = false) {a0 : Nat} {a1 : Int32} {a2 : Nat} {h : zSt} {cc : Nat × Nat} {r : Int32 × zSt} (hF : F_X0_first a0 a1 a2 h = some (cc, r)) : zMet l G yX0_first (wsW_ yX0_first cX0_first 4 (some .int) [((0 : Nat), (9 : Nat), (12 : Nat), (18 : Nat))]) 11 266 (cc.1 + 0) (cc.2 + 0) [.ref a0, .int a1, .ref a2] (hK h) (jF h) (hI h) (hL h) (zQe (.inl (some (.int r.1))) (hK r.2) (jF r.2) (hI r.2) (hL r.2)) := by
  refine zMet.ofH (by decide +kernel) htr (Nat.le_of_ble_eq_true rfl) ?_
  change zW l G MX0_first 11 266 (cc.1 + 0) (cc.2 + 0) 0 [(0, .ref a0), (1, .int a1), (2, .ref a2)] [] (hK h) (jF h) (hI h) (hL h) (zQe (.inl (some (.int r.1))) (hK r.2) (jF r.2) (hI r.2) (hL r.2))
  unfold F_X0_first at hF
  refine z_aload_n (n := 1) dX0_first_0 rfl 2 rfl rfl ?_
  refine z_iconst (n := 2) (v := 0) dX0_first_1 rfl (by decide) ?_
  refine z_aload_n (n := 3) dX0_first_2 rfl 0 rfl rfl ?_
  refine z_iload_n (n := 4) dX0_first_3 rfl 1 rfl rfl ?_
  obtain ⟨n_1, hk_2, hF⟩ := zka_some hF
  obtain ⟨s_4, I_5, c_3, hF⟩ := zb2_some hF
  obtain ⟨cc, hF, hcc⟩ := zpay_some hF
  refine z_payE hcc ?_
  obtain ⟨h_7, e_8, hF⟩ := zlet_ob hF
  rcases zsum_some hF with ⟨x_9, e_6, hF⟩ | ⟨w_10, e_6, hF⟩
  rotate_left
  · first | rw [e_6] at c_3 ⊢ | rw [e_6] at c_3
    rcases zx_some hF with ⟨hx_11, hF⟩ | ⟨hx_11, hF⟩
    · skip
      refine z_cVx (n := 7) (mc2 := (cc.1 + 0)) (ms2 := (cc.2 + 0)) (st := [.int 0, .ref a2]) (C_X1_first htr c_3) dX0_first_4 rfl (lw_V q1567 q1568 q1569 q105 q1570) hcee_X1_first rfl (by decide) hk_2 rfl rfl rfl (Nat.le_of_ble_eq_true rfl) (Nat.le_of_eq (Nat.add_comm _ _)) (Nat.le_of_eq (Nat.add_comm _ _)) ?_
      subst e_8
      refine z_catchO (nm := "java/util/NoSuchElementException") (tpre := []) rfl rfl (by decide) q1362 (by rw [of_decide_eq_true hx_11]; exact q1372) (fun z hz => nomatch hz) dX0_first_12 rfl (by decide) (n := 13) rfl ?_
      refine z_iconst (n := 14) (v := 1) dX0_first_13 rfl (by decide) ?_
      obtain ⟨rfl, rfl⟩ := zpair hF
      exact z_iret dX0_first_14 rfl rfl ⟨rfl, rfl, rfl, rfl, rfl⟩
    cases hF
  first | rw [e_6] at c_3 ⊢ | rw [e_6] at c_3
  refine z_cV (n := 7) (mc2 := (cc.1 + 0)) (ms2 := (cc.2 + 0)) (st := [.int 0, .ref a2]) (C_X1_first htr c_3) dX0_first_4 rfl (lw_V q1567 q1568 q1569 q105 q1570) hcee_X1_first rfl (by decide) hk_2 rfl rfl rfl (Nat.le_of_ble_eq_true rfl) (Nat.le_of_eq (Nat.add_comm _ _)) (Nat.le_of_eq (Nat.add_comm _ _)) ?_
  refine z_toFI e_8 ?_
  refine z_i2l (n := 8) dX0_first_7 rfl ?_
  obtain ⟨n_12, hk_13, hF⟩ := zka_some hF
  obtain ⟨h_14, hF⟩ := zg_some hF
  obtain ⟨hb_15, hF⟩ := zg_some hF
  obtain ⟨h_16, e_17, hF⟩ := zlet_ob hF
  refine z_lastK (n := 9) 0 (by decide) dX0_first_8 rfl hk_13 (zbig hb_15) (zin_ok h_14) ?_
  refine z_toL e_17 ?_
  refine z_goto (t := 15) dX0_first_9 (by decide) ?_
  refine z_iconst (n := 16) (v := 0) dX0_first_15 rfl (by decide) ?_
  obtain ⟨rfl, rfl⟩ := zpair hF
  exact z_iret dX0_first_16 rfl rfl ⟨rfl, rfl, rfl, rfl, rfl⟩
theorem hcee_X1_forEver : zCee yX1_forEver RX1 1 := ⟨rfl, by decide +kernel, by decide +kernel, by decide +kernel⟩
abbrev MX0_forEver : zM := (RX0, cX0_forEver, 4, (some .int), "forEver", [((0 : Nat), (9 : Nat), (12 : Nat), (18 : Nat))])
noncomputable def F_X0_forEver (a0 : Nat) (a1 : Int32) (a2 : Nat) (h : zSt) : Option ((Nat × Nat) × (Int32 × zSt)) := zka (hK h) a0 0 (fun n_1 => zb2 (F_X1_forEver (hK h) (jF h) a0 a1 (hI h)) (fun s_4 I_5 => zpay (zxc s_4, zxs s_4) (zlet (zsFI h (jF h) I_5) (fun h_7 => zsum s_4 (fun x_9 => zka (hK h_7) a2 67 (fun n_12 => zg (zin 0 n_12) (zg (decide (600 ≤ a2)) (zlet (zsL h_7 (zu (hL h_7) a2 0 x_9.toInt64)) (fun h_16 => some ((0, 0), (0, h_16))))))) (fun w_10 => zx (decide (w_10.1 = "java/util/NoSuchElementException")) (some ((0, 0), (1, h_7))) (none))))))
set_option maxHeartbeats 1000000 in
theorem C_X0_forEver {l : Launch} {G : zGt} (htr : l.stackTraces = false) {a0 : Nat} {a1 : Int32} {a2 : Nat} {h : zSt} {cc : Nat × Nat} {r : Int32 × zSt} (hF : F_X0_forEver a0 a1 a2 h = some (cc, r)) : zMet l G yX0_forEver (wsW_ yX0_forEver cX0_forEver 4 (some .int) [((0 : Nat), (9 : Nat), (12 : Nat), (18 : Nat))]) 11 263 (cc.1 + 0) (cc.2 + 0) [.ref a0, .int a1, .ref a2] (hK h) (jF h) (hI h) (hL h) (zQe (.inl (some (.int r.1))) (hK r.2) (jF r.2) (hI r.2) (hL r.2)) := by
  refine zMet.ofH (by decide +kernel) htr (Nat.le_of_ble_eq_true rfl) ?_
  change zW l G MX0_forEver 11 263 (cc.1 + 0) (cc.2 + 0) 0 [(0, .ref a0), (1, .int a1), (2, .ref a2)] [] (hK h) (jF h) (hI h) (hL h) (zQe (.inl (some (.int r.1))) (hK r.2) (jF r.2) (hI r.2) (hL r.2))
  unfold F_X0_forEver at hF
  refine z_aload_n (n := 1) dX0_forEver_0 rfl 2 rfl rfl ?_
  refine z_iconst (n := 2) (v := 0) dX0_forEver_1 rfl (by decide) ?_
  refine z_aload_n (n := 3) dX0_forEver_2 rfl 0 rfl rfl ?_
  refine z_iload_n (n := 4) dX0_forEver_3 rfl 1 rfl rfl ?_
  obtain ⟨n_1, hk_2, hF⟩ := zka_some hF
  obtain ⟨s_4, I_5, c_3, hF⟩ := zb2_some hF
  obtain ⟨cc, hF, hcc⟩ := zpay_some hF
  refine z_payE hcc ?_
  obtain ⟨h_7, e_8, hF⟩ := zlet_ob hF
  rcases zsum_some hF with ⟨x_9, e_6, hF⟩ | ⟨w_10, e_6, hF⟩
  rotate_left
  · first | rw [e_6] at c_3 ⊢ | rw [e_6] at c_3
    rcases zx_some hF with ⟨hx_11, hF⟩ | ⟨hx_11, hF⟩
    · skip
      refine z_cVx (n := 7) (mc2 := (cc.1 + 0)) (ms2 := (cc.2 + 0)) (st := [.int 0, .ref a2]) (C_X1_forEver htr c_3) dX0_forEver_4 rfl (lw_V q1515 q1516 q1517 q105 q1518) hcee_X1_forEver rfl (by decide) hk_2 rfl rfl rfl (Nat.le_of_ble_eq_true rfl) (Nat.le_of_eq (Nat.add_comm _ _)) (Nat.le_of_eq (Nat.add_comm _ _)) ?_
      subst e_8
      refine z_catchO (nm := "java/util/NoSuchElementException") (tpre := []) rfl rfl (by decide) q1362 (by rw [of_decide_eq_true hx_11]; exact q1372) (fun z hz => nomatch hz) dX0_forEver_12 rfl (by decide) (n := 13) rfl ?_
      refine z_iconst (n := 14) (v := 1) dX0_forEver_13 rfl (by decide) ?_
      obtain ⟨rfl, rfl⟩ := zpair hF
      exact z_iret dX0_forEver_14 rfl rfl ⟨rfl, rfl, rfl, rfl, rfl⟩
    cases hF
  first | rw [e_6] at c_3 ⊢ | rw [e_6] at c_3
  refine z_cV (n := 7) (mc2 := (cc.1 + 0)) (ms2 := (cc.2 + 0)) (st := [.int 0, .ref a2]) (C_X1_forEver htr c_3) dX0_forEver_4 rfl (lw_V q1515 q1516 q1517 q105 q1518) hcee_X1_forEver rfl (by decide) hk_2 rfl rfl rfl (Nat.le_of_ble_eq_true rfl) (Nat.le_of_eq (Nat.add_comm _ _)) (Nat.le_of_eq (Nat.add_comm _ _)) ?_
  refine z_toFI e_8 ?_
  refine z_i2l (n := 8) dX0_forEver_7 rfl ?_
  obtain ⟨n_12, hk_13, hF⟩ := zka_some hF
  obtain ⟨h_14, hF⟩ := zg_some hF
  obtain ⟨hb_15, hF⟩ := zg_some hF
  obtain ⟨h_16, e_17, hF⟩ := zlet_ob hF
  refine z_lastK (n := 9) 0 (by decide) dX0_forEver_8 rfl hk_13 (zbig hb_15) (zin_ok h_14) ?_
  refine z_toL e_17 ?_
  refine z_goto (t := 15) dX0_forEver_9 (by decide) ?_
  refine z_iconst (n := 16) (v := 0) dX0_forEver_15 rfl (by decide) ?_
  obtain ⟨rfl, rfl⟩ := zpair hF
  exact z_iret dX0_forEver_16 rfl rfl ⟨rfl, rfl, rfl, rfl, rfl⟩
theorem hcee_X1_forest : zCee yX1_forest RX1 2 := ⟨rfl, by decide +kernel, by decide +kernel, by decide +kernel⟩
abbrev MX0_forest : zM := (RX0, cX0_forest, 5, (some .int), "forest", [((0 : Nat), (10 : Nat), (13 : Nat), (18 : Nat))])
noncomputable def F_X0_forest (a0 : Nat) (a1 : Int32) (a2 : Int32) (a3 : Nat) (h : zSt) : Option ((Nat × Nat) × (Int32 × zSt)) := zka (hK h) a0 0 (fun n_1 => zb2 (F_X1_forest (hK h) (jF h) a0 a1 a2 (hI h)) (fun s_4 I_5 => zpay (zxc s_4, zxs s_4) (zlet (zsFI h (jF h) I_5) (fun h_7 => zsum s_4 (fun x_9 => zka (hK h_7) a3 67 (fun n_12 => zg (zin 0 n_12) (zg (decide (600 ≤ a3)) (zlet (zsL h_7 (zu (hL h_7) a3 0 x_9.toInt64)) (fun h_16 => some ((0, 0), (0, h_16))))))) (fun w_10 => zx (decide (w_10.1 = "java/util/NoSuchElementException")) (some ((0, 0), (1, h_7))) (none))))))
set_option maxHeartbeats 1000000 in
theorem C_X0_forest {l : Launch} {G : zGt} (htr : l.stackTraces = false) {a0 : Nat} {a1 : Int32} {a2 : Int32} {a3 : Nat} {h : zSt} {cc : Nat × Nat} {r : Int32 × zSt} (hF : F_X0_forest a0 a1 a2 a3 h = some (cc, r)) : zMet l G yX0_forest (wsW_ yX0_forest cX0_forest 5 (some .int) [((0 : Nat), (10 : Nat), (13 : Nat), (18 : Nat))]) 11 264 (cc.1 + 0) (cc.2 + 0) [.ref a0, .int a1, .int a2, .ref a3] (hK h) (jF h) (hI h) (hL h) (zQe (.inl (some (.int r.1))) (hK r.2) (jF r.2) (hI r.2) (hL r.2)) := by
  refine zMet.ofH (by decide +kernel) htr (Nat.le_of_ble_eq_true rfl) ?_
  change zW l G MX0_forest 11 264 (cc.1 + 0) (cc.2 + 0) 0 [(0, .ref a0), (1, .int a1), (2, .int a2), (3, .ref a3)] [] (hK h) (jF h) (hI h) (hL h) (zQe (.inl (some (.int r.1))) (hK r.2) (jF r.2) (hI r.2) (hL r.2))
  unfold F_X0_forest at hF
  refine z_aload_n (n := 1) dX0_forest_0 rfl 3 rfl rfl ?_
  refine z_iconst (n := 2) (v := 0) dX0_forest_1 rfl (by decide) ?_
  refine z_aload_n (n := 3) dX0_forest_2 rfl 0 rfl rfl ?_
  refine z_iload_n (n := 4) dX0_forest_3 rfl 1 rfl rfl ?_
  refine z_iload_n (n := 5) dX0_forest_4 rfl 2 rfl rfl ?_
  obtain ⟨n_1, hk_2, hF⟩ := zka_some hF
  obtain ⟨s_4, I_5, c_3, hF⟩ := zb2_some hF
  obtain ⟨cc, hF, hcc⟩ := zpay_some hF
  refine z_payE hcc ?_
  obtain ⟨h_7, e_8, hF⟩ := zlet_ob hF
  rcases zsum_some hF with ⟨x_9, e_6, hF⟩ | ⟨w_10, e_6, hF⟩
  rotate_left
  · first | rw [e_6] at c_3 ⊢ | rw [e_6] at c_3
    rcases zx_some hF with ⟨hx_11, hF⟩ | ⟨hx_11, hF⟩
    · skip
      refine z_cVx (n := 8) (mc2 := (cc.1 + 0)) (ms2 := (cc.2 + 0)) (st := [.int 0, .ref a3]) (C_X1_forest htr c_3) dX0_forest_5 rfl (lw_V q1396 q1397 q1398 q105 q1399) hcee_X1_forest rfl (by decide) hk_2 rfl rfl rfl (Nat.le_of_ble_eq_true rfl) (Nat.le_of_eq (Nat.add_comm _ _)) (Nat.le_of_eq (Nat.add_comm _ _)) ?_
      subst e_8
      refine z_catchP (nm := "java/util/NoSuchElementException") (tpre := []) rfl rfl (by decide) q1362 (by rw [of_decide_eq_true hx_11]; exact q1372) (fun z hz => nomatch hz) dX0_forest_13 (by decide) (n := 15) rfl ?_
      refine z_iconst (n := 16) (v := 1) dX0_forest_15 rfl (by decide) ?_
      obtain ⟨rfl, rfl⟩ := zpair hF
      exact z_iret dX0_forest_16 rfl rfl ⟨rfl, rfl, rfl, rfl, rfl⟩
    cases hF
  first | rw [e_6] at c_3 ⊢ | rw [e_6] at c_3
  refine z_cV (n := 8) (mc2 := (cc.1 + 0)) (ms2 := (cc.2 + 0)) (st := [.int 0, .ref a3]) (C_X1_forest htr c_3) dX0_forest_5 rfl (lw_V q1396 q1397 q1398 q105 q1399) hcee_X1_forest rfl (by decide) hk_2 rfl rfl rfl (Nat.le_of_ble_eq_true rfl) (Nat.le_of_eq (Nat.add_comm _ _)) (Nat.le_of_eq (Nat.add_comm _ _)) ?_
  refine z_toFI e_8 ?_
  refine z_i2l (n := 9) dX0_forest_8 rfl ?_
  obtain ⟨n_12, hk_13, hF⟩ := zka_some hF
  obtain ⟨h_14, hF⟩ := zg_some hF
  obtain ⟨hb_15, hF⟩ := zg_some hF
  obtain ⟨h_16, e_17, hF⟩ := zlet_ob hF
  refine z_lastK (n := 10) 0 (by decide) dX0_forest_9 rfl hk_13 (zbig hb_15) (zin_ok h_14) ?_
  refine z_toL e_17 ?_
  refine z_goto (t := 17) dX0_forest_10 (by decide) ?_
  refine z_iconst (n := 18) (v := 0) dX0_forest_17 rfl (by decide) ?_
  obtain ⟨rfl, rfl⟩ := zpair hF
  exact z_iret dX0_forest_18 rfl rfl ⟨rfl, rfl, rfl, rfl, rfl⟩
theorem hcee_X1_forgive : zCee yX1_forgive RX1 1 := ⟨rfl, by decide +kernel, by decide +kernel, by decide +kernel⟩
abbrev MX0_forgive : zM := (RX0, cX0_forgive, 4, (some .int), "forgive", [((0 : Nat), (9 : Nat), (12 : Nat), (18 : Nat))])
noncomputable def F_X0_forgive (a0 : Nat) (a1 : Int32) (a2 : Nat) (h : zSt) : Option ((Nat × Nat) × (Int32 × zSt)) := zka (hK h) a0 0 (fun n_1 => zc1 (F_X1_forgive a0 a1 h) (fun c_6 => zn2 (fun s_4 h_5 => zpay c_6 (zsum s_4 (fun x_9 => zka (hK h_5) a2 67 (fun n_12 => zg (zin 0 n_12) (zg (decide (600 ≤ a2)) (zlet (zsL h_5 (zu (hL h_5) a2 0 x_9.toInt64)) (fun h_16 => some ((0, 0), (0, h_16))))))) (fun w_10 => zx (decide (w_10.1 = "java/util/NoSuchElementException")) (some ((0, 0), (1, h_5))) (none))))))
set_option maxHeartbeats 1000000 in
theorem C_X0_forgive {l : Launch} {G : zGt} (htr : l.stackTraces = false) {a0 : Nat} {a1 : Int32} {a2 : Nat} {h : zSt} {cc : Nat × Nat} {r : Int32 × zSt} (hF : F_X0_forgive a0 a1 a2 h = some (cc, r)) : zMet l G yX0_forgive (wsW_ yX0_forgive cX0_forgive 4 (some .int) [((0 : Nat), (9 : Nat), (12 : Nat), (18 : Nat))]) 11 263 (cc.1 + 0) (cc.2 + 0) [.ref a0, .int a1, .ref a2] (hK h) (jF h) (hI h) (hL h) (zQe (.inl (some (.int r.1))) (hK r.2) (jF r.2) (hI r.2) (hL r.2)) := by
  refine zMet.ofH (by decide +kernel) htr (Nat.le_of_ble_eq_true rfl) ?_
  change zW l G MX0_forgive 11 263 (cc.1 + 0) (cc.2 + 0) 0 [(0, .ref a0), (1, .int a1), (2, .ref a2)] [] (hK h) (jF h) (hI h) (hL h) (zQe (.inl (some (.int r.1))) (hK r.2) (jF r.2) (hI r.2) (hL r.2))
  unfold F_X0_forgive at hF
  refine z_aload_n (n := 1) dX0_forgive_0 rfl 2 rfl rfl ?_
  refine z_iconst (n := 2) (v := 0) dX0_forgive_1 rfl (by decide) ?_
  refine z_aload_n (n := 3) dX0_forgive_2 rfl 0 rfl rfl ?_
  refine z_iload_n (n := 4) dX0_forgive_3 rfl 1 rfl rfl ?_
  obtain ⟨n_1, hk_2, hF⟩ := zka_some hF
  obtain ⟨c_6, t_7, c_3, hF⟩ := zc1_some hF
  obtain ⟨s_4, h_5⟩ := t_7
  dsimp only [zn2] at hF
  obtain ⟨cc, hF, hcc⟩ := zpay_some hF
  refine z_payE hcc ?_
  rcases zsum_some hF with ⟨x_9, e_8, hF⟩ | ⟨w_10, e_8, hF⟩
  rotate_left
  · first | rw [e_8] at c_3 ⊢ | rw [e_8] at c_3
    rcases zx_some hF with ⟨hx_11, hF⟩ | ⟨hx_11, hF⟩
    · skip
      refine z_cVx (n := 7) (mc2 := (cc.1 + 0)) (ms2 := (cc.2 + 0)) (st := [.int 0, .ref a2]) (C_X1_forgive htr c_3) dX0_forgive_4 rfl (lw_V q1458 q1459 q1460 q105 q1461) hcee_X1_forgive rfl (by decide) hk_2 rfl rfl rfl (Nat.le_of_ble_eq_true rfl) (Nat.le_of_eq (Nat.add_comm _ _)) (Nat.le_of_eq (Nat.add_comm _ _)) ?_
      refine z_catchO (nm := "java/util/NoSuchElementException") (tpre := []) rfl rfl (by decide) q1362 (by rw [of_decide_eq_true hx_11]; exact q1372) (fun z hz => nomatch hz) dX0_forgive_12 rfl (by decide) (n := 13) rfl ?_
      refine z_iconst (n := 14) (v := 1) dX0_forgive_13 rfl (by decide) ?_
      obtain ⟨rfl, rfl⟩ := zpair hF
      exact z_iret dX0_forgive_14 rfl rfl ⟨rfl, rfl, rfl, rfl, rfl⟩
    cases hF
  first | rw [e_8] at c_3 ⊢ | rw [e_8] at c_3
  refine z_cV (n := 7) (mc2 := (cc.1 + 0)) (ms2 := (cc.2 + 0)) (st := [.int 0, .ref a2]) (C_X1_forgive htr c_3) dX0_forgive_4 rfl (lw_V q1458 q1459 q1460 q105 q1461) hcee_X1_forgive rfl (by decide) hk_2 rfl rfl rfl (Nat.le_of_ble_eq_true rfl) (Nat.le_of_eq (Nat.add_comm _ _)) (Nat.le_of_eq (Nat.add_comm _ _)) ?_
  refine z_i2l (n := 8) dX0_forgive_7 rfl ?_
  obtain ⟨n_12, hk_13, hF⟩ := zka_some hF
  obtain ⟨h_14, hF⟩ := zg_some hF
  obtain ⟨hb_15, hF⟩ := zg_some hF
  obtain ⟨h_16, e_17, hF⟩ := zlet_ob hF
  refine z_lastK (n := 9) 0 (by decide) dX0_forgive_8 rfl hk_13 (zbig hb_15) (zin_ok h_14) ?_
  refine z_toL e_17 ?_
  refine z_goto (t := 15) dX0_forgive_9 (by decide) ?_
  refine z_iconst (n := 16) (v := 0) dX0_forgive_15 rfl (by decide) ?_
  obtain ⟨rfl, rfl⟩ := zpair hF
  exact z_iret dX0_forgive_16 rfl rfl ⟨rfl, rfl, rfl, rfl, rfl⟩
theorem hcee_X1_game : zCee yX1_game RX1 5 := ⟨rfl, by decide +kernel, by decide +kernel, by decide +kernel⟩
abbrev MX0_game : zM := (RX0, cX0_game, 8, (some .int), "game", [((0 : Nat), (16 : Nat), (19 : Nat), (18 : Nat)), ((0 : Nat), (16 : Nat), (23 : Nat), (13 : Nat))])
noncomputable def F_X0_game (a0 : Nat) (a1 : Int32) (a2 : Int32) (a3 : Int32) (a4 : Int32) (a5 : Int32) (a6 : Nat) (h : zSt) : Option ((Nat × Nat) × (Int32 × zSt)) := zka (hK h) a0 0 (fun n_1 => zb2 (F_X1_game (hK h) (jF h) a0 a1 a2 a3 a4 a5 (hI h)) (fun s_4 I_5 => zpay (zxc s_4, zxs s_4) (zlet (zsFI h (jF h) I_5) (fun h_7 => zsum s_4 (fun x_9 => zka (hK h_7) a6 67 (fun n_13 => zg (zin 0 n_13) (zg (decide (600 ≤ a6)) (zlet (zsL h_7 (zu (hL h_7) a6 0 x_9.toInt64)) (fun h_17 => some ((0, 0), (0, h_17))))))) (fun w_10 => zx (decide (w_10.1 = "java/util/NoSuchElementException")) (some ((0, 0), (1, h_7))) (zx (decide (w_10.1 = "java/lang/IllegalArgumentException")) (some ((0, 0), (2, h_7))) (none)))))))
set_option maxHeartbeats 1000000 in
theorem C_X0_game {l : Launch} {G : zGt} (htr : l.stackTraces = false) {a0 : Nat} {a1 : Int32} {a2 : Int32} {a3 : Int32} {a4 : Int32} {a5 : Int32} {a6 : Nat} {h : zSt} {cc : Nat × Nat} {r : Int32 × zSt} (hF : F_X0_game a0 a1 a2 a3 a4 a5 a6 h = some (cc, r)) : zMet l G yX0_game (wsW_ yX0_game cX0_game 8 (some .int) [((0 : Nat), (16 : Nat), (19 : Nat), (18 : Nat)), ((0 : Nat), (16 : Nat), (23 : Nat), (13 : Nat))]) 11 273 (cc.1 + 0) (cc.2 + 0) [.ref a0, .int a1, .int a2, .int a3, .int a4, .int a5, .ref a6] (hK h) (jF h) (hI h) (hL h) (zQe (.inl (some (.int r.1))) (hK r.2) (jF r.2) (hI r.2) (hL r.2)) := by
  refine zMet.ofH (by decide +kernel) htr (Nat.le_of_ble_eq_true rfl) ?_
  change zW l G MX0_game 11 273 (cc.1 + 0) (cc.2 + 0) 0 [(0, .ref a0), (1, .int a1), (2, .int a2), (3, .int a3), (4, .int a4), (5, .int a5), (6, .ref a6)] [] (hK h) (jF h) (hI h) (hL h) (zQe (.inl (some (.int r.1))) (hK r.2) (jF r.2) (hI r.2) (hL r.2))
  unfold F_X0_game at hF
  refine z_aload (n := 2) dX0_game_0 rfl 6 rfl ?_
  refine z_iconst (n := 3) (v := 0) dX0_game_2 rfl (by decide) ?_
  refine z_aload_n (n := 4) dX0_game_3 rfl 0 rfl rfl ?_
  refine z_iload_n (n := 5) dX0_game_4 rfl 1 rfl rfl ?_
  refine z_iload_n (n := 6) dX0_game_5 rfl 2 rfl rfl ?_
  refine z_iload_n (n := 7) dX0_game_6 rfl 3 rfl rfl ?_
  refine z_iload (n := 9) dX0_game_7 rfl 4 rfl ?_
  refine z_iload (n := 11) dX0_game_9 rfl 5 rfl ?_
  obtain ⟨n_1, hk_2, hF⟩ := zka_some hF
  obtain ⟨s_4, I_5, c_3, hF⟩ := zb2_some hF
  obtain ⟨cc, hF, hcc⟩ := zpay_some hF
  refine z_payE hcc ?_
  obtain ⟨h_7, e_8, hF⟩ := zlet_ob hF
  rcases zsum_some hF with ⟨x_9, e_6, hF⟩ | ⟨w_10, e_6, hF⟩
  rotate_left
  · first | rw [e_6] at c_3 ⊢ | rw [e_6] at c_3
    rcases zx_some hF with ⟨hx_11, hF⟩ | ⟨hx_11, hF⟩
    · skip
      refine z_cVx (n := 14) (mc2 := (cc.1 + 0)) (ms2 := (cc.2 + 0)) (st := [.int 0, .ref a6]) (C_X1_game htr c_3) dX0_game_11 rfl (lw_V q1638 q1639 q1640 q105 q1641) hcee_X1_game rfl (by decide) hk_2 rfl rfl rfl (Nat.le_of_ble_eq_true rfl) (Nat.le_of_eq (Nat.add_comm _ _)) (Nat.le_of_eq (Nat.add_comm _ _)) ?_
      subst e_8
      refine z_catchP (nm := "java/util/NoSuchElementException") (tpre := []) rfl rfl (by decide) q1362 (by rw [of_decide_eq_true hx_11]; exact q1372) (fun z hz => nomatch hz) dX0_game_19 (by decide) (n := 21) rfl ?_
      refine z_iconst (n := 22) (v := 1) dX0_game_21 rfl (by decide) ?_
      obtain ⟨rfl, rfl⟩ := zpair hF
      exact z_iret dX0_game_22 rfl rfl ⟨rfl, rfl, rfl, rfl, rfl⟩
    rcases zx_some hF with ⟨hx_12, hF⟩ | ⟨hx_12, hF⟩
    · skip
      refine z_cVx (n := 14) (mc2 := (cc.1 + 0)) (ms2 := (cc.2 + 0)) (st := [.int 0, .ref a6]) (C_X1_game htr c_3) dX0_game_11 rfl (lw_V q1638 q1639 q1640 q105 q1641) hcee_X1_game rfl (by decide) hk_2 rfl rfl rfl (Nat.le_of_ble_eq_true rfl) (Nat.le_of_eq (Nat.add_comm _ _)) (Nat.le_of_eq (Nat.add_comm _ _)) ?_
      subst e_8
      refine z_catchP (nm := "java/lang/IllegalArgumentException") (tpre := [(0, 16, 19, 18)]) rfl rfl (by decide) q948 (by rw [of_decide_eq_true hx_12]; exact q177) (fun z hz => by cases List.mem_singleton.mp hz; exact ⟨by decide, of_decide_eq_true hx_12, q1362⟩) dX0_game_23 (by decide) (n := 25) rfl ?_
      refine z_iconst (n := 26) (v := 2) dX0_game_25 rfl (by decide) ?_
      obtain ⟨rfl, rfl⟩ := zpair hF
      exact z_iret dX0_game_26 rfl rfl ⟨rfl, rfl, rfl, rfl, rfl⟩
    cases hF
  first | rw [e_6] at c_3 ⊢ | rw [e_6] at c_3
  refine z_cV (n := 14) (mc2 := (cc.1 + 0)) (ms2 := (cc.2 + 0)) (st := [.int 0, .ref a6]) (C_X1_game htr c_3) dX0_game_11 rfl (lw_V q1638 q1639 q1640 q105 q1641) hcee_X1_game rfl (by decide) hk_2 rfl rfl rfl (Nat.le_of_ble_eq_true rfl) (Nat.le_of_eq (Nat.add_comm _ _)) (Nat.le_of_eq (Nat.add_comm _ _)) ?_
  refine z_toFI e_8 ?_
  refine z_i2l (n := 15) dX0_game_14 rfl ?_
  obtain ⟨n_13, hk_14, hF⟩ := zka_some hF
  obtain ⟨h_15, hF⟩ := zg_some hF
  obtain ⟨hb_16, hF⟩ := zg_some hF
  obtain ⟨h_17, e_18, hF⟩ := zlet_ob hF
  refine z_lastK (n := 16) 0 (by decide) dX0_game_15 rfl hk_14 (zbig hb_16) (zin_ok h_15) ?_
  refine z_toL e_18 ?_
  refine z_goto (t := 27) dX0_game_16 (by decide) ?_
  refine z_iconst (n := 28) (v := 0) dX0_game_27 rfl (by decide) ?_
  obtain ⟨rfl, rfl⟩ := zpair hF
  exact z_iret dX0_game_28 rfl rfl ⟨rfl, rfl, rfl, rfl, rfl⟩
theorem hcee_X1_hidden : zCee yX1_hidden RX1 1 := ⟨rfl, by decide +kernel, by decide +kernel, by decide +kernel⟩
abbrev MX0_hidden : zM := (RX0, cX0_hidden, 4, (some .int), "hidden", [((0 : Nat), (9 : Nat), (12 : Nat), (18 : Nat))])
noncomputable def F_X0_hidden (a0 : Nat) (a1 : Int32) (a2 : Nat) (h : zSt) : Option ((Nat × Nat) × (Int32 × zSt)) := zka (hK h) a0 0 (fun n_1 => zb2 (F_X1_hidden (hK h) (jF h) a0 a1 (hI h)) (fun s_4 I_5 => zpay (zxc s_4, zxs s_4) (zlet (zsFI h (jF h) I_5) (fun h_7 => zsum s_4 (fun x_9 => zka (hK h_7) a2 67 (fun n_12 => zg (zin 0 n_12) (zg (decide (600 ≤ a2)) (zlet (zsL h_7 (zu (hL h_7) a2 0 x_9.toInt64)) (fun h_16 => some ((0, 0), (0, h_16))))))) (fun w_10 => zx (decide (w_10.1 = "java/util/NoSuchElementException")) (some ((0, 0), (1, h_7))) (none))))))
set_option maxHeartbeats 1000000 in
theorem C_X0_hidden {l : Launch} {G : zGt} (htr : l.stackTraces = false) {a0 : Nat} {a1 : Int32} {a2 : Nat} {h : zSt} {cc : Nat × Nat} {r : Int32 × zSt} (hF : F_X0_hidden a0 a1 a2 h = some (cc, r)) : zMet l G yX0_hidden (wsW_ yX0_hidden cX0_hidden 4 (some .int) [((0 : Nat), (9 : Nat), (12 : Nat), (18 : Nat))]) 1007 24117 (cc.1 + 0) (cc.2 + 0) [.ref a0, .int a1, .ref a2] (hK h) (jF h) (hI h) (hL h) (zQe (.inl (some (.int r.1))) (hK r.2) (jF r.2) (hI r.2) (hL r.2)) := by
  refine zMet.ofH (by decide +kernel) htr (Nat.le_of_ble_eq_true rfl) ?_
  change zW l G MX0_hidden 1007 24117 (cc.1 + 0) (cc.2 + 0) 0 [(0, .ref a0), (1, .int a1), (2, .ref a2)] [] (hK h) (jF h) (hI h) (hL h) (zQe (.inl (some (.int r.1))) (hK r.2) (jF r.2) (hI r.2) (hL r.2))
  unfold F_X0_hidden at hF
  refine z_aload_n (n := 1) dX0_hidden_0 rfl 2 rfl rfl ?_
  refine z_iconst (n := 2) (v := 0) dX0_hidden_1 rfl (by decide) ?_
  refine z_aload_n (n := 3) dX0_hidden_2 rfl 0 rfl rfl ?_
  refine z_iload_n (n := 4) dX0_hidden_3 rfl 1 rfl rfl ?_
  obtain ⟨n_1, hk_2, hF⟩ := zka_some hF
  obtain ⟨s_4, I_5, c_3, hF⟩ := zb2_some hF
  obtain ⟨cc, hF, hcc⟩ := zpay_some hF
  refine z_payE hcc ?_
  obtain ⟨h_7, e_8, hF⟩ := zlet_ob hF
  rcases zsum_some hF with ⟨x_9, e_6, hF⟩ | ⟨w_10, e_6, hF⟩
  rotate_left
  · first | rw [e_6] at c_3 ⊢ | rw [e_6] at c_3
    rcases zx_some hF with ⟨hx_11, hF⟩ | ⟨hx_11, hF⟩
    · skip
      refine z_cVx (n := 7) (mc2 := (cc.1 + 0)) (ms2 := (cc.2 + 0)) (st := [.int 0, .ref a2]) (C_X1_hidden htr c_3) dX0_hidden_4 rfl (lw_V q1607 q1608 q1609 q105 q1610) hcee_X1_hidden rfl (by decide) hk_2 rfl rfl rfl (Nat.le_of_ble_eq_true rfl) (Nat.le_of_eq (Nat.add_comm _ _)) (Nat.le_of_eq (Nat.add_comm _ _)) ?_
      subst e_8
      refine z_catchO (nm := "java/util/NoSuchElementException") (tpre := []) rfl rfl (by decide) q1362 (by rw [of_decide_eq_true hx_11]; exact q1372) (fun z hz => nomatch hz) dX0_hidden_12 rfl (by decide) (n := 13) rfl ?_
      refine z_iconst (n := 14) (v := 1) dX0_hidden_13 rfl (by decide) ?_
      obtain ⟨rfl, rfl⟩ := zpair hF
      exact z_iret dX0_hidden_14 rfl rfl ⟨rfl, rfl, rfl, rfl, rfl⟩
    cases hF
  first | rw [e_6] at c_3 ⊢ | rw [e_6] at c_3
  refine z_cV (n := 7) (mc2 := (cc.1 + 0)) (ms2 := (cc.2 + 0)) (st := [.int 0, .ref a2]) (C_X1_hidden htr c_3) dX0_hidden_4 rfl (lw_V q1607 q1608 q1609 q105 q1610) hcee_X1_hidden rfl (by decide) hk_2 rfl rfl rfl (Nat.le_of_ble_eq_true rfl) (Nat.le_of_eq (Nat.add_comm _ _)) (Nat.le_of_eq (Nat.add_comm _ _)) ?_
  refine z_toFI e_8 ?_
  refine z_i2l (n := 8) dX0_hidden_7 rfl ?_
  obtain ⟨n_12, hk_13, hF⟩ := zka_some hF
  obtain ⟨h_14, hF⟩ := zg_some hF
  obtain ⟨hb_15, hF⟩ := zg_some hF
  obtain ⟨h_16, e_17, hF⟩ := zlet_ob hF
  refine z_lastK (n := 9) 0 (by decide) dX0_hidden_8 rfl hk_13 (zbig hb_15) (zin_ok h_14) ?_
  refine z_toL e_17 ?_
  refine z_goto (t := 15) dX0_hidden_9 (by decide) ?_
  refine z_iconst (n := 16) (v := 0) dX0_hidden_15 rfl (by decide) ?_
  obtain ⟨rfl, rfl⟩ := zpair hF
  exact z_iret dX0_hidden_16 rfl rfl ⟨rfl, rfl, rfl, rfl, rfl⟩
theorem hcee_X1_hostages : zCee yX1_hostages RX1 1 := ⟨rfl, by decide +kernel, by decide +kernel, by decide +kernel⟩
abbrev MX0_hostages : zM := (RX0, cX0_hostages, 4, (some .int), "hostages", [((0 : Nat), (9 : Nat), (12 : Nat), (13 : Nat))])
noncomputable def F_X0_hostages (a0 : Nat) (a1 : Int32) (a2 : Nat) (h : zSt) : Option ((Nat × Nat) × (Int32 × zSt)) := zka (hK h) a0 0 (fun n_1 => zb2 (F_X1_hostages (hK h) (jF h) a0 a1 (hI h)) (fun s_4 I_5 => zpay (zxc s_4, zxs s_4) (zlet (zsFI h (jF h) I_5) (fun h_7 => zsum s_4 (fun x_9 => zka (hK h_7) a2 67 (fun n_12 => zg (zin 0 n_12) (zg (decide (600 ≤ a2)) (zlet (zsL h_7 (zu (hL h_7) a2 0 x_9.toInt64)) (fun h_16 => some ((0, 0), (0, h_16))))))) (fun w_10 => zx (decide (w_10.1 = "java/lang/IllegalArgumentException")) (some ((0, 0), (1, h_7))) (none))))))
set_option maxHeartbeats 1000000 in
theorem C_X0_hostages {l : Launch} {G : zGt} (htr : l.stackTraces = false) {a0 : Nat} {a1 : Int32} {a2 : Nat} {h : zSt} {cc : Nat × Nat} {r : Int32 × zSt} (hF : F_X0_hostages a0 a1 a2 h = some (cc, r)) : zMet l G yX0_hostages (wsW_ yX0_hostages cX0_hostages 4 (some .int) [((0 : Nat), (9 : Nat), (12 : Nat), (13 : Nat))]) 1007 24114 (cc.1 + 0) (cc.2 + 0) [.ref a0, .int a1, .ref a2] (hK h) (jF h) (hI h) (hL h) (zQe (.inl (some (.int r.1))) (hK r.2) (jF r.2) (hI r.2) (hL r.2)) := by
  refine zMet.ofH (by decide +kernel) htr (Nat.le_of_ble_eq_true rfl) ?_
  change zW l G MX0_hostages 1007 24114 (cc.1 + 0) (cc.2 + 0) 0 [(0, .ref a0), (1, .int a1), (2, .ref a2)] [] (hK h) (jF h) (hI h) (hL h) (zQe (.inl (some (.int r.1))) (hK r.2) (jF r.2) (hI r.2) (hL r.2))
  unfold F_X0_hostages at hF
  refine z_aload_n (n := 1) dX0_hostages_0 rfl 2 rfl rfl ?_
  refine z_iconst (n := 2) (v := 0) dX0_hostages_1 rfl (by decide) ?_
  refine z_aload_n (n := 3) dX0_hostages_2 rfl 0 rfl rfl ?_
  refine z_iload_n (n := 4) dX0_hostages_3 rfl 1 rfl rfl ?_
  obtain ⟨n_1, hk_2, hF⟩ := zka_some hF
  obtain ⟨s_4, I_5, c_3, hF⟩ := zb2_some hF
  obtain ⟨cc, hF, hcc⟩ := zpay_some hF
  refine z_payE hcc ?_
  obtain ⟨h_7, e_8, hF⟩ := zlet_ob hF
  rcases zsum_some hF with ⟨x_9, e_6, hF⟩ | ⟨w_10, e_6, hF⟩
  rotate_left
  · first | rw [e_6] at c_3 ⊢ | rw [e_6] at c_3
    rcases zx_some hF with ⟨hx_11, hF⟩ | ⟨hx_11, hF⟩
    · skip
      refine z_cVx (n := 7) (mc2 := (cc.1 + 0)) (ms2 := (cc.2 + 0)) (st := [.int 0, .ref a2]) (C_X1_hostages htr c_3) dX0_hostages_4 rfl (lw_V q1490 q1491 q1492 q105 q1493) hcee_X1_hostages rfl (by decide) hk_2 rfl rfl rfl (Nat.le_of_ble_eq_true rfl) (Nat.le_of_eq (Nat.add_comm _ _)) (Nat.le_of_eq (Nat.add_comm _ _)) ?_
      subst e_8
      refine z_catchO (nm := "java/lang/IllegalArgumentException") (tpre := []) rfl rfl (by decide) q948 (by rw [of_decide_eq_true hx_11]; exact q177) (fun z hz => nomatch hz) dX0_hostages_12 rfl (by decide) (n := 13) rfl ?_
      refine z_iconst (n := 14) (v := 1) dX0_hostages_13 rfl (by decide) ?_
      obtain ⟨rfl, rfl⟩ := zpair hF
      exact z_iret dX0_hostages_14 rfl rfl ⟨rfl, rfl, rfl, rfl, rfl⟩
    cases hF
  first | rw [e_6] at c_3 ⊢ | rw [e_6] at c_3
  refine z_cV (n := 7) (mc2 := (cc.1 + 0)) (ms2 := (cc.2 + 0)) (st := [.int 0, .ref a2]) (C_X1_hostages htr c_3) dX0_hostages_4 rfl (lw_V q1490 q1491 q1492 q105 q1493) hcee_X1_hostages rfl (by decide) hk_2 rfl rfl rfl (Nat.le_of_ble_eq_true rfl) (Nat.le_of_eq (Nat.add_comm _ _)) (Nat.le_of_eq (Nat.add_comm _ _)) ?_
  refine z_toFI e_8 ?_
  refine z_i2l (n := 8) dX0_hostages_7 rfl ?_
  obtain ⟨n_12, hk_13, hF⟩ := zka_some hF
  obtain ⟨h_14, hF⟩ := zg_some hF
  obtain ⟨hb_15, hF⟩ := zg_some hF
  obtain ⟨h_16, e_17, hF⟩ := zlet_ob hF
  refine z_lastK (n := 9) 0 (by decide) dX0_hostages_8 rfl hk_13 (zbig hb_15) (zin_ok h_14) ?_
  refine z_toL e_17 ?_
  refine z_goto (t := 15) dX0_hostages_9 (by decide) ?_
  refine z_iconst (n := 16) (v := 0) dX0_hostages_15 rfl (by decide) ?_
  obtain ⟨rfl, rfl⟩ := zpair hF
  exact z_iret dX0_hostages_16 rfl rfl ⟨rfl, rfl, rfl, rfl, rfl⟩
theorem hcee_X1_land : zCee yX1_land RX1 1 := ⟨rfl, by decide +kernel, by decide +kernel, by decide +kernel⟩
abbrev MX0_land : zM := (RX0, cX0_land, 4, (some .int), "land", [((0 : Nat), (9 : Nat), (12 : Nat), (13 : Nat))])
noncomputable def F_X0_land (a0 : Nat) (a1 : Int32) (a2 : Nat) (h : zSt) : Option ((Nat × Nat) × (Int32 × zSt)) := zka (hK h) a0 0 (fun n_1 => zc1 (F_X1_land a0 a1 h) (fun c_6 => zn2 (fun s_4 h_5 => zpay c_6 (zsum s_4 (fun x_9 => zka (hK h_5) a2 67 (fun n_12 => zg (zin 0 n_12) (zg (decide (600 ≤ a2)) (zlet (zsL h_5 (zu (hL h_5) a2 0 x_9.toInt64)) (fun h_16 => some ((0, 0), (0, h_16))))))) (fun w_10 => zx (decide (w_10.1 = "java/lang/IllegalArgumentException")) (some ((0, 0), (1, h_5))) (none))))))
set_option maxHeartbeats 1000000 in
theorem C_X0_land {l : Launch} {G : zGt} (htr : l.stackTraces = false) {a0 : Nat} {a1 : Int32} {a2 : Nat} {h : zSt} {cc : Nat × Nat} {r : Int32 × zSt} (hF : F_X0_land a0 a1 a2 h = some (cc, r)) : zMet l G yX0_land (wsW_ yX0_land cX0_land 4 (some .int) [((0 : Nat), (9 : Nat), (12 : Nat), (13 : Nat))]) 1027 21188 (cc.1 + 0) (cc.2 + 0) [.ref a0, .int a1, .ref a2] (hK h) (jF h) (hI h) (hL h) (zQe (.inl (some (.int r.1))) (hK r.2) (jF r.2) (hI r.2) (hL r.2)) := by
  refine zMet.ofH (by decide +kernel) htr (Nat.le_of_ble_eq_true rfl) ?_
  change zW l G MX0_land 1027 21188 (cc.1 + 0) (cc.2 + 0) 0 [(0, .ref a0), (1, .int a1), (2, .ref a2)] [] (hK h) (jF h) (hI h) (hL h) (zQe (.inl (some (.int r.1))) (hK r.2) (jF r.2) (hI r.2) (hL r.2))
  unfold F_X0_land at hF
  refine z_aload_n (n := 1) dX0_land_0 rfl 2 rfl rfl ?_
  refine z_iconst (n := 2) (v := 0) dX0_land_1 rfl (by decide) ?_
  refine z_aload_n (n := 3) dX0_land_2 rfl 0 rfl rfl ?_
  refine z_iload_n (n := 4) dX0_land_3 rfl 1 rfl rfl ?_
  obtain ⟨n_1, hk_2, hF⟩ := zka_some hF
  obtain ⟨c_6, t_7, c_3, hF⟩ := zc1_some hF
  obtain ⟨s_4, h_5⟩ := t_7
  dsimp only [zn2] at hF
  obtain ⟨cc, hF, hcc⟩ := zpay_some hF
  refine z_payE hcc ?_
  rcases zsum_some hF with ⟨x_9, e_8, hF⟩ | ⟨w_10, e_8, hF⟩
  rotate_left
  · first | rw [e_8] at c_3 ⊢ | rw [e_8] at c_3
    rcases zx_some hF with ⟨hx_11, hF⟩ | ⟨hx_11, hF⟩
    · skip
      refine z_cVHx (n := 7) (mc2 := (cc.1 + 0)) (ms2 := (cc.2 + 0)) (st := [.int 0, .ref a2]) (C_X1_land htr c_3) dX0_land_4 rfl (lw_VW q949 q950 q951 q105 q952) hcee_X1_land rfl (by decide) hk_2 rfl rfl rfl (Nat.le_of_ble_eq_true rfl) (Nat.le_of_eq (Nat.add_comm _ _)) (Nat.le_of_eq (Nat.add_comm _ _)) ?_
      refine z_catchO (nm := "java/lang/IllegalArgumentException") (tpre := []) rfl rfl (by decide) q948 (by rw [of_decide_eq_true hx_11]; exact q177) (fun z hz => nomatch hz) dX0_land_12 rfl (by decide) (n := 13) rfl ?_
      refine z_iconst (n := 14) (v := 1) dX0_land_13 rfl (by decide) ?_
      obtain ⟨rfl, rfl⟩ := zpair hF
      exact z_iret dX0_land_14 rfl rfl ⟨rfl, rfl, rfl, rfl, rfl⟩
    cases hF
  first | rw [e_8] at c_3 ⊢ | rw [e_8] at c_3
  refine z_cVH (n := 7) (mc2 := (cc.1 + 0)) (ms2 := (cc.2 + 0)) (st := [.int 0, .ref a2]) (C_X1_land htr c_3) dX0_land_4 rfl (lw_VW q949 q950 q951 q105 q952) hcee_X1_land rfl (by decide) hk_2 rfl rfl rfl (Nat.le_of_ble_eq_true rfl) (Nat.le_of_eq (Nat.add_comm _ _)) (Nat.le_of_eq (Nat.add_comm _ _)) ?_
  refine z_i2l (n := 8) dX0_land_7 rfl ?_
  obtain ⟨n_12, hk_13, hF⟩ := zka_some hF
  obtain ⟨h_14, hF⟩ := zg_some hF
  obtain ⟨hb_15, hF⟩ := zg_some hF
  obtain ⟨h_16, e_17, hF⟩ := zlet_ob hF
  refine z_lastK (n := 9) 0 (by decide) dX0_land_8 rfl hk_13 (zbig hb_15) (zin_ok h_14) ?_
  refine z_toL e_17 ?_
  refine z_goto (t := 15) dX0_land_9 (by decide) ?_
  refine z_iconst (n := 16) (v := 0) dX0_land_15 rfl (by decide) ?_
  obtain ⟨rfl, rfl⟩ := zpair hF
  exact z_iret dX0_land_16 rfl rfl ⟨rfl, rfl, rfl, rfl, rfl⟩
theorem hcee_X1_lastBlack : zCee yX1_lastBlack RX1 1 := ⟨rfl, by decide +kernel, by decide +kernel, by decide +kernel⟩
abbrev MX0_lastBlack : zM := (RX0, cX0_lastBlack, 4, (some .int), "lastBlack", [((0 : Nat), (9 : Nat), (12 : Nat), (18 : Nat))])
noncomputable def F_X0_lastBlack (a0 : Nat) (a1 : Int32) (a2 : Nat) (h : zSt) : Option ((Nat × Nat) × (Int32 × zSt)) := zka (hK h) a0 0 (fun n_1 => zb2 (F_X1_lastBlack (hK h) (jF h) a0 a1 (hI h)) (fun s_4 I_5 => zpay (zxc s_4, zxs s_4) (zlet (zsFI h (jF h) I_5) (fun h_7 => zsum s_4 (fun x_9 => zka (hK h_7) a2 67 (fun n_12 => zg (zin 0 n_12) (zg (decide (600 ≤ a2)) (zlet (zsL h_7 (zu (hL h_7) a2 0 x_9.toInt64)) (fun h_16 => some ((0, 0), (0, h_16))))))) (fun w_10 => zx (decide (w_10.1 = "java/util/NoSuchElementException")) (some ((0, 0), (1, h_7))) (none))))))
set_option maxHeartbeats 1000000 in
theorem C_X0_lastBlack {l : Launch} {G : zGt} (htr : l.stackTraces = false) {a0 : Nat} {a1 : Int32} {a2 : Nat} {h : zSt} {cc : Nat × Nat} {r : Int32 × zSt} (hF : F_X0_lastBlack a0 a1 a2 h = some (cc, r)) : zMet l G yX0_lastBlack (wsW_ yX0_lastBlack cX0_lastBlack 4 (some .int) [((0 : Nat), (9 : Nat), (12 : Nat), (18 : Nat))]) 1006 24095 (cc.1 + 0) (cc.2 + 0) [.ref a0, .int a1, .ref a2] (hK h) (jF h) (hI h) (hL h) (zQe (.inl (some (.int r.1))) (hK r.2) (jF r.2) (hI r.2) (hL r.2)) := by
  refine zMet.ofH (by decide +kernel) htr (Nat.le_of_ble_eq_true rfl) ?_
  change zW l G MX0_lastBlack 1006 24095 (cc.1 + 0) (cc.2 + 0) 0 [(0, .ref a0), (1, .int a1), (2, .ref a2)] [] (hK h) (jF h) (hI h) (hL h) (zQe (.inl (some (.int r.1))) (hK r.2) (jF r.2) (hI r.2) (hL r.2))
  unfold F_X0_lastBlack at hF
  refine z_aload_n (n := 1) dX0_lastBlack_0 rfl 2 rfl rfl ?_
  refine z_iconst (n := 2) (v := 0) dX0_lastBlack_1 rfl (by decide) ?_
  refine z_aload_n (n := 3) dX0_lastBlack_2 rfl 0 rfl rfl ?_
  refine z_iload_n (n := 4) dX0_lastBlack_3 rfl 1 rfl rfl ?_
  obtain ⟨n_1, hk_2, hF⟩ := zka_some hF
  obtain ⟨s_4, I_5, c_3, hF⟩ := zb2_some hF
  obtain ⟨cc, hF, hcc⟩ := zpay_some hF
  refine z_payE hcc ?_
  obtain ⟨h_7, e_8, hF⟩ := zlet_ob hF
  rcases zsum_some hF with ⟨x_9, e_6, hF⟩ | ⟨w_10, e_6, hF⟩
  rotate_left
  · first | rw [e_6] at c_3 ⊢ | rw [e_6] at c_3
    rcases zx_some hF with ⟨hx_11, hF⟩ | ⟨hx_11, hF⟩
    · skip
      refine z_cVx (n := 7) (mc2 := (cc.1 + 0)) (ms2 := (cc.2 + 0)) (st := [.int 0, .ref a2]) (C_X1_lastBlack htr c_3) dX0_lastBlack_4 rfl (lw_V q1508 q1509 q1510 q105 q1511) hcee_X1_lastBlack rfl (by decide) hk_2 rfl rfl rfl (Nat.le_of_ble_eq_true rfl) (Nat.le_of_eq (Nat.add_comm _ _)) (Nat.le_of_eq (Nat.add_comm _ _)) ?_
      subst e_8
      refine z_catchO (nm := "java/util/NoSuchElementException") (tpre := []) rfl rfl (by decide) q1362 (by rw [of_decide_eq_true hx_11]; exact q1372) (fun z hz => nomatch hz) dX0_lastBlack_12 rfl (by decide) (n := 13) rfl ?_
      refine z_iconst (n := 14) (v := 1) dX0_lastBlack_13 rfl (by decide) ?_
      obtain ⟨rfl, rfl⟩ := zpair hF
      exact z_iret dX0_lastBlack_14 rfl rfl ⟨rfl, rfl, rfl, rfl, rfl⟩
    cases hF
  first | rw [e_6] at c_3 ⊢ | rw [e_6] at c_3
  refine z_cV (n := 7) (mc2 := (cc.1 + 0)) (ms2 := (cc.2 + 0)) (st := [.int 0, .ref a2]) (C_X1_lastBlack htr c_3) dX0_lastBlack_4 rfl (lw_V q1508 q1509 q1510 q105 q1511) hcee_X1_lastBlack rfl (by decide) hk_2 rfl rfl rfl (Nat.le_of_ble_eq_true rfl) (Nat.le_of_eq (Nat.add_comm _ _)) (Nat.le_of_eq (Nat.add_comm _ _)) ?_
  refine z_toFI e_8 ?_
  refine z_i2l (n := 8) dX0_lastBlack_7 rfl ?_
  obtain ⟨n_12, hk_13, hF⟩ := zka_some hF
  obtain ⟨h_14, hF⟩ := zg_some hF
  obtain ⟨hb_15, hF⟩ := zg_some hF
  obtain ⟨h_16, e_17, hF⟩ := zlet_ob hF
  refine z_lastK (n := 9) 0 (by decide) dX0_lastBlack_8 rfl hk_13 (zbig hb_15) (zin_ok h_14) ?_
  refine z_toL e_17 ?_
  refine z_goto (t := 15) dX0_lastBlack_9 (by decide) ?_
  refine z_iconst (n := 16) (v := 0) dX0_lastBlack_15 rfl (by decide) ?_
  obtain ⟨rfl, rfl⟩ := zpair hF
  exact z_iret dX0_lastBlack_16 rfl rfl ⟨rfl, rfl, rfl, rfl, rfl⟩
theorem hcee_X1_look : zCee yX1_look RX1 1 := ⟨rfl, by decide +kernel, by decide +kernel, by decide +kernel⟩
abbrev MX0_look : zM := (RX0, cX0_look, 4, (some .int), "look", [((0 : Nat), (9 : Nat), (12 : Nat), (18 : Nat))])
noncomputable def F_X0_look (a0 : Nat) (a1 : Int32) (a2 : Nat) (h : zSt) : Option ((Nat × Nat) × (Int32 × zSt)) := zka (hK h) a0 0 (fun n_1 => zb2 (F_X1_look (hK h) (jF h) a0 a1 (hI h)) (fun s_4 I_5 => zpay (zxc s_4, zxs s_4) (zlet (zsFI h (jF h) I_5) (fun h_7 => zsum s_4 (fun x_9 => zka (hK h_7) a2 67 (fun n_12 => zg (zin 0 n_12) (zg (decide (600 ≤ a2)) (zlet (zsL h_7 (zu (hL h_7) a2 0 x_9.toInt64)) (fun h_16 => some ((0, 0), (0, h_16))))))) (fun w_10 => zx (decide (w_10.1 = "java/util/NoSuchElementException")) (some ((0, 0), (1, h_7))) (none))))))
set_option maxHeartbeats 1000000 in
theorem C_X0_look {l : Launch} {G : zGt} (htr : l.stackTraces = false) {a0 : Nat} {a1 : Int32} {a2 : Nat} {h : zSt} {cc : Nat × Nat} {r : Int32 × zSt} (hF : F_X0_look a0 a1 a2 h = some (cc, r)) : zMet l G yX0_look (wsW_ yX0_look cX0_look 4 (some .int) [((0 : Nat), (9 : Nat), (12 : Nat), (18 : Nat))]) 1007 24119 (cc.1 + 0) (cc.2 + 0) [.ref a0, .int a1, .ref a2] (hK h) (jF h) (hI h) (hL h) (zQe (.inl (some (.int r.1))) (hK r.2) (jF r.2) (hI r.2) (hL r.2)) := by
  refine zMet.ofH (by decide +kernel) htr (Nat.le_of_ble_eq_true rfl) ?_
  change zW l G MX0_look 1007 24119 (cc.1 + 0) (cc.2 + 0) 0 [(0, .ref a0), (1, .int a1), (2, .ref a2)] [] (hK h) (jF h) (hI h) (hL h) (zQe (.inl (some (.int r.1))) (hK r.2) (jF r.2) (hI r.2) (hL r.2))
  unfold F_X0_look at hF
  refine z_aload_n (n := 1) dX0_look_0 rfl 2 rfl rfl ?_
  refine z_iconst (n := 2) (v := 0) dX0_look_1 rfl (by decide) ?_
  refine z_aload_n (n := 3) dX0_look_2 rfl 0 rfl rfl ?_
  refine z_iload_n (n := 4) dX0_look_3 rfl 1 rfl rfl ?_
  obtain ⟨n_1, hk_2, hF⟩ := zka_some hF
  obtain ⟨s_4, I_5, c_3, hF⟩ := zb2_some hF
  obtain ⟨cc, hF, hcc⟩ := zpay_some hF
  refine z_payE hcc ?_
  obtain ⟨h_7, e_8, hF⟩ := zlet_ob hF
  rcases zsum_some hF with ⟨x_9, e_6, hF⟩ | ⟨w_10, e_6, hF⟩
  rotate_left
  · first | rw [e_6] at c_3 ⊢ | rw [e_6] at c_3
    rcases zx_some hF with ⟨hx_11, hF⟩ | ⟨hx_11, hF⟩
    · skip
      refine z_cVx (n := 7) (mc2 := (cc.1 + 0)) (ms2 := (cc.2 + 0)) (st := [.int 0, .ref a2]) (C_X1_look htr c_3) dX0_look_4 rfl (lw_V q1626 q1627 q1628 q105 q1629) hcee_X1_look rfl (by decide) hk_2 rfl rfl rfl (Nat.le_of_ble_eq_true rfl) (Nat.le_of_eq (Nat.add_comm _ _)) (Nat.le_of_eq (Nat.add_comm _ _)) ?_
      subst e_8
      refine z_catchO (nm := "java/util/NoSuchElementException") (tpre := []) rfl rfl (by decide) q1362 (by rw [of_decide_eq_true hx_11]; exact q1372) (fun z hz => nomatch hz) dX0_look_12 rfl (by decide) (n := 13) rfl ?_
      refine z_iconst (n := 14) (v := 1) dX0_look_13 rfl (by decide) ?_
      obtain ⟨rfl, rfl⟩ := zpair hF
      exact z_iret dX0_look_14 rfl rfl ⟨rfl, rfl, rfl, rfl, rfl⟩
    cases hF
  first | rw [e_6] at c_3 ⊢ | rw [e_6] at c_3
  refine z_cV (n := 7) (mc2 := (cc.1 + 0)) (ms2 := (cc.2 + 0)) (st := [.int 0, .ref a2]) (C_X1_look htr c_3) dX0_look_4 rfl (lw_V q1626 q1627 q1628 q105 q1629) hcee_X1_look rfl (by decide) hk_2 rfl rfl rfl (Nat.le_of_ble_eq_true rfl) (Nat.le_of_eq (Nat.add_comm _ _)) (Nat.le_of_eq (Nat.add_comm _ _)) ?_
  refine z_toFI e_8 ?_
  refine z_i2l (n := 8) dX0_look_7 rfl ?_
  obtain ⟨n_12, hk_13, hF⟩ := zka_some hF
  obtain ⟨h_14, hF⟩ := zg_some hF
  obtain ⟨hb_15, hF⟩ := zg_some hF
  obtain ⟨h_16, e_17, hF⟩ := zlet_ob hF
  refine z_lastK (n := 9) 0 (by decide) dX0_look_8 rfl hk_13 (zbig hb_15) (zin_ok h_14) ?_
  refine z_toL e_17 ?_
  refine z_goto (t := 15) dX0_look_9 (by decide) ?_
  refine z_iconst (n := 16) (v := 0) dX0_look_15 rfl (by decide) ?_
  obtain ⟨rfl, rfl⟩ := zpair hF
  exact z_iret dX0_look_16 rfl rfl ⟨rfl, rfl, rfl, rfl, rfl⟩
theorem hcee_X1_meeting : zCee yX1_meeting RX1 3 := ⟨rfl, by decide +kernel, by decide +kernel, by decide +kernel⟩
abbrev MX0_meeting : zM := (RX0, cX0_meeting, 6, (some .int), "meeting", [((0 : Nat), (12 : Nat), (15 : Nat), (18 : Nat))])
noncomputable def F_X0_meeting (a0 : Nat) (a1 : Int32) (a2 : Int32) (a3 : Int32) (a4 : Nat) (h : zSt) : Option ((Nat × Nat) × (Int32 × zSt)) := zka (hK h) a0 0 (fun n_1 => zb2 (F_X1_meeting (hK h) (jF h) a0 a1 a2 a3 (hI h)) (fun s_4 I_5 => zpay (zxc s_4, zxs s_4) (zlet (zsFI h (jF h) I_5) (fun h_7 => zsum s_4 (fun x_9 => zka (hK h_7) a4 67 (fun n_12 => zg (zin 0 n_12) (zg (decide (600 ≤ a4)) (zlet (zsL h_7 (zu (hL h_7) a4 0 x_9.toInt64)) (fun h_16 => some ((0, 0), (0, h_16))))))) (fun w_10 => zx (decide (w_10.1 = "java/util/NoSuchElementException")) (some ((0, 0), (1, h_7))) (none))))))
set_option maxHeartbeats 1000000 in
theorem C_X0_meeting {l : Launch} {G : zGt} (htr : l.stackTraces = false) {a0 : Nat} {a1 : Int32} {a2 : Int32} {a3 : Int32} {a4 : Nat} {h : zSt} {cc : Nat × Nat} {r : Int32 × zSt} (hF : F_X0_meeting a0 a1 a2 a3 a4 h = some (cc, r)) : zMet l G yX0_meeting (wsW_ yX0_meeting cX0_meeting 6 (some .int) [((0 : Nat), (12 : Nat), (15 : Nat), (18 : Nat))]) 11 270 (cc.1 + 0) (cc.2 + 0) [.ref a0, .int a1, .int a2, .int a3, .ref a4] (hK h) (jF h) (hI h) (hL h) (zQe (.inl (some (.int r.1))) (hK r.2) (jF r.2) (hI r.2) (hL r.2)) := by
  refine zMet.ofH (by decide +kernel) htr (Nat.le_of_ble_eq_true rfl) ?_
  change zW l G MX0_meeting 11 270 (cc.1 + 0) (cc.2 + 0) 0 [(0, .ref a0), (1, .int a1), (2, .int a2), (3, .int a3), (4, .ref a4)] [] (hK h) (jF h) (hI h) (hL h) (zQe (.inl (some (.int r.1))) (hK r.2) (jF r.2) (hI r.2) (hL r.2))
  unfold F_X0_meeting at hF
  refine z_aload (n := 2) dX0_meeting_0 rfl 4 rfl ?_
  refine z_iconst (n := 3) (v := 0) dX0_meeting_2 rfl (by decide) ?_
  refine z_aload_n (n := 4) dX0_meeting_3 rfl 0 rfl rfl ?_
  refine z_iload_n (n := 5) dX0_meeting_4 rfl 1 rfl rfl ?_
  refine z_iload_n (n := 6) dX0_meeting_5 rfl 2 rfl rfl ?_
  refine z_iload_n (n := 7) dX0_meeting_6 rfl 3 rfl rfl ?_
  obtain ⟨n_1, hk_2, hF⟩ := zka_some hF
  obtain ⟨s_4, I_5, c_3, hF⟩ := zb2_some hF
  obtain ⟨cc, hF, hcc⟩ := zpay_some hF
  refine z_payE hcc ?_
  obtain ⟨h_7, e_8, hF⟩ := zlet_ob hF
  rcases zsum_some hF with ⟨x_9, e_6, hF⟩ | ⟨w_10, e_6, hF⟩
  rotate_left
  · first | rw [e_6] at c_3 ⊢ | rw [e_6] at c_3
    rcases zx_some hF with ⟨hx_11, hF⟩ | ⟨hx_11, hF⟩
    · skip
      refine z_cVx (n := 10) (mc2 := (cc.1 + 0)) (ms2 := (cc.2 + 0)) (st := [.int 0, .ref a4]) (C_X1_meeting htr c_3) dX0_meeting_7 rfl (lw_V q1574 q1575 q1576 q105 q1577) hcee_X1_meeting rfl (by decide) hk_2 rfl rfl rfl (Nat.le_of_ble_eq_true rfl) (Nat.le_of_eq (Nat.add_comm _ _)) (Nat.le_of_eq (Nat.add_comm _ _)) ?_
      subst e_8
      refine z_catchP (nm := "java/util/NoSuchElementException") (tpre := []) rfl rfl (by decide) q1362 (by rw [of_decide_eq_true hx_11]; exact q1372) (fun z hz => nomatch hz) dX0_meeting_15 (by decide) (n := 17) rfl ?_
      refine z_iconst (n := 18) (v := 1) dX0_meeting_17 rfl (by decide) ?_
      obtain ⟨rfl, rfl⟩ := zpair hF
      exact z_iret dX0_meeting_18 rfl rfl ⟨rfl, rfl, rfl, rfl, rfl⟩
    cases hF
  first | rw [e_6] at c_3 ⊢ | rw [e_6] at c_3
  refine z_cV (n := 10) (mc2 := (cc.1 + 0)) (ms2 := (cc.2 + 0)) (st := [.int 0, .ref a4]) (C_X1_meeting htr c_3) dX0_meeting_7 rfl (lw_V q1574 q1575 q1576 q105 q1577) hcee_X1_meeting rfl (by decide) hk_2 rfl rfl rfl (Nat.le_of_ble_eq_true rfl) (Nat.le_of_eq (Nat.add_comm _ _)) (Nat.le_of_eq (Nat.add_comm _ _)) ?_
  refine z_toFI e_8 ?_
  refine z_i2l (n := 11) dX0_meeting_10 rfl ?_
  obtain ⟨n_12, hk_13, hF⟩ := zka_some hF
  obtain ⟨h_14, hF⟩ := zg_some hF
  obtain ⟨hb_15, hF⟩ := zg_some hF
  obtain ⟨h_16, e_17, hF⟩ := zlet_ob hF
  refine z_lastK (n := 12) 0 (by decide) dX0_meeting_11 rfl hk_13 (zbig hb_15) (zin_ok h_14) ?_
  refine z_toL e_17 ?_
  refine z_goto (t := 19) dX0_meeting_12 (by decide) ?_
  refine z_iconst (n := 20) (v := 0) dX0_meeting_19 rfl (by decide) ?_
  obtain ⟨rfl, rfl⟩ := zpair hF
  exact z_iret dX0_meeting_20 rfl rfl ⟨rfl, rfl, rfl, rfl, rfl⟩
theorem hcee_X1_move : zCee yX1_move RX1 2 := ⟨rfl, by decide +kernel, by decide +kernel, by decide +kernel⟩
abbrev MX0_move : zM := (RX0, cX0_move, 5, (some .int), "move", [((0 : Nat), (10 : Nat), (13 : Nat), (18 : Nat))])
noncomputable def F_X0_move (a0 : Nat) (a1 : Int32) (a2 : Int32) (a3 : Nat) (h : zSt) : Option ((Nat × Nat) × (Int32 × zSt)) := zka (hK h) a0 0 (fun n_1 => zc1 (F_X1_move a0 a1 a2 h) (fun c_6 => zn2 (fun s_4 h_5 => zpay c_6 (zsum s_4 (fun x_9 => zka (hK h_5) a3 67 (fun n_12 => zg (zin 0 n_12) (zg (decide (600 ≤ a3)) (zlet (zsL h_5 (zu (hL h_5) a3 0 x_9.toInt64)) (fun h_16 => some ((0, 0), (0, h_16))))))) (fun w_10 => zx (decide (w_10.1 = "java/util/NoSuchElementException")) (some ((0, 0), (1, h_5))) (none))))))
set_option maxHeartbeats 1000000 in
theorem C_X0_move {l : Launch} {G : zGt} (htr : l.stackTraces = false) {a0 : Nat} {a1 : Int32} {a2 : Int32} {a3 : Nat} {h : zSt} {cc : Nat × Nat} {r : Int32 × zSt} (hF : F_X0_move a0 a1 a2 a3 h = some (cc, r)) : zMet l G yX0_move (wsW_ yX0_move cX0_move 5 (some .int) [((0 : Nat), (10 : Nat), (13 : Nat), (18 : Nat))]) 11 264 (cc.1 + 0) (cc.2 + 0) [.ref a0, .int a1, .int a2, .ref a3] (hK h) (jF h) (hI h) (hL h) (zQe (.inl (some (.int r.1))) (hK r.2) (jF r.2) (hI r.2) (hL r.2)) := by
  refine zMet.ofH (by decide +kernel) htr (Nat.le_of_ble_eq_true rfl) ?_
  change zW l G MX0_move 11 264 (cc.1 + 0) (cc.2 + 0) 0 [(0, .ref a0), (1, .int a1), (2, .int a2), (3, .ref a3)] [] (hK h) (jF h) (hI h) (hL h) (zQe (.inl (some (.int r.1))) (hK r.2) (jF r.2) (hI r.2) (hL r.2))
  unfold F_X0_move at hF
  refine z_aload_n (n := 1) dX0_move_0 rfl 3 rfl rfl ?_
  refine z_iconst (n := 2) (v := 0) dX0_move_1 rfl (by decide) ?_
  refine z_aload_n (n := 3) dX0_move_2 rfl 0 rfl rfl ?_
  refine z_iload_n (n := 4) dX0_move_3 rfl 1 rfl rfl ?_
  refine z_iload_n (n := 5) dX0_move_4 rfl 2 rfl rfl ?_
  obtain ⟨n_1, hk_2, hF⟩ := zka_some hF
  obtain ⟨c_6, t_7, c_3, hF⟩ := zc1_some hF
  obtain ⟨s_4, h_5⟩ := t_7
  dsimp only [zn2] at hF
  obtain ⟨cc, hF, hcc⟩ := zpay_some hF
  refine z_payE hcc ?_
  rcases zsum_some hF with ⟨x_9, e_8, hF⟩ | ⟨w_10, e_8, hF⟩
  rotate_left
  · first | rw [e_8] at c_3 ⊢ | rw [e_8] at c_3
    rcases zx_some hF with ⟨hx_11, hF⟩ | ⟨hx_11, hF⟩
    · skip
      refine z_cVx (n := 8) (mc2 := (cc.1 + 0)) (ms2 := (cc.2 + 0)) (st := [.int 0, .ref a3]) (C_X1_move htr c_3) dX0_move_5 rfl (lw_V q1429 q1430 q1431 q105 q1432) hcee_X1_move rfl (by decide) hk_2 rfl rfl rfl (Nat.le_of_ble_eq_true rfl) (Nat.le_of_eq (Nat.add_comm _ _)) (Nat.le_of_eq (Nat.add_comm _ _)) ?_
      refine z_catchP (nm := "java/util/NoSuchElementException") (tpre := []) rfl rfl (by decide) q1362 (by rw [of_decide_eq_true hx_11]; exact q1372) (fun z hz => nomatch hz) dX0_move_13 (by decide) (n := 15) rfl ?_
      refine z_iconst (n := 16) (v := 1) dX0_move_15 rfl (by decide) ?_
      obtain ⟨rfl, rfl⟩ := zpair hF
      exact z_iret dX0_move_16 rfl rfl ⟨rfl, rfl, rfl, rfl, rfl⟩
    cases hF
  first | rw [e_8] at c_3 ⊢ | rw [e_8] at c_3
  refine z_cV (n := 8) (mc2 := (cc.1 + 0)) (ms2 := (cc.2 + 0)) (st := [.int 0, .ref a3]) (C_X1_move htr c_3) dX0_move_5 rfl (lw_V q1429 q1430 q1431 q105 q1432) hcee_X1_move rfl (by decide) hk_2 rfl rfl rfl (Nat.le_of_ble_eq_true rfl) (Nat.le_of_eq (Nat.add_comm _ _)) (Nat.le_of_eq (Nat.add_comm _ _)) ?_
  refine z_i2l (n := 9) dX0_move_8 rfl ?_
  obtain ⟨n_12, hk_13, hF⟩ := zka_some hF
  obtain ⟨h_14, hF⟩ := zg_some hF
  obtain ⟨hb_15, hF⟩ := zg_some hF
  obtain ⟨h_16, e_17, hF⟩ := zlet_ob hF
  refine z_lastK (n := 10) 0 (by decide) dX0_move_9 rfl hk_13 (zbig hb_15) (zin_ok h_14) ?_
  refine z_toL e_17 ?_
  refine z_goto (t := 17) dX0_move_10 (by decide) ?_
  refine z_iconst (n := 18) (v := 0) dX0_move_17 rfl (by decide) ?_
  obtain ⟨rfl, rfl⟩ := zpair hF
  exact z_iret dX0_move_18 rfl rfl ⟨rfl, rfl, rfl, rfl, rfl⟩
theorem hcee_X1_owing : zCee yX1_owing RX1 1 := ⟨rfl, by decide +kernel, by decide +kernel, by decide +kernel⟩
abbrev MX0_owing : zM := (RX0, cX0_owing, 4, (some .int), "owing", [((0 : Nat), (9 : Nat), (12 : Nat), (13 : Nat))])
noncomputable def F_X0_owing (a0 : Nat) (a1 : Int32) (a2 : Nat) (h : zSt) : Option ((Nat × Nat) × (Int32 × zSt)) := zka (hK h) a0 0 (fun n_1 => zb2 (F_X1_owing (hK h) (jF h) a0 a1 (hI h)) (fun s_4 I_5 => zpay (zxc s_4, zxs s_4) (zlet (zsFI h (jF h) I_5) (fun h_7 => zsum s_4 (fun x_9 => zka (hK h_7) a2 67 (fun n_12 => zg (zin 0 n_12) (zg (decide (600 ≤ a2)) (zlet (zsL h_7 (zu (hL h_7) a2 0 x_9.toInt64)) (fun h_16 => some ((0, 0), (0, h_16))))))) (fun w_10 => zx (decide (w_10.1 = "java/lang/IllegalArgumentException")) (some ((0, 0), (1, h_7))) (none))))))
set_option maxHeartbeats 1000000 in
theorem C_X0_owing {l : Launch} {G : zGt} (htr : l.stackTraces = false) {a0 : Nat} {a1 : Int32} {a2 : Nat} {h : zSt} {cc : Nat × Nat} {r : Int32 × zSt} (hF : F_X0_owing a0 a1 a2 h = some (cc, r)) : zMet l G yX0_owing (wsW_ yX0_owing cX0_owing 4 (some .int) [((0 : Nat), (9 : Nat), (12 : Nat), (13 : Nat))]) 1007 24116 (cc.1 + 0) (cc.2 + 0) [.ref a0, .int a1, .ref a2] (hK h) (jF h) (hI h) (hL h) (zQe (.inl (some (.int r.1))) (hK r.2) (jF r.2) (hI r.2) (hL r.2)) := by
  refine zMet.ofH (by decide +kernel) htr (Nat.le_of_ble_eq_true rfl) ?_
  change zW l G MX0_owing 1007 24116 (cc.1 + 0) (cc.2 + 0) 0 [(0, .ref a0), (1, .int a1), (2, .ref a2)] [] (hK h) (jF h) (hI h) (hL h) (zQe (.inl (some (.int r.1))) (hK r.2) (jF r.2) (hI r.2) (hL r.2))
  unfold F_X0_owing at hF
  refine z_aload_n (n := 1) dX0_owing_0 rfl 2 rfl rfl ?_
  refine z_iconst (n := 2) (v := 0) dX0_owing_1 rfl (by decide) ?_
  refine z_aload_n (n := 3) dX0_owing_2 rfl 0 rfl rfl ?_
  refine z_iload_n (n := 4) dX0_owing_3 rfl 1 rfl rfl ?_
  obtain ⟨n_1, hk_2, hF⟩ := zka_some hF
  obtain ⟨s_4, I_5, c_3, hF⟩ := zb2_some hF
  obtain ⟨cc, hF, hcc⟩ := zpay_some hF
  refine z_payE hcc ?_
  obtain ⟨h_7, e_8, hF⟩ := zlet_ob hF
  rcases zsum_some hF with ⟨x_9, e_6, hF⟩ | ⟨w_10, e_6, hF⟩
  rotate_left
  · first | rw [e_6] at c_3 ⊢ | rw [e_6] at c_3
    rcases zx_some hF with ⟨hx_11, hF⟩ | ⟨hx_11, hF⟩
    · skip
      refine z_cVx (n := 7) (mc2 := (cc.1 + 0)) (ms2 := (cc.2 + 0)) (st := [.int 0, .ref a2]) (C_X1_owing htr c_3) dX0_owing_4 rfl (lw_V q1501 q1502 q1503 q105 q1504) hcee_X1_owing rfl (by decide) hk_2 rfl rfl rfl (Nat.le_of_ble_eq_true rfl) (Nat.le_of_eq (Nat.add_comm _ _)) (Nat.le_of_eq (Nat.add_comm _ _)) ?_
      subst e_8
      refine z_catchO (nm := "java/lang/IllegalArgumentException") (tpre := []) rfl rfl (by decide) q948 (by rw [of_decide_eq_true hx_11]; exact q177) (fun z hz => nomatch hz) dX0_owing_12 rfl (by decide) (n := 13) rfl ?_
      refine z_iconst (n := 14) (v := 1) dX0_owing_13 rfl (by decide) ?_
      obtain ⟨rfl, rfl⟩ := zpair hF
      exact z_iret dX0_owing_14 rfl rfl ⟨rfl, rfl, rfl, rfl, rfl⟩
    cases hF
  first | rw [e_6] at c_3 ⊢ | rw [e_6] at c_3
  refine z_cV (n := 7) (mc2 := (cc.1 + 0)) (ms2 := (cc.2 + 0)) (st := [.int 0, .ref a2]) (C_X1_owing htr c_3) dX0_owing_4 rfl (lw_V q1501 q1502 q1503 q105 q1504) hcee_X1_owing rfl (by decide) hk_2 rfl rfl rfl (Nat.le_of_ble_eq_true rfl) (Nat.le_of_eq (Nat.add_comm _ _)) (Nat.le_of_eq (Nat.add_comm _ _)) ?_
  refine z_toFI e_8 ?_
  refine z_i2l (n := 8) dX0_owing_7 rfl ?_
  obtain ⟨n_12, hk_13, hF⟩ := zka_some hF
  obtain ⟨h_14, hF⟩ := zg_some hF
  obtain ⟨hb_15, hF⟩ := zg_some hF
  obtain ⟨h_16, e_17, hF⟩ := zlet_ob hF
  refine z_lastK (n := 9) 0 (by decide) dX0_owing_8 rfl hk_13 (zbig hb_15) (zin_ok h_14) ?_
  refine z_toL e_17 ?_
  refine z_goto (t := 15) dX0_owing_9 (by decide) ?_
  refine z_iconst (n := 16) (v := 0) dX0_owing_15 rfl (by decide) ?_
  obtain ⟨rfl, rfl⟩ := zpair hF
  exact z_iret dX0_owing_16 rfl rfl ⟨rfl, rfl, rfl, rfl, rfl⟩
theorem hcee_X1_paid : zCee yX1_paid RX1 2 := ⟨rfl, by decide +kernel, by decide +kernel, by decide +kernel⟩
abbrev MX0_paid : zM := (RX0, cX0_paid, 5, (some .int), "paid", [((0 : Nat), (10 : Nat), (13 : Nat), (18 : Nat)), ((0 : Nat), (10 : Nat), (17 : Nat), (13 : Nat))])
noncomputable def F_X0_paid (a0 : Nat) (a1 : Int32) (a2 : Int32) (a3 : Nat) (h : zSt) : Option ((Nat × Nat) × (Int32 × zSt)) := zka (hK h) a0 0 (fun n_1 => zb2 (F_X1_paid (hK h) (jF h) a0 a1 a2 (hI h)) (fun s_4 I_5 => zpay (zxc s_4, zxs s_4) (zlet (zsFI h (jF h) I_5) (fun h_7 => zsum s_4 (fun x_9 => zka (hK h_7) a3 67 (fun n_13 => zg (zin 0 n_13) (zg (decide (600 ≤ a3)) (zlet (zsL h_7 (zu (hL h_7) a3 0 x_9.toInt64)) (fun h_17 => some ((0, 0), (0, h_17))))))) (fun w_10 => zx (decide (w_10.1 = "java/util/NoSuchElementException")) (some ((0, 0), (1, h_7))) (zx (decide (w_10.1 = "java/lang/IllegalArgumentException")) (some ((0, 0), (2, h_7))) (none)))))))
set_option maxHeartbeats 1000000 in
theorem C_X0_paid {l : Launch} {G : zGt} (htr : l.stackTraces = false) {a0 : Nat} {a1 : Int32} {a2 : Int32} {a3 : Nat} {h : zSt} {cc : Nat × Nat} {r : Int32 × zSt} (hF : F_X0_paid a0 a1 a2 a3 h = some (cc, r)) : zMet l G yX0_paid (wsW_ yX0_paid cX0_paid 5 (some .int) [((0 : Nat), (10 : Nat), (13 : Nat), (18 : Nat)), ((0 : Nat), (10 : Nat), (17 : Nat), (13 : Nat))]) 1007 24115 (cc.1 + 0) (cc.2 + 0) [.ref a0, .int a1, .int a2, .ref a3] (hK h) (jF h) (hI h) (hL h) (zQe (.inl (some (.int r.1))) (hK r.2) (jF r.2) (hI r.2) (hL r.2)) := by
  refine zMet.ofH (by decide +kernel) htr (Nat.le_of_ble_eq_true rfl) ?_
  change zW l G MX0_paid 1007 24115 (cc.1 + 0) (cc.2 + 0) 0 [(0, .ref a0), (1, .int a1), (2, .int a2), (3, .ref a3)] [] (hK h) (jF h) (hI h) (hL h) (zQe (.inl (some (.int r.1))) (hK r.2) (jF r.2) (hI r.2) (hL r.2))
  unfold F_X0_paid at hF
  refine z_aload_n (n := 1) dX0_paid_0 rfl 3 rfl rfl ?_
  refine z_iconst (n := 2) (v := 0) dX0_paid_1 rfl (by decide) ?_
  refine z_aload_n (n := 3) dX0_paid_2 rfl 0 rfl rfl ?_
  refine z_iload_n (n := 4) dX0_paid_3 rfl 1 rfl rfl ?_
  refine z_iload_n (n := 5) dX0_paid_4 rfl 2 rfl rfl ?_
  obtain ⟨n_1, hk_2, hF⟩ := zka_some hF
  obtain ⟨s_4, I_5, c_3, hF⟩ := zb2_some hF
  obtain ⟨cc, hF, hcc⟩ := zpay_some hF
  refine z_payE hcc ?_
  obtain ⟨h_7, e_8, hF⟩ := zlet_ob hF
  rcases zsum_some hF with ⟨x_9, e_6, hF⟩ | ⟨w_10, e_6, hF⟩
  rotate_left
  · first | rw [e_6] at c_3 ⊢ | rw [e_6] at c_3
    rcases zx_some hF with ⟨hx_11, hF⟩ | ⟨hx_11, hF⟩
    · skip
      refine z_cVx (n := 8) (mc2 := (cc.1 + 0)) (ms2 := (cc.2 + 0)) (st := [.int 0, .ref a3]) (C_X1_paid htr c_3) dX0_paid_5 rfl (lw_V q1483 q1484 q1485 q105 q1486) hcee_X1_paid rfl (by decide) hk_2 rfl rfl rfl (Nat.le_of_ble_eq_true rfl) (Nat.le_of_eq (Nat.add_comm _ _)) (Nat.le_of_eq (Nat.add_comm _ _)) ?_
      subst e_8
      refine z_catchP (nm := "java/util/NoSuchElementException") (tpre := []) rfl rfl (by decide) q1362 (by rw [of_decide_eq_true hx_11]; exact q1372) (fun z hz => nomatch hz) dX0_paid_13 (by decide) (n := 15) rfl ?_
      refine z_iconst (n := 16) (v := 1) dX0_paid_15 rfl (by decide) ?_
      obtain ⟨rfl, rfl⟩ := zpair hF
      exact z_iret dX0_paid_16 rfl rfl ⟨rfl, rfl, rfl, rfl, rfl⟩
    rcases zx_some hF with ⟨hx_12, hF⟩ | ⟨hx_12, hF⟩
    · skip
      refine z_cVx (n := 8) (mc2 := (cc.1 + 0)) (ms2 := (cc.2 + 0)) (st := [.int 0, .ref a3]) (C_X1_paid htr c_3) dX0_paid_5 rfl (lw_V q1483 q1484 q1485 q105 q1486) hcee_X1_paid rfl (by decide) hk_2 rfl rfl rfl (Nat.le_of_ble_eq_true rfl) (Nat.le_of_eq (Nat.add_comm _ _)) (Nat.le_of_eq (Nat.add_comm _ _)) ?_
      subst e_8
      refine z_catchP (nm := "java/lang/IllegalArgumentException") (tpre := [(0, 10, 13, 18)]) rfl rfl (by decide) q948 (by rw [of_decide_eq_true hx_12]; exact q177) (fun z hz => by cases List.mem_singleton.mp hz; exact ⟨by decide, of_decide_eq_true hx_12, q1362⟩) dX0_paid_17 (by decide) (n := 19) rfl ?_
      refine z_iconst (n := 20) (v := 2) dX0_paid_19 rfl (by decide) ?_
      obtain ⟨rfl, rfl⟩ := zpair hF
      exact z_iret dX0_paid_20 rfl rfl ⟨rfl, rfl, rfl, rfl, rfl⟩
    cases hF
  first | rw [e_6] at c_3 ⊢ | rw [e_6] at c_3
  refine z_cV (n := 8) (mc2 := (cc.1 + 0)) (ms2 := (cc.2 + 0)) (st := [.int 0, .ref a3]) (C_X1_paid htr c_3) dX0_paid_5 rfl (lw_V q1483 q1484 q1485 q105 q1486) hcee_X1_paid rfl (by decide) hk_2 rfl rfl rfl (Nat.le_of_ble_eq_true rfl) (Nat.le_of_eq (Nat.add_comm _ _)) (Nat.le_of_eq (Nat.add_comm _ _)) ?_
  refine z_toFI e_8 ?_
  refine z_i2l (n := 9) dX0_paid_8 rfl ?_
  obtain ⟨n_13, hk_14, hF⟩ := zka_some hF
  obtain ⟨h_15, hF⟩ := zg_some hF
  obtain ⟨hb_16, hF⟩ := zg_some hF
  obtain ⟨h_17, e_18, hF⟩ := zlet_ob hF
  refine z_lastK (n := 10) 0 (by decide) dX0_paid_9 rfl hk_14 (zbig hb_16) (zin_ok h_15) ?_
  refine z_toL e_18 ?_
  refine z_goto (t := 21) dX0_paid_10 (by decide) ?_
  refine z_iconst (n := 22) (v := 0) dX0_paid_21 rfl (by decide) ?_
  obtain ⟨rfl, rfl⟩ := zpair hF
  exact z_iret dX0_paid_22 rfl rfl ⟨rfl, rfl, rfl, rfl, rfl⟩
theorem hcee_X1_rest : zCee yX1_rest RX1 2 := ⟨rfl, by decide +kernel, by decide +kernel, by decide +kernel⟩
abbrev MX0_rest : zM := (RX0, cX0_rest, 5, (some .int), "rest", [((0 : Nat), (10 : Nat), (13 : Nat), (18 : Nat))])
noncomputable def F_X0_rest (a0 : Nat) (a1 : Int32) (a2 : Int32) (a3 : Nat) (h : zSt) : Option ((Nat × Nat) × (Int32 × zSt)) := zka (hK h) a0 0 (fun n_1 => zc1 (F_X1_rest a0 a1 a2 h) (fun c_6 => zn2 (fun s_4 h_5 => zpay c_6 (zsum s_4 (fun x_9 => zka (hK h_5) a3 67 (fun n_12 => zg (zin 0 n_12) (zg (decide (600 ≤ a3)) (zlet (zsL h_5 (zu (hL h_5) a3 0 x_9.toInt64)) (fun h_16 => some ((0, 0), (0, h_16))))))) (fun w_10 => zx (decide (w_10.1 = "java/util/NoSuchElementException")) (some ((0, 0), (1, h_5))) (none))))))
set_option maxHeartbeats 1000000 in
theorem C_X0_rest {l : Launch} {G : zGt} (htr : l.stackTraces = false) {a0 : Nat} {a1 : Int32} {a2 : Int32} {a3 : Nat} {h : zSt} {cc : Nat × Nat} {r : Int32 × zSt} (hF : F_X0_rest a0 a1 a2 a3 h = some (cc, r)) : zMet l G yX0_rest (wsW_ yX0_rest cX0_rest 5 (some .int) [((0 : Nat), (10 : Nat), (13 : Nat), (18 : Nat))]) 11 264 (cc.1 + 0) (cc.2 + 0) [.ref a0, .int a1, .int a2, .ref a3] (hK h) (jF h) (hI h) (hL h) (zQe (.inl (some (.int r.1))) (hK r.2) (jF r.2) (hI r.2) (hL r.2)) := by
  refine zMet.ofH (by decide +kernel) htr (Nat.le_of_ble_eq_true rfl) ?_
  change zW l G MX0_rest 11 264 (cc.1 + 0) (cc.2 + 0) 0 [(0, .ref a0), (1, .int a1), (2, .int a2), (3, .ref a3)] [] (hK h) (jF h) (hI h) (hL h) (zQe (.inl (some (.int r.1))) (hK r.2) (jF r.2) (hI r.2) (hL r.2))
  unfold F_X0_rest at hF
  refine z_aload_n (n := 1) dX0_rest_0 rfl 3 rfl rfl ?_
  refine z_iconst (n := 2) (v := 0) dX0_rest_1 rfl (by decide) ?_
  refine z_aload_n (n := 3) dX0_rest_2 rfl 0 rfl rfl ?_
  refine z_iload_n (n := 4) dX0_rest_3 rfl 1 rfl rfl ?_
  refine z_iload_n (n := 5) dX0_rest_4 rfl 2 rfl rfl ?_
  obtain ⟨n_1, hk_2, hF⟩ := zka_some hF
  obtain ⟨c_6, t_7, c_3, hF⟩ := zc1_some hF
  obtain ⟨s_4, h_5⟩ := t_7
  dsimp only [zn2] at hF
  obtain ⟨cc, hF, hcc⟩ := zpay_some hF
  refine z_payE hcc ?_
  rcases zsum_some hF with ⟨x_9, e_8, hF⟩ | ⟨w_10, e_8, hF⟩
  rotate_left
  · first | rw [e_8] at c_3 ⊢ | rw [e_8] at c_3
    rcases zx_some hF with ⟨hx_11, hF⟩ | ⟨hx_11, hF⟩
    · skip
      refine z_cVx (n := 8) (mc2 := (cc.1 + 0)) (ms2 := (cc.2 + 0)) (st := [.int 0, .ref a3]) (C_X1_rest htr c_3) dX0_rest_5 rfl (lw_V q1443 q1444 q1445 q105 q1446) hcee_X1_rest rfl (by decide) hk_2 rfl rfl rfl (Nat.le_of_ble_eq_true rfl) (Nat.le_of_eq (Nat.add_comm _ _)) (Nat.le_of_eq (Nat.add_comm _ _)) ?_
      refine z_catchP (nm := "java/util/NoSuchElementException") (tpre := []) rfl rfl (by decide) q1362 (by rw [of_decide_eq_true hx_11]; exact q1372) (fun z hz => nomatch hz) dX0_rest_13 (by decide) (n := 15) rfl ?_
      refine z_iconst (n := 16) (v := 1) dX0_rest_15 rfl (by decide) ?_
      obtain ⟨rfl, rfl⟩ := zpair hF
      exact z_iret dX0_rest_16 rfl rfl ⟨rfl, rfl, rfl, rfl, rfl⟩
    cases hF
  first | rw [e_8] at c_3 ⊢ | rw [e_8] at c_3
  refine z_cV (n := 8) (mc2 := (cc.1 + 0)) (ms2 := (cc.2 + 0)) (st := [.int 0, .ref a3]) (C_X1_rest htr c_3) dX0_rest_5 rfl (lw_V q1443 q1444 q1445 q105 q1446) hcee_X1_rest rfl (by decide) hk_2 rfl rfl rfl (Nat.le_of_ble_eq_true rfl) (Nat.le_of_eq (Nat.add_comm _ _)) (Nat.le_of_eq (Nat.add_comm _ _)) ?_
  refine z_i2l (n := 9) dX0_rest_8 rfl ?_
  obtain ⟨n_12, hk_13, hF⟩ := zka_some hF
  obtain ⟨h_14, hF⟩ := zg_some hF
  obtain ⟨hb_15, hF⟩ := zg_some hF
  obtain ⟨h_16, e_17, hF⟩ := zlet_ob hF
  refine z_lastK (n := 10) 0 (by decide) dX0_rest_9 rfl hk_13 (zbig hb_15) (zin_ok h_14) ?_
  refine z_toL e_17 ?_
  refine z_goto (t := 17) dX0_rest_10 (by decide) ?_
  refine z_iconst (n := 18) (v := 0) dX0_rest_17 rfl (by decide) ?_
  obtain ⟨rfl, rfl⟩ := zpair hF
  exact z_iret dX0_rest_18 rfl rfl ⟨rfl, rfl, rfl, rfl, rfl⟩
theorem hcee_X1_resting : zCee yX1_resting RX1 2 := ⟨rfl, by decide +kernel, by decide +kernel, by decide +kernel⟩
abbrev MX0_resting : zM := (RX0, cX0_resting, 5, (some .int), "resting", [((0 : Nat), (10 : Nat), (13 : Nat), (18 : Nat)), ((0 : Nat), (10 : Nat), (17 : Nat), (13 : Nat))])
noncomputable def F_X0_resting (a0 : Nat) (a1 : Int32) (a2 : Int32) (a3 : Nat) (h : zSt) : Option ((Nat × Nat) × (Int32 × zSt)) := zka (hK h) a0 0 (fun n_1 => zb2 (F_X1_resting (hK h) (jF h) a0 a1 a2 (hI h)) (fun s_4 I_5 => zpay (zxc s_4, zxs s_4) (zlet (zsFI h (jF h) I_5) (fun h_7 => zsum s_4 (fun x_9 => zka (hK h_7) a3 67 (fun n_13 => zg (zin 0 n_13) (zg (decide (600 ≤ a3)) (zlet (zsL h_7 (zu (hL h_7) a3 0 x_9.toInt64)) (fun h_17 => some ((0, 0), (0, h_17))))))) (fun w_10 => zx (decide (w_10.1 = "java/util/NoSuchElementException")) (some ((0, 0), (1, h_7))) (zx (decide (w_10.1 = "java/lang/IllegalArgumentException")) (some ((0, 0), (2, h_7))) (none)))))))
set_option maxHeartbeats 1000000 in
theorem C_X0_resting {l : Launch} {G : zGt} (htr : l.stackTraces = false) {a0 : Nat} {a1 : Int32} {a2 : Int32} {a3 : Nat} {h : zSt} {cc : Nat × Nat} {r : Int32 × zSt} (hF : F_X0_resting a0 a1 a2 a3 h = some (cc, r)) : zMet l G yX0_resting (wsW_ yX0_resting cX0_resting 5 (some .int) [((0 : Nat), (10 : Nat), (13 : Nat), (18 : Nat)), ((0 : Nat), (10 : Nat), (17 : Nat), (13 : Nat))]) 11 266 (cc.1 + 0) (cc.2 + 0) [.ref a0, .int a1, .int a2, .ref a3] (hK h) (jF h) (hI h) (hL h) (zQe (.inl (some (.int r.1))) (hK r.2) (jF r.2) (hI r.2) (hL r.2)) := by
  refine zMet.ofH (by decide +kernel) htr (Nat.le_of_ble_eq_true rfl) ?_
  change zW l G MX0_resting 11 266 (cc.1 + 0) (cc.2 + 0) 0 [(0, .ref a0), (1, .int a1), (2, .int a2), (3, .ref a3)] [] (hK h) (jF h) (hI h) (hL h) (zQe (.inl (some (.int r.1))) (hK r.2) (jF r.2) (hI r.2) (hL r.2))
  unfold F_X0_resting at hF
  refine z_aload_n (n := 1) dX0_resting_0 rfl 3 rfl rfl ?_
  refine z_iconst (n := 2) (v := 0) dX0_resting_1 rfl (by decide) ?_
  refine z_aload_n (n := 3) dX0_resting_2 rfl 0 rfl rfl ?_
  refine z_iload_n (n := 4) dX0_resting_3 rfl 1 rfl rfl ?_
  refine z_iload_n (n := 5) dX0_resting_4 rfl 2 rfl rfl ?_
  obtain ⟨n_1, hk_2, hF⟩ := zka_some hF
  obtain ⟨s_4, I_5, c_3, hF⟩ := zb2_some hF
  obtain ⟨cc, hF, hcc⟩ := zpay_some hF
  refine z_payE hcc ?_
  obtain ⟨h_7, e_8, hF⟩ := zlet_ob hF
  rcases zsum_some hF with ⟨x_9, e_6, hF⟩ | ⟨w_10, e_6, hF⟩
  rotate_left
  · first | rw [e_6] at c_3 ⊢ | rw [e_6] at c_3
    rcases zx_some hF with ⟨hx_11, hF⟩ | ⟨hx_11, hF⟩
    · skip
      refine z_cVx (n := 8) (mc2 := (cc.1 + 0)) (ms2 := (cc.2 + 0)) (st := [.int 0, .ref a3]) (C_X1_resting htr c_3) dX0_resting_5 rfl (lw_V q1527 q1528 q1529 q105 q1530) hcee_X1_resting rfl (by decide) hk_2 rfl rfl rfl (Nat.le_of_ble_eq_true rfl) (Nat.le_of_eq (Nat.add_comm _ _)) (Nat.le_of_eq (Nat.add_comm _ _)) ?_
      subst e_8
      refine z_catchP (nm := "java/util/NoSuchElementException") (tpre := []) rfl rfl (by decide) q1362 (by rw [of_decide_eq_true hx_11]; exact q1372) (fun z hz => nomatch hz) dX0_resting_13 (by decide) (n := 15) rfl ?_
      refine z_iconst (n := 16) (v := 1) dX0_resting_15 rfl (by decide) ?_
      obtain ⟨rfl, rfl⟩ := zpair hF
      exact z_iret dX0_resting_16 rfl rfl ⟨rfl, rfl, rfl, rfl, rfl⟩
    rcases zx_some hF with ⟨hx_12, hF⟩ | ⟨hx_12, hF⟩
    · skip
      refine z_cVx (n := 8) (mc2 := (cc.1 + 0)) (ms2 := (cc.2 + 0)) (st := [.int 0, .ref a3]) (C_X1_resting htr c_3) dX0_resting_5 rfl (lw_V q1527 q1528 q1529 q105 q1530) hcee_X1_resting rfl (by decide) hk_2 rfl rfl rfl (Nat.le_of_ble_eq_true rfl) (Nat.le_of_eq (Nat.add_comm _ _)) (Nat.le_of_eq (Nat.add_comm _ _)) ?_
      subst e_8
      refine z_catchP (nm := "java/lang/IllegalArgumentException") (tpre := [(0, 10, 13, 18)]) rfl rfl (by decide) q948 (by rw [of_decide_eq_true hx_12]; exact q177) (fun z hz => by cases List.mem_singleton.mp hz; exact ⟨by decide, of_decide_eq_true hx_12, q1362⟩) dX0_resting_17 (by decide) (n := 19) rfl ?_
      refine z_iconst (n := 20) (v := 2) dX0_resting_19 rfl (by decide) ?_
      obtain ⟨rfl, rfl⟩ := zpair hF
      exact z_iret dX0_resting_20 rfl rfl ⟨rfl, rfl, rfl, rfl, rfl⟩
    cases hF
  first | rw [e_6] at c_3 ⊢ | rw [e_6] at c_3
  refine z_cV (n := 8) (mc2 := (cc.1 + 0)) (ms2 := (cc.2 + 0)) (st := [.int 0, .ref a3]) (C_X1_resting htr c_3) dX0_resting_5 rfl (lw_V q1527 q1528 q1529 q105 q1530) hcee_X1_resting rfl (by decide) hk_2 rfl rfl rfl (Nat.le_of_ble_eq_true rfl) (Nat.le_of_eq (Nat.add_comm _ _)) (Nat.le_of_eq (Nat.add_comm _ _)) ?_
  refine z_toFI e_8 ?_
  refine z_i2l (n := 9) dX0_resting_8 rfl ?_
  obtain ⟨n_13, hk_14, hF⟩ := zka_some hF
  obtain ⟨h_15, hF⟩ := zg_some hF
  obtain ⟨hb_16, hF⟩ := zg_some hF
  obtain ⟨h_17, e_18, hF⟩ := zlet_ob hF
  refine z_lastK (n := 10) 0 (by decide) dX0_resting_9 rfl hk_14 (zbig hb_16) (zin_ok h_15) ?_
  refine z_toL e_18 ?_
  refine z_goto (t := 21) dX0_resting_10 (by decide) ?_
  refine z_iconst (n := 22) (v := 0) dX0_resting_21 rfl (by decide) ?_
  obtain ⟨rfl, rfl⟩ := zpair hF
  exact z_iret dX0_resting_22 rfl rfl ⟨rfl, rfl, rfl, rfl, rfl⟩
theorem hcee_X1_round : zCee yX1_round RX1 1 := ⟨rfl, by decide +kernel, by decide +kernel, by decide +kernel⟩
abbrev MX0_round : zM := (RX0, cX0_round, 4, (some .int), "round", [((0 : Nat), (9 : Nat), (12 : Nat), (18 : Nat))])
noncomputable def F_X0_round (a0 : Nat) (a1 : Int32) (a2 : Nat) (h : zSt) : Option ((Nat × Nat) × (Int32 × zSt)) := zka (hK h) a0 0 (fun n_1 => zb2 (F_X1_round (hK h) (jF h) a0 a1 (hI h)) (fun s_4 I_5 => zpay (zxc s_4, zxs s_4) (zlet (zsFI h (jF h) I_5) (fun h_7 => zsum s_4 (fun x_9 => zka (hK h_7) a2 67 (fun n_12 => zg (zin 0 n_12) (zg (decide (600 ≤ a2)) (zlet (zsL h_7 (zu (hL h_7) a2 0 x_9.toInt64)) (fun h_16 => some ((0, 0), (0, h_16))))))) (fun w_10 => zx (decide (w_10.1 = "java/util/NoSuchElementException")) (some ((0, 0), (1, h_7))) (none))))))
set_option maxHeartbeats 1000000 in
theorem C_X0_round {l : Launch} {G : zGt} (htr : l.stackTraces = false) {a0 : Nat} {a1 : Int32} {a2 : Nat} {h : zSt} {cc : Nat × Nat} {r : Int32 × zSt} (hF : F_X0_round a0 a1 a2 h = some (cc, r)) : zMet l G yX0_round (wsW_ yX0_round cX0_round 4 (some .int) [((0 : Nat), (9 : Nat), (12 : Nat), (18 : Nat))]) 11 266 (cc.1 + 0) (cc.2 + 0) [.ref a0, .int a1, .ref a2] (hK h) (jF h) (hI h) (hL h) (zQe (.inl (some (.int r.1))) (hK r.2) (jF r.2) (hI r.2) (hL r.2)) := by
  refine zMet.ofH (by decide +kernel) htr (Nat.le_of_ble_eq_true rfl) ?_
  change zW l G MX0_round 11 266 (cc.1 + 0) (cc.2 + 0) 0 [(0, .ref a0), (1, .int a1), (2, .ref a2)] [] (hK h) (jF h) (hI h) (hL h) (zQe (.inl (some (.int r.1))) (hK r.2) (jF r.2) (hI r.2) (hL r.2))
  unfold F_X0_round at hF
  refine z_aload_n (n := 1) dX0_round_0 rfl 2 rfl rfl ?_
  refine z_iconst (n := 2) (v := 0) dX0_round_1 rfl (by decide) ?_
  refine z_aload_n (n := 3) dX0_round_2 rfl 0 rfl rfl ?_
  refine z_iload_n (n := 4) dX0_round_3 rfl 1 rfl rfl ?_
  obtain ⟨n_1, hk_2, hF⟩ := zka_some hF
  obtain ⟨s_4, I_5, c_3, hF⟩ := zb2_some hF
  obtain ⟨cc, hF, hcc⟩ := zpay_some hF
  refine z_payE hcc ?_
  obtain ⟨h_7, e_8, hF⟩ := zlet_ob hF
  rcases zsum_some hF with ⟨x_9, e_6, hF⟩ | ⟨w_10, e_6, hF⟩
  rotate_left
  · first | rw [e_6] at c_3 ⊢ | rw [e_6] at c_3
    rcases zx_some hF with ⟨hx_11, hF⟩ | ⟨hx_11, hF⟩
    · skip
      refine z_cVx (n := 7) (mc2 := (cc.1 + 0)) (ms2 := (cc.2 + 0)) (st := [.int 0, .ref a2]) (C_X1_round htr c_3) dX0_round_4 rfl (lw_V q1546 q1547 q1548 q105 q1549) hcee_X1_round rfl (by decide) hk_2 rfl rfl rfl (Nat.le_of_ble_eq_true rfl) (Nat.le_of_eq (Nat.add_comm _ _)) (Nat.le_of_eq (Nat.add_comm _ _)) ?_
      subst e_8
      refine z_catchO (nm := "java/util/NoSuchElementException") (tpre := []) rfl rfl (by decide) q1362 (by rw [of_decide_eq_true hx_11]; exact q1372) (fun z hz => nomatch hz) dX0_round_12 rfl (by decide) (n := 13) rfl ?_
      refine z_iconst (n := 14) (v := 1) dX0_round_13 rfl (by decide) ?_
      obtain ⟨rfl, rfl⟩ := zpair hF
      exact z_iret dX0_round_14 rfl rfl ⟨rfl, rfl, rfl, rfl, rfl⟩
    cases hF
  first | rw [e_6] at c_3 ⊢ | rw [e_6] at c_3
  refine z_cV (n := 7) (mc2 := (cc.1 + 0)) (ms2 := (cc.2 + 0)) (st := [.int 0, .ref a2]) (C_X1_round htr c_3) dX0_round_4 rfl (lw_V q1546 q1547 q1548 q105 q1549) hcee_X1_round rfl (by decide) hk_2 rfl rfl rfl (Nat.le_of_ble_eq_true rfl) (Nat.le_of_eq (Nat.add_comm _ _)) (Nat.le_of_eq (Nat.add_comm _ _)) ?_
  refine z_toFI e_8 ?_
  refine z_i2l (n := 8) dX0_round_7 rfl ?_
  obtain ⟨n_12, hk_13, hF⟩ := zka_some hF
  obtain ⟨h_14, hF⟩ := zg_some hF
  obtain ⟨hb_15, hF⟩ := zg_some hF
  obtain ⟨h_16, e_17, hF⟩ := zlet_ob hF
  refine z_lastK (n := 9) 0 (by decide) dX0_round_8 rfl hk_13 (zbig hb_15) (zin_ok h_14) ?_
  refine z_toL e_17 ?_
  refine z_goto (t := 15) dX0_round_9 (by decide) ?_
  refine z_iconst (n := 16) (v := 0) dX0_round_15 rfl (by decide) ?_
  obtain ⟨rfl, rfl⟩ := zpair hF
  exact z_iret dX0_round_16 rfl rfl ⟨rfl, rfl, rfl, rfl, rfl⟩
theorem hcee_X1_spy : zCee yX1_spy RX1 3 := ⟨rfl, by decide +kernel, by decide +kernel, by decide +kernel⟩
abbrev MX0_spy : zM := (RX0, cX0_spy, 6, (some .int), "spy", [((0 : Nat), (12 : Nat), (15 : Nat), (18 : Nat))])
noncomputable def F_X0_spy (a0 : Nat) (a1 : Int32) (a2 : Int32) (a3 : Int32) (a4 : Nat) (h : zSt) : Option ((Nat × Nat) × (Int32 × zSt)) := zka (hK h) a0 0 (fun n_1 => zb2 (F_X1_spy (hK h) (jF h) a0 a1 a2 a3 (hI h)) (fun s_4 I_5 => zpay (zxc s_4, zxs s_4) (zlet (zsFI h (jF h) I_5) (fun h_7 => zsum s_4 (fun x_9 => zka (hK h_7) a4 67 (fun n_12 => zg (zin 0 n_12) (zg (decide (600 ≤ a4)) (zlet (zsL h_7 (zu (hL h_7) a4 0 x_9.toInt64)) (fun h_16 => some ((0, 0), (0, h_16))))))) (fun w_10 => zx (decide (w_10.1 = "java/util/NoSuchElementException")) (some ((0, 0), (1, h_7))) (none))))))
set_option maxHeartbeats 1000000 in
theorem C_X0_spy {l : Launch} {G : zGt} (htr : l.stackTraces = false) {a0 : Nat} {a1 : Int32} {a2 : Int32} {a3 : Int32} {a4 : Nat} {h : zSt} {cc : Nat × Nat} {r : Int32 × zSt} (hF : F_X0_spy a0 a1 a2 a3 a4 h = some (cc, r)) : zMet l G yX0_spy (wsW_ yX0_spy cX0_spy 6 (some .int) [((0 : Nat), (12 : Nat), (15 : Nat), (18 : Nat))]) 11 264 (cc.1 + 0) (cc.2 + 0) [.ref a0, .int a1, .int a2, .int a3, .ref a4] (hK h) (jF h) (hI h) (hL h) (zQe (.inl (some (.int r.1))) (hK r.2) (jF r.2) (hI r.2) (hL r.2)) := by
  refine zMet.ofH (by decide +kernel) htr (Nat.le_of_ble_eq_true rfl) ?_
  change zW l G MX0_spy 11 264 (cc.1 + 0) (cc.2 + 0) 0 [(0, .ref a0), (1, .int a1), (2, .int a2), (3, .int a3), (4, .ref a4)] [] (hK h) (jF h) (hI h) (hL h) (zQe (.inl (some (.int r.1))) (hK r.2) (jF r.2) (hI r.2) (hL r.2))
  unfold F_X0_spy at hF
  refine z_aload (n := 2) dX0_spy_0 rfl 4 rfl ?_
  refine z_iconst (n := 3) (v := 0) dX0_spy_2 rfl (by decide) ?_
  refine z_aload_n (n := 4) dX0_spy_3 rfl 0 rfl rfl ?_
  refine z_iload_n (n := 5) dX0_spy_4 rfl 1 rfl rfl ?_
  refine z_iload_n (n := 6) dX0_spy_5 rfl 2 rfl rfl ?_
  refine z_iload_n (n := 7) dX0_spy_6 rfl 3 rfl rfl ?_
  obtain ⟨n_1, hk_2, hF⟩ := zka_some hF
  obtain ⟨s_4, I_5, c_3, hF⟩ := zb2_some hF
  obtain ⟨cc, hF, hcc⟩ := zpay_some hF
  refine z_payE hcc ?_
  obtain ⟨h_7, e_8, hF⟩ := zlet_ob hF
  rcases zsum_some hF with ⟨x_9, e_6, hF⟩ | ⟨w_10, e_6, hF⟩
  rotate_left
  · first | rw [e_6] at c_3 ⊢ | rw [e_6] at c_3
    rcases zx_some hF with ⟨hx_11, hF⟩ | ⟨hx_11, hF⟩
    · skip
      refine z_cVx (n := 10) (mc2 := (cc.1 + 0)) (ms2 := (cc.2 + 0)) (st := [.int 0, .ref a4]) (C_X1_spy htr c_3) dX0_spy_7 rfl (lw_V q1600 q1601 q1602 q105 q1603) hcee_X1_spy rfl (by decide) hk_2 rfl rfl rfl (Nat.le_of_ble_eq_true rfl) (Nat.le_of_eq (Nat.add_comm _ _)) (Nat.le_of_eq (Nat.add_comm _ _)) ?_
      subst e_8
      refine z_catchP (nm := "java/util/NoSuchElementException") (tpre := []) rfl rfl (by decide) q1362 (by rw [of_decide_eq_true hx_11]; exact q1372) (fun z hz => nomatch hz) dX0_spy_15 (by decide) (n := 17) rfl ?_
      refine z_iconst (n := 18) (v := 1) dX0_spy_17 rfl (by decide) ?_
      obtain ⟨rfl, rfl⟩ := zpair hF
      exact z_iret dX0_spy_18 rfl rfl ⟨rfl, rfl, rfl, rfl, rfl⟩
    cases hF
  first | rw [e_6] at c_3 ⊢ | rw [e_6] at c_3
  refine z_cV (n := 10) (mc2 := (cc.1 + 0)) (ms2 := (cc.2 + 0)) (st := [.int 0, .ref a4]) (C_X1_spy htr c_3) dX0_spy_7 rfl (lw_V q1600 q1601 q1602 q105 q1603) hcee_X1_spy rfl (by decide) hk_2 rfl rfl rfl (Nat.le_of_ble_eq_true rfl) (Nat.le_of_eq (Nat.add_comm _ _)) (Nat.le_of_eq (Nat.add_comm _ _)) ?_
  refine z_toFI e_8 ?_
  refine z_i2l (n := 11) dX0_spy_10 rfl ?_
  obtain ⟨n_12, hk_13, hF⟩ := zka_some hF
  obtain ⟨h_14, hF⟩ := zg_some hF
  obtain ⟨hb_15, hF⟩ := zg_some hF
  obtain ⟨h_16, e_17, hF⟩ := zlet_ob hF
  refine z_lastK (n := 12) 0 (by decide) dX0_spy_11 rfl hk_13 (zbig hb_15) (zin_ok h_14) ?_
  refine z_toL e_17 ?_
  refine z_goto (t := 19) dX0_spy_12 (by decide) ?_
  refine z_iconst (n := 20) (v := 0) dX0_spy_19 rfl (by decide) ?_
  obtain ⟨rfl, rfl⟩ := zpair hF
  exact z_iret dX0_spy_20 rfl rfl ⟨rfl, rfl, rfl, rfl, rfl⟩
theorem hcee_X1_then : zCee yX1_then RX1 2 := ⟨rfl, by decide +kernel, by decide +kernel, by decide +kernel⟩
abbrev MX0_then : zM := (RX0, cX0_then, 5, (some .int), "then", [((0 : Nat), (10 : Nat), (13 : Nat), (18 : Nat)), ((0 : Nat), (10 : Nat), (17 : Nat), (13 : Nat))])
noncomputable def F_X0_then (a0 : Nat) (a1 : Int32) (a2 : Int32) (a3 : Nat) (h : zSt) : Option ((Nat × Nat) × (Int32 × zSt)) := zka (hK h) a0 0 (fun n_1 => zb2 (F_X1_then (hK h) (jF h) a0 a1 a2 (hI h)) (fun s_4 I_5 => zpay (zxc s_4, zxs s_4) (zlet (zsFI h (jF h) I_5) (fun h_7 => zsum s_4 (fun x_9 => zka (hK h_7) a3 67 (fun n_13 => zg (zin 0 n_13) (zg (decide (600 ≤ a3)) (zlet (zsL h_7 (zu (hL h_7) a3 0 x_9.toInt64)) (fun h_17 => some ((0, 0), (0, h_17))))))) (fun w_10 => zx (decide (w_10.1 = "java/util/NoSuchElementException")) (some ((0, 0), (1, h_7))) (zx (decide (w_10.1 = "java/lang/IllegalArgumentException")) (some ((0, 0), (2, h_7))) (none)))))))
set_option maxHeartbeats 1000000 in
theorem C_X0_then {l : Launch} {G : zGt} (htr : l.stackTraces = false) {a0 : Nat} {a1 : Int32} {a2 : Int32} {a3 : Nat} {h : zSt} {cc : Nat × Nat} {r : Int32 × zSt} (hF : F_X0_then a0 a1 a2 a3 h = some (cc, r)) : zMet l G yX0_then (wsW_ yX0_then cX0_then 5 (some .int) [((0 : Nat), (10 : Nat), (13 : Nat), (18 : Nat)), ((0 : Nat), (10 : Nat), (17 : Nat), (13 : Nat))]) 1007 24115 (cc.1 + 0) (cc.2 + 0) [.ref a0, .int a1, .int a2, .ref a3] (hK h) (jF h) (hI h) (hL h) (zQe (.inl (some (.int r.1))) (hK r.2) (jF r.2) (hI r.2) (hL r.2)) := by
  refine zMet.ofH (by decide +kernel) htr (Nat.le_of_ble_eq_true rfl) ?_
  change zW l G MX0_then 1007 24115 (cc.1 + 0) (cc.2 + 0) 0 [(0, .ref a0), (1, .int a1), (2, .int a2), (3, .ref a3)] [] (hK h) (jF h) (hI h) (hL h) (zQe (.inl (some (.int r.1))) (hK r.2) (jF r.2) (hI r.2) (hL r.2))
  unfold F_X0_then at hF
  refine z_aload_n (n := 1) dX0_then_0 rfl 3 rfl rfl ?_
  refine z_iconst (n := 2) (v := 0) dX0_then_1 rfl (by decide) ?_
  refine z_aload_n (n := 3) dX0_then_2 rfl 0 rfl rfl ?_
  refine z_iload_n (n := 4) dX0_then_3 rfl 1 rfl rfl ?_
  refine z_iload_n (n := 5) dX0_then_4 rfl 2 rfl rfl ?_
  obtain ⟨n_1, hk_2, hF⟩ := zka_some hF
  obtain ⟨s_4, I_5, c_3, hF⟩ := zb2_some hF
  obtain ⟨cc, hF, hcc⟩ := zpay_some hF
  refine z_payE hcc ?_
  obtain ⟨h_7, e_8, hF⟩ := zlet_ob hF
  rcases zsum_some hF with ⟨x_9, e_6, hF⟩ | ⟨w_10, e_6, hF⟩
  rotate_left
  · first | rw [e_6] at c_3 ⊢ | rw [e_6] at c_3
    rcases zx_some hF with ⟨hx_11, hF⟩ | ⟨hx_11, hF⟩
    · skip
      refine z_cVx (n := 8) (mc2 := (cc.1 + 0)) (ms2 := (cc.2 + 0)) (st := [.int 0, .ref a3]) (C_X1_then htr c_3) dX0_then_5 rfl (lw_V q1465 q1466 q1467 q105 q1468) hcee_X1_then rfl (by decide) hk_2 rfl rfl rfl (Nat.le_of_ble_eq_true rfl) (Nat.le_of_eq (Nat.add_comm _ _)) (Nat.le_of_eq (Nat.add_comm _ _)) ?_
      subst e_8
      refine z_catchP (nm := "java/util/NoSuchElementException") (tpre := []) rfl rfl (by decide) q1362 (by rw [of_decide_eq_true hx_11]; exact q1372) (fun z hz => nomatch hz) dX0_then_13 (by decide) (n := 15) rfl ?_
      refine z_iconst (n := 16) (v := 1) dX0_then_15 rfl (by decide) ?_
      obtain ⟨rfl, rfl⟩ := zpair hF
      exact z_iret dX0_then_16 rfl rfl ⟨rfl, rfl, rfl, rfl, rfl⟩
    rcases zx_some hF with ⟨hx_12, hF⟩ | ⟨hx_12, hF⟩
    · skip
      refine z_cVx (n := 8) (mc2 := (cc.1 + 0)) (ms2 := (cc.2 + 0)) (st := [.int 0, .ref a3]) (C_X1_then htr c_3) dX0_then_5 rfl (lw_V q1465 q1466 q1467 q105 q1468) hcee_X1_then rfl (by decide) hk_2 rfl rfl rfl (Nat.le_of_ble_eq_true rfl) (Nat.le_of_eq (Nat.add_comm _ _)) (Nat.le_of_eq (Nat.add_comm _ _)) ?_
      subst e_8
      refine z_catchP (nm := "java/lang/IllegalArgumentException") (tpre := [(0, 10, 13, 18)]) rfl rfl (by decide) q948 (by rw [of_decide_eq_true hx_12]; exact q177) (fun z hz => by cases List.mem_singleton.mp hz; exact ⟨by decide, of_decide_eq_true hx_12, q1362⟩) dX0_then_17 (by decide) (n := 19) rfl ?_
      refine z_iconst (n := 20) (v := 2) dX0_then_19 rfl (by decide) ?_
      obtain ⟨rfl, rfl⟩ := zpair hF
      exact z_iret dX0_then_20 rfl rfl ⟨rfl, rfl, rfl, rfl, rfl⟩
    cases hF
  first | rw [e_6] at c_3 ⊢ | rw [e_6] at c_3
  refine z_cV (n := 8) (mc2 := (cc.1 + 0)) (ms2 := (cc.2 + 0)) (st := [.int 0, .ref a3]) (C_X1_then htr c_3) dX0_then_5 rfl (lw_V q1465 q1466 q1467 q105 q1468) hcee_X1_then rfl (by decide) hk_2 rfl rfl rfl (Nat.le_of_ble_eq_true rfl) (Nat.le_of_eq (Nat.add_comm _ _)) (Nat.le_of_eq (Nat.add_comm _ _)) ?_
  refine z_toFI e_8 ?_
  refine z_i2l (n := 9) dX0_then_8 rfl ?_
  obtain ⟨n_13, hk_14, hF⟩ := zka_some hF
  obtain ⟨h_15, hF⟩ := zg_some hF
  obtain ⟨hb_16, hF⟩ := zg_some hF
  obtain ⟨h_17, e_18, hF⟩ := zlet_ob hF
  refine z_lastK (n := 10) 0 (by decide) dX0_then_9 rfl hk_14 (zbig hb_16) (zin_ok h_15) ?_
  refine z_toL e_18 ?_
  refine z_goto (t := 21) dX0_then_10 (by decide) ?_
  refine z_iconst (n := 22) (v := 0) dX0_then_21 rfl (by decide) ?_
  obtain ⟨rfl, rfl⟩ := zpair hF
  exact z_iret dX0_then_22 rfl rfl ⟨rfl, rfl, rfl, rfl, rfl⟩
theorem hcee_X1_where : zCee yX1_where RX1 3 := ⟨rfl, by decide +kernel, by decide +kernel, by decide +kernel⟩
abbrev MX0_where : zM := (RX0, cX0_where, 6, (some .int), "where", [((0 : Nat), (12 : Nat), (15 : Nat), (18 : Nat)), ((0 : Nat), (12 : Nat), (19 : Nat), (13 : Nat))])
noncomputable def F_X0_where (a0 : Nat) (a1 : Int32) (a2 : Int32) (a3 : Int32) (a4 : Nat) (h : zSt) : Option ((Nat × Nat) × (Int32 × zSt)) := zka (hK h) a0 0 (fun n_1 => zb2 (F_X1_where (hK h) (jF h) a0 a1 a2 a3 (hI h)) (fun s_4 I_5 => zpay (zxc s_4, zxs s_4) (zlet (zsFI h (jF h) I_5) (fun h_7 => zsum s_4 (fun x_9 => zka (hK h_7) a4 67 (fun n_13 => zg (zin 0 n_13) (zg (decide (600 ≤ a4)) (zlet (zsL h_7 (zu (hL h_7) a4 0 x_9.toInt64)) (fun h_17 => some ((0, 0), (0, h_17))))))) (fun w_10 => zx (decide (w_10.1 = "java/util/NoSuchElementException")) (some ((0, 0), (1, h_7))) (zx (decide (w_10.1 = "java/lang/IllegalArgumentException")) (some ((0, 0), (2, h_7))) (none)))))))
set_option maxHeartbeats 1000000 in
theorem C_X0_where {l : Launch} {G : zGt} (htr : l.stackTraces = false) {a0 : Nat} {a1 : Int32} {a2 : Int32} {a3 : Int32} {a4 : Nat} {h : zSt} {cc : Nat × Nat} {r : Int32 × zSt} (hF : F_X0_where a0 a1 a2 a3 a4 h = some (cc, r)) : zMet l G yX0_where (wsW_ yX0_where cX0_where 6 (some .int) [((0 : Nat), (12 : Nat), (15 : Nat), (18 : Nat)), ((0 : Nat), (12 : Nat), (19 : Nat), (13 : Nat))]) 1008 24144 (cc.1 + 0) (cc.2 + 0) [.ref a0, .int a1, .int a2, .int a3, .ref a4] (hK h) (jF h) (hI h) (hL h) (zQe (.inl (some (.int r.1))) (hK r.2) (jF r.2) (hI r.2) (hL r.2)) := by
  refine zMet.ofH (by decide +kernel) htr (Nat.le_of_ble_eq_true rfl) ?_
  change zW l G MX0_where 1008 24144 (cc.1 + 0) (cc.2 + 0) 0 [(0, .ref a0), (1, .int a1), (2, .int a2), (3, .int a3), (4, .ref a4)] [] (hK h) (jF h) (hI h) (hL h) (zQe (.inl (some (.int r.1))) (hK r.2) (jF r.2) (hI r.2) (hL r.2))
  unfold F_X0_where at hF
  refine z_aload (n := 2) dX0_where_0 rfl 4 rfl ?_
  refine z_iconst (n := 3) (v := 0) dX0_where_2 rfl (by decide) ?_
  refine z_aload_n (n := 4) dX0_where_3 rfl 0 rfl rfl ?_
  refine z_iload_n (n := 5) dX0_where_4 rfl 1 rfl rfl ?_
  refine z_iload_n (n := 6) dX0_where_5 rfl 2 rfl rfl ?_
  refine z_iload_n (n := 7) dX0_where_6 rfl 3 rfl rfl ?_
  obtain ⟨n_1, hk_2, hF⟩ := zka_some hF
  obtain ⟨s_4, I_5, c_3, hF⟩ := zb2_some hF
  obtain ⟨cc, hF, hcc⟩ := zpay_some hF
  refine z_payE hcc ?_
  obtain ⟨h_7, e_8, hF⟩ := zlet_ob hF
  rcases zsum_some hF with ⟨x_9, e_6, hF⟩ | ⟨w_10, e_6, hF⟩
  rotate_left
  · first | rw [e_6] at c_3 ⊢ | rw [e_6] at c_3
    rcases zx_some hF with ⟨hx_11, hF⟩ | ⟨hx_11, hF⟩
    · skip
      refine z_cVx (n := 10) (mc2 := (cc.1 + 0)) (ms2 := (cc.2 + 0)) (st := [.int 0, .ref a4]) (C_X1_where htr c_3) dX0_where_7 rfl (lw_V q1582 q1583 q1584 q105 q1585) hcee_X1_where rfl (by decide) hk_2 rfl rfl rfl (Nat.le_of_ble_eq_true rfl) (Nat.le_of_eq (Nat.add_comm _ _)) (Nat.le_of_eq (Nat.add_comm _ _)) ?_
      subst e_8
      refine z_catchP (nm := "java/util/NoSuchElementException") (tpre := []) rfl rfl (by decide) q1362 (by rw [of_decide_eq_true hx_11]; exact q1372) (fun z hz => nomatch hz) dX0_where_15 (by decide) (n := 17) rfl ?_
      refine z_iconst (n := 18) (v := 1) dX0_where_17 rfl (by decide) ?_
      obtain ⟨rfl, rfl⟩ := zpair hF
      exact z_iret dX0_where_18 rfl rfl ⟨rfl, rfl, rfl, rfl, rfl⟩
    rcases zx_some hF with ⟨hx_12, hF⟩ | ⟨hx_12, hF⟩
    · skip
      refine z_cVx (n := 10) (mc2 := (cc.1 + 0)) (ms2 := (cc.2 + 0)) (st := [.int 0, .ref a4]) (C_X1_where htr c_3) dX0_where_7 rfl (lw_V q1582 q1583 q1584 q105 q1585) hcee_X1_where rfl (by decide) hk_2 rfl rfl rfl (Nat.le_of_ble_eq_true rfl) (Nat.le_of_eq (Nat.add_comm _ _)) (Nat.le_of_eq (Nat.add_comm _ _)) ?_
      subst e_8
      refine z_catchP (nm := "java/lang/IllegalArgumentException") (tpre := [(0, 12, 15, 18)]) rfl rfl (by decide) q948 (by rw [of_decide_eq_true hx_12]; exact q177) (fun z hz => by cases List.mem_singleton.mp hz; exact ⟨by decide, of_decide_eq_true hx_12, q1362⟩) dX0_where_19 (by decide) (n := 21) rfl ?_
      refine z_iconst (n := 22) (v := 2) dX0_where_21 rfl (by decide) ?_
      obtain ⟨rfl, rfl⟩ := zpair hF
      exact z_iret dX0_where_22 rfl rfl ⟨rfl, rfl, rfl, rfl, rfl⟩
    cases hF
  first | rw [e_6] at c_3 ⊢ | rw [e_6] at c_3
  refine z_cV (n := 10) (mc2 := (cc.1 + 0)) (ms2 := (cc.2 + 0)) (st := [.int 0, .ref a4]) (C_X1_where htr c_3) dX0_where_7 rfl (lw_V q1582 q1583 q1584 q105 q1585) hcee_X1_where rfl (by decide) hk_2 rfl rfl rfl (Nat.le_of_ble_eq_true rfl) (Nat.le_of_eq (Nat.add_comm _ _)) (Nat.le_of_eq (Nat.add_comm _ _)) ?_
  refine z_toFI e_8 ?_
  refine z_i2l (n := 11) dX0_where_10 rfl ?_
  obtain ⟨n_13, hk_14, hF⟩ := zka_some hF
  obtain ⟨h_15, hF⟩ := zg_some hF
  obtain ⟨hb_16, hF⟩ := zg_some hF
  obtain ⟨h_17, e_18, hF⟩ := zlet_ob hF
  refine z_lastK (n := 12) 0 (by decide) dX0_where_11 rfl hk_14 (zbig hb_16) (zin_ok h_15) ?_
  refine z_toL e_18 ?_
  refine z_goto (t := 23) dX0_where_12 (by decide) ?_
  refine z_iconst (n := 24) (v := 0) dX0_where_23 rfl (by decide) ?_
  obtain ⟨rfl, rfl⟩ := zpair hF
  exact z_iret dX0_where_24 rfl rfl ⟨rfl, rfl, rfl, rfl, rfl⟩
theorem hcee_X1_winter : zCee yX1_winter RX1 3 := ⟨rfl, by decide +kernel, by decide +kernel, by decide +kernel⟩
abbrev MX0_winter : zM := (RX0, cX0_winter, 6, (some .int), "winter", [((0 : Nat), (12 : Nat), (15 : Nat), (18 : Nat)), ((0 : Nat), (12 : Nat), (19 : Nat), (13 : Nat))])
noncomputable def F_X0_winter (a0 : Nat) (a1 : Int32) (a2 : Int32) (a3 : Int32) (a4 : Nat) (h : zSt) : Option ((Nat × Nat) × (Int32 × zSt)) := zka (hK h) a0 0 (fun n_1 => zb2 (F_X1_winter (hK h) (jF h) a0 a1 a2 a3 (hI h)) (fun s_4 I_5 => zpay (zxc s_4, zxs s_4) (zlet (zsFI h (jF h) I_5) (fun h_7 => zsum s_4 (fun x_9 => zka (hK h_7) a4 67 (fun n_13 => zg (zin 0 n_13) (zg (decide (600 ≤ a4)) (zlet (zsL h_7 (zu (hL h_7) a4 0 x_9.toInt64)) (fun h_17 => some ((0, 0), (0, h_17))))))) (fun w_10 => zx (decide (w_10.1 = "java/util/NoSuchElementException")) (some ((0, 0), (1, h_7))) (zx (decide (w_10.1 = "java/lang/IllegalArgumentException")) (some ((0, 0), (2, h_7))) (none)))))))
set_option maxHeartbeats 1000000 in
theorem C_X0_winter {l : Launch} {G : zGt} (htr : l.stackTraces = false) {a0 : Nat} {a1 : Int32} {a2 : Int32} {a3 : Int32} {a4 : Nat} {h : zSt} {cc : Nat × Nat} {r : Int32 × zSt} (hF : F_X0_winter a0 a1 a2 a3 a4 h = some (cc, r)) : zMet l G yX0_winter (wsW_ yX0_winter cX0_winter 6 (some .int) [((0 : Nat), (12 : Nat), (15 : Nat), (18 : Nat)), ((0 : Nat), (12 : Nat), (19 : Nat), (13 : Nat))]) 1006 24096 (cc.1 + 0) (cc.2 + 0) [.ref a0, .int a1, .int a2, .int a3, .ref a4] (hK h) (jF h) (hI h) (hL h) (zQe (.inl (some (.int r.1))) (hK r.2) (jF r.2) (hI r.2) (hL r.2)) := by
  refine zMet.ofH (by decide +kernel) htr (Nat.le_of_ble_eq_true rfl) ?_
  change zW l G MX0_winter 1006 24096 (cc.1 + 0) (cc.2 + 0) 0 [(0, .ref a0), (1, .int a1), (2, .int a2), (3, .int a3), (4, .ref a4)] [] (hK h) (jF h) (hI h) (hL h) (zQe (.inl (some (.int r.1))) (hK r.2) (jF r.2) (hI r.2) (hL r.2))
  unfold F_X0_winter at hF
  refine z_aload (n := 2) dX0_winter_0 rfl 4 rfl ?_
  refine z_iconst (n := 3) (v := 0) dX0_winter_2 rfl (by decide) ?_
  refine z_aload_n (n := 4) dX0_winter_3 rfl 0 rfl rfl ?_
  refine z_iload_n (n := 5) dX0_winter_4 rfl 1 rfl rfl ?_
  refine z_iload_n (n := 6) dX0_winter_5 rfl 2 rfl rfl ?_
  refine z_iload_n (n := 7) dX0_winter_6 rfl 3 rfl rfl ?_
  obtain ⟨n_1, hk_2, hF⟩ := zka_some hF
  obtain ⟨s_4, I_5, c_3, hF⟩ := zb2_some hF
  obtain ⟨cc, hF, hcc⟩ := zpay_some hF
  refine z_payE hcc ?_
  obtain ⟨h_7, e_8, hF⟩ := zlet_ob hF
  rcases zsum_some hF with ⟨x_9, e_6, hF⟩ | ⟨w_10, e_6, hF⟩
  rotate_left
  · first | rw [e_6] at c_3 ⊢ | rw [e_6] at c_3
    rcases zx_some hF with ⟨hx_11, hF⟩ | ⟨hx_11, hF⟩
    · skip
      refine z_cVx (n := 10) (mc2 := (cc.1 + 0)) (ms2 := (cc.2 + 0)) (st := [.int 0, .ref a4]) (C_X1_winter htr c_3) dX0_winter_7 rfl (lw_V q1649 q1650 q1651 q105 q1652) hcee_X1_winter rfl (by decide) hk_2 rfl rfl rfl (Nat.le_of_ble_eq_true rfl) (Nat.le_of_eq (Nat.add_comm _ _)) (Nat.le_of_eq (Nat.add_comm _ _)) ?_
      subst e_8
      refine z_catchP (nm := "java/util/NoSuchElementException") (tpre := []) rfl rfl (by decide) q1362 (by rw [of_decide_eq_true hx_11]; exact q1372) (fun z hz => nomatch hz) dX0_winter_15 (by decide) (n := 17) rfl ?_
      refine z_iconst (n := 18) (v := 1) dX0_winter_17 rfl (by decide) ?_
      obtain ⟨rfl, rfl⟩ := zpair hF
      exact z_iret dX0_winter_18 rfl rfl ⟨rfl, rfl, rfl, rfl, rfl⟩
    rcases zx_some hF with ⟨hx_12, hF⟩ | ⟨hx_12, hF⟩
    · skip
      refine z_cVx (n := 10) (mc2 := (cc.1 + 0)) (ms2 := (cc.2 + 0)) (st := [.int 0, .ref a4]) (C_X1_winter htr c_3) dX0_winter_7 rfl (lw_V q1649 q1650 q1651 q105 q1652) hcee_X1_winter rfl (by decide) hk_2 rfl rfl rfl (Nat.le_of_ble_eq_true rfl) (Nat.le_of_eq (Nat.add_comm _ _)) (Nat.le_of_eq (Nat.add_comm _ _)) ?_
      subst e_8
      refine z_catchP (nm := "java/lang/IllegalArgumentException") (tpre := [(0, 12, 15, 18)]) rfl rfl (by decide) q948 (by rw [of_decide_eq_true hx_12]; exact q177) (fun z hz => by cases List.mem_singleton.mp hz; exact ⟨by decide, of_decide_eq_true hx_12, q1362⟩) dX0_winter_19 (by decide) (n := 21) rfl ?_
      refine z_iconst (n := 22) (v := 2) dX0_winter_21 rfl (by decide) ?_
      obtain ⟨rfl, rfl⟩ := zpair hF
      exact z_iret dX0_winter_22 rfl rfl ⟨rfl, rfl, rfl, rfl, rfl⟩
    cases hF
  first | rw [e_6] at c_3 ⊢ | rw [e_6] at c_3
  refine z_cV (n := 10) (mc2 := (cc.1 + 0)) (ms2 := (cc.2 + 0)) (st := [.int 0, .ref a4]) (C_X1_winter htr c_3) dX0_winter_7 rfl (lw_V q1649 q1650 q1651 q105 q1652) hcee_X1_winter rfl (by decide) hk_2 rfl rfl rfl (Nat.le_of_ble_eq_true rfl) (Nat.le_of_eq (Nat.add_comm _ _)) (Nat.le_of_eq (Nat.add_comm _ _)) ?_
  refine z_toFI e_8 ?_
  refine z_i2l (n := 11) dX0_winter_10 rfl ?_
  obtain ⟨n_13, hk_14, hF⟩ := zka_some hF
  obtain ⟨h_15, hF⟩ := zg_some hF
  obtain ⟨hb_16, hF⟩ := zg_some hF
  obtain ⟨h_17, e_18, hF⟩ := zlet_ob hF
  refine z_lastK (n := 12) 0 (by decide) dX0_winter_11 rfl hk_14 (zbig hb_16) (zin_ok h_15) ?_
  refine z_toL e_18 ?_
  refine z_goto (t := 23) dX0_winter_12 (by decide) ?_
  refine z_iconst (n := 24) (v := 0) dX0_winter_23 rfl (by decide) ?_
  obtain ⟨rfl, rfl⟩ := zpair hF
  exact z_iret dX0_winter_24 rfl rfl ⟨rfl, rfl, rfl, rfl, rfl⟩
