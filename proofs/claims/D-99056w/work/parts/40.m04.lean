abbrev MX7_grown : zM := (RX7, cX7_grown, 3, (some .int), "grown", [])
noncomputable def F_X7_grown (a0 : Int32) (a1 : Int32) (I : zId) : Option (Int32) := zg (zin a0 16) (zg (zin a0 16) (some (zmax a1 (zmin (I 1865 a0.toNatClampNeg) (a1 + ((a1 * (I 1866 a0.toNatClampNeg)) / 100))))))
set_option maxHeartbeats 1000000 in
theorem C_X7_grown {l : Launch} {G : zGt} (htr : l.stackTraces = false) {K : zKd} {F : zFd} {L : zLd} {a0 : Int32} {a1 : Int32} (hM : zMLay K F) {I : zId} {r : Int32} (hF : F_X7_grown a0 a1 I = some r) : zMet l G yX7_grown (ws_ yX7_grown cX7_grown 3 (some .int)) 1 24 0 0 [.ref 1860, .int a0, .int a1] K F I L (zQe (.inl (some (.int r))) K F I L) := by
  refine zMet.of (by decide +kernel) htr (Nat.le_of_ble_eq_true rfl) ?_
  change zW l G MX7_grown 1 24 0 0 0 [(0, .ref 1860), (1, .int a0), (2, .int a1)] [] K F I L (zQe (.inl (some (.int r))) K F I L)
  unfold F_X7_grown at hF
  refine z_iload_n (n := 1) dX7_grown_0 rfl 2 rfl rfl ?_
  refine z_aload_n (n := 2) dX7_grown_1 rfl 0 rfl rfl ?_
  refine z_getRS (n := 5) dX7_grown_2 rfl zok6 fX7_39 rfl hM.1 (Or.inl (by decide)) (mF_5 hM) ?_
  refine z_iload_n (n := 6) dX7_grown_5 rfl 1 rfl rfl ?_
  obtain ⟨h_1, hF⟩ := zg_some hF
  refine z_ialdK (n := 7) a0.toNatClampNeg rfl dX7_grown_6 rfl (mK_5 hM) (zin_ok h_1) ?_
  refine z_iload_n (n := 8) dX7_grown_7 rfl 2 rfl rfl ?_
  refine z_iload_n (n := 9) dX7_grown_8 rfl 2 rfl rfl ?_
  refine z_aload_n (n := 10) dX7_grown_9 rfl 0 rfl rfl ?_
  refine z_getRS (n := 13) dX7_grown_10 rfl zok6 fX7_42 rfl hM.1 (Or.inl (by decide)) (mF_6 hM) ?_
  refine z_iload_n (n := 14) dX7_grown_13 rfl 1 rfl rfl ?_
  obtain ⟨h_2, hF⟩ := zg_some hF
  refine z_ialdK (n := 15) a0.toNatClampNeg rfl dX7_grown_14 rfl (mK_6 hM) (zin_ok h_2) ?_
  refine z_imul (n := 16) dX7_grown_15 rfl ?_
  refine z_bipush (n := 18) (v := 100) dX7_grown_16 rfl (by decide) ?_
  refine z_idiv (n := 19) dX7_grown_18 rfl (by decide) ?_
  refine z_iadd (n := 20) dX7_grown_19 rfl ?_
  refine z_min (n := 23) dX7_grown_20 rfl q1898 q290 q119 q291 (by decide) (Nat.le_of_ble_eq_true rfl) ?_
  refine z_max (n := 26) dX7_grown_23 rfl q2067 q272 q119 q273 (by decide) (Nat.le_of_ble_eq_true rfl) ?_
  have hF := Option.some.inj hF; subst hF
  exact z_iret dX7_grown_26 rfl rfl ⟨rfl, rfl, rfl, rfl, rfl⟩
theorem hcee_X7_grown : zCee yX7_grown RX7 2 := ⟨rfl, by decide +kernel, by decide +kernel, by decide +kernel⟩
abbrev MX7_grow : zM := (RX7, cX7_grow, 2, none, "grow", [])
noncomputable def F_X7_grow (a0 : Int32) (I : zId) : Option (zId) := zg (zin a0 8) (zb1 (F_X7_grown a0 (I 1875 a0.toNatClampNeg) I) (fun x_3 => zg (zin a0 8) (zlet (zu I 1875 a0.toNatClampNeg x_3) (fun I_5 => zg (zin a0 8) (zg (zin a0 8) (zg (zin a0 8) (zg (zin a0 16) (zg (zin a0 8) (zlet (zu I_5 1876 a0.toNatClampNeg (zmin (I_5 1875 a0.toNatClampNeg) ((I_5 1876 a0.toNatClampNeg) + (((I_5 1876 a0.toNatClampNeg) * (I_5 1866 a0.toNatClampNeg)) / 100)))) (fun I_12 => zg (zin a0 8) (zg (zin a0 8) (zlet (zu I_12 1877 a0.toNatClampNeg (zmax 0 ((I_12 1877 a0.toNatClampNeg) - 1))) (fun I_16 => some I_16)))))))))))))
set_option maxHeartbeats 1000000 in
theorem C_X7_grow {l : Launch} {G : zGt} (htr : l.stackTraces = false) {K : zKd} {F : zFd} {L : zLd} {a0 : Int32} (hM : zMLay K F) {I : zId} {r : zId} (hF : F_X7_grow a0 I = some r) : zMet l G yX7_grow (ws_ yX7_grow cX7_grow 2 none) 2 46 0 0 [.ref 1860, .int a0] K F I L (zQe (.inl none) K F r L) := by
  refine zMet.of (by decide +kernel) htr (Nat.le_of_ble_eq_true rfl) ?_
  change zW l G MX7_grow 2 46 0 0 0 [(0, .ref 1860), (1, .int a0)] [] K F I L (zQe (.inl none) K F r L)
  unfold F_X7_grow at hF
  refine z_aload_n (n := 1) dX7_grow_0 rfl 0 rfl rfl ?_
  refine z_getRS (n := 4) dX7_grow_1 rfl zok6 fX7_72 rfl hM.1 (Or.inl (by decide)) (mF_25 hM) ?_
  refine z_iload_n (n := 5) dX7_grow_4 rfl 1 rfl rfl ?_
  refine z_aload_n (n := 6) dX7_grow_5 rfl 0 rfl rfl ?_
  refine z_iload_n (n := 7) dX7_grow_6 rfl 1 rfl rfl ?_
  refine z_aload_n (n := 8) dX7_grow_7 rfl 0 rfl rfl ?_
  refine z_getRS (n := 11) dX7_grow_8 rfl zok6 fX7_72 rfl hM.1 (Or.inl (by decide)) (mF_25 hM) ?_
  refine z_iload_n (n := 12) dX7_grow_11 rfl 1 rfl rfl ?_
  obtain ⟨h_1, hF⟩ := zg_some hF
  refine z_ialdK (n := 13) a0.toNatClampNeg rfl dX7_grow_12 rfl (mK_25 hM) (zin_ok h_1) ?_
  obtain ⟨x_3, c_2, hF⟩ := zb1_some hF
  refine z_cV (n := 16) (st := [.int a0, .ref 1875]) (C_X7_grown htr hM c_2) dX7_grow_13 rfl (lw_V q2105 q2107 qs90 q131 q2108) hcee_X7_grown rfl (by decide) hM.1 rfl rfl rfl (Nat.le_of_ble_eq_true rfl) (Nat.le_refl _) (Nat.le_refl _) ?_
  obtain ⟨h_4, hF⟩ := zg_some hF
  obtain ⟨I_5, e_6, hF⟩ := zlet_ob hF
  refine z_iastK (n := 17) a0.toNatClampNeg rfl dX7_grow_16 rfl (mK_25 hM) (by decide) (zin_ok h_4) e_6 ?_
  refine z_aload_n (n := 18) dX7_grow_17 rfl 0 rfl rfl ?_
  refine z_getRS (n := 21) dX7_grow_18 rfl zok6 fX7_74 rfl hM.1 (Or.inl (by decide)) (mF_26 hM) ?_
  refine z_iload_n (n := 22) dX7_grow_21 rfl 1 rfl rfl ?_
  refine z_aload_n (n := 23) dX7_grow_22 rfl 0 rfl rfl ?_
  refine z_getRS (n := 26) dX7_grow_23 rfl zok6 fX7_72 rfl hM.1 (Or.inl (by decide)) (mF_25 hM) ?_
  refine z_iload_n (n := 27) dX7_grow_26 rfl 1 rfl rfl ?_
  obtain ⟨h_7, hF⟩ := zg_some hF
  refine z_ialdK (n := 28) a0.toNatClampNeg rfl dX7_grow_27 rfl (mK_25 hM) (zin_ok h_7) ?_
  refine z_aload_n (n := 29) dX7_grow_28 rfl 0 rfl rfl ?_
  refine z_getRS (n := 32) dX7_grow_29 rfl zok6 fX7_74 rfl hM.1 (Or.inl (by decide)) (mF_26 hM) ?_
  refine z_iload_n (n := 33) dX7_grow_32 rfl 1 rfl rfl ?_
  obtain ⟨h_8, hF⟩ := zg_some hF
  refine z_ialdK (n := 34) a0.toNatClampNeg rfl dX7_grow_33 rfl (mK_26 hM) (zin_ok h_8) ?_
  refine z_aload_n (n := 35) dX7_grow_34 rfl 0 rfl rfl ?_
  refine z_getRS (n := 38) dX7_grow_35 rfl zok6 fX7_74 rfl hM.1 (Or.inl (by decide)) (mF_26 hM) ?_
  refine z_iload_n (n := 39) dX7_grow_38 rfl 1 rfl rfl ?_
  obtain ⟨h_9, hF⟩ := zg_some hF
  refine z_ialdK (n := 40) a0.toNatClampNeg rfl dX7_grow_39 rfl (mK_26 hM) (zin_ok h_9) ?_
  refine z_aload_n (n := 41) dX7_grow_40 rfl 0 rfl rfl ?_
  refine z_getRS (n := 44) dX7_grow_41 rfl zok6 fX7_42 rfl hM.1 (Or.inl (by decide)) (mF_6 hM) ?_
  refine z_iload_n (n := 45) dX7_grow_44 rfl 1 rfl rfl ?_
  obtain ⟨h_10, hF⟩ := zg_some hF
  refine z_ialdK (n := 46) a0.toNatClampNeg rfl dX7_grow_45 rfl (mK_6 hM) (zin_ok h_10) ?_
  refine z_imul (n := 47) dX7_grow_46 rfl ?_
  refine z_bipush (n := 49) (v := 100) dX7_grow_47 rfl (by decide) ?_
  refine z_idiv (n := 50) dX7_grow_49 rfl (by decide) ?_
  refine z_iadd (n := 51) dX7_grow_50 rfl ?_
  refine z_min (n := 54) dX7_grow_51 rfl q1898 q290 q119 q291 (by decide) (Nat.le_of_ble_eq_true rfl) ?_
  obtain ⟨h_11, hF⟩ := zg_some hF
  obtain ⟨I_12, e_13, hF⟩ := zlet_ob hF
  refine z_iastK (n := 55) a0.toNatClampNeg rfl dX7_grow_54 rfl (mK_26 hM) (by decide) (zin_ok h_11) e_13 ?_
  refine z_aload_n (n := 56) dX7_grow_55 rfl 0 rfl rfl ?_
  refine z_getRS (n := 59) dX7_grow_56 rfl zok6 fX7_77 rfl hM.1 (Or.inl (by decide)) (mF_27 hM) ?_
  refine z_iload_n (n := 60) dX7_grow_59 rfl 1 rfl rfl ?_
  refine z_iconst (n := 61) (v := 0) dX7_grow_60 rfl (by decide) ?_
  refine z_aload_n (n := 62) dX7_grow_61 rfl 0 rfl rfl ?_
  refine z_getRS (n := 65) dX7_grow_62 rfl zok6 fX7_77 rfl hM.1 (Or.inl (by decide)) (mF_27 hM) ?_
  refine z_iload_n (n := 66) dX7_grow_65 rfl 1 rfl rfl ?_
  obtain ⟨h_14, hF⟩ := zg_some hF
  refine z_ialdK (n := 67) a0.toNatClampNeg rfl dX7_grow_66 rfl (mK_27 hM) (zin_ok h_14) ?_
  refine z_iconst (n := 68) (v := 1) dX7_grow_67 rfl (by decide) ?_
  refine z_isub (n := 69) dX7_grow_68 rfl ?_
  refine z_max (n := 72) dX7_grow_69 rfl q2067 q272 q119 q273 (by decide) (Nat.le_of_ble_eq_true rfl) ?_
  obtain ⟨h_15, hF⟩ := zg_some hF
  obtain ⟨I_16, e_17, hF⟩ := zlet_ob hF
  refine z_iastK (n := 73) a0.toNatClampNeg rfl dX7_grow_72 rfl (mK_27 hM) (by decide) (zin_ok h_15) e_17 ?_
  have hF := Option.some.inj hF; subst hF
  exact z_vret dX7_grow_73 rfl ⟨rfl, rfl, rfl, rfl, rfl⟩
theorem hcee_X7_grow : zCee yX7_grow RX7 1 := ⟨rfl, by decide +kernel, by decide +kernel, by decide +kernel⟩
theorem hcee_X7_hunt : zCee yX7_hunt RX7 1 := ⟨rfl, by decide +kernel, by decide +kernel, by decide +kernel⟩
theorem hcee_X7_pay : zCee yX7_pay RX7 1 := ⟨rfl, by decide +kernel, by decide +kernel, by decide +kernel⟩
abbrev MX7_aYear : zM := (RX7, cX7_aYear, 2, none, "aYear", [])
noncomputable def F_X7_aYear_L7 (v1_3 : Int32) (I_4 : zId) : Option ((Int32 × zId) ⊕ (zId)) := if (I_4 1862 2) ≤ v1_3 then some (.inr (I_4)) else zb1 (F_X7_hunt v1_3 I_4) (fun I_6 => zb1 (F_X7_pay v1_3 I_6) (fun I_8 => zlet (v1_3 + 1) (fun v1_9 => some (.inl (v1_9, I_8)))))
noncomputable def F_X7_aYear_L35 (v1_13 : Int32) (I_14 : zId) : Option ((Int32 × zId) ⊕ (zId)) := if (I_14 1862 0) ≤ v1_13 then some (.inr (I_14)) else zb1 (F_X7_grow v1_13 I_14) (fun I_16 => zlet (v1_13 + 1) (fun v1_17 => some (.inl (v1_17, I_16))))
noncomputable def F_X7_aYear (I : zId) : Option (zId) := zlet (zu I 1860 41 (-1)) (fun I_1 => zb1 (zloop (fun s : Int32 × zId => F_X7_aYear_L7 s.1 s.2) (0, I_1)) (fun I_11 => zb1 (zloop (fun s : Int32 × zId => F_X7_aYear_L35 s.1 s.2) (0, I_11)) (fun I_19 => zlet (zu I_19 1860 34 ((I_19 1860 34) + 1)) (fun I_21 => some I_21))))
set_option maxHeartbeats 1000000 in
theorem W_X7_aYear_L7 {l : Launch} {G : zGt} (htr : l.stackTraces = false) {K : zKd} {F : zFd} {L : zLd} {Q : zQt} {v1_3 : Int32} {I_4 : zId} (hM : zMLay K F) {r : (Int32 × zId) ⊕ (zId)} (hF : F_X7_aYear_L7 v1_3 I_4 = some r) (kl : ∀ (z0 : Int32) (z1 : zId), r = .inl (z0, z1) → zW l G MX7_aYear 4 92 0 0 7 [(0, .ref 1860), (1, .int z0)] [] K F z1 L Q) (kx : ∀ (y0 : zId), r = .inr y0 → zW l G MX7_aYear 4 92 0 0 33 [(0, .ref 1860)] [] K F y0 L Q)  : zW l G MX7_aYear 4 92 0 0 7 [(0, .ref 1860), (1, .int v1_3)] [] K F I_4 L Q := by
  unfold F_X7_aYear_L7 at hF
  refine z_iload_n (n := 8) dX7_aYear_7 rfl 1 rfl rfl ?_
  refine z_aload_n (n := 9) dX7_aYear_8 rfl 0 rfl rfl ?_
  refine z_getRS (n := 12) dX7_aYear_9 rfl zok6 fX7_29 rfl hM.1 (Or.inl (by decide)) (mF_2 hM) ?_
  refine z_iconst (n := 13) (v := 2) dX7_aYear_12 rfl (by decide) ?_
  refine z_ialdK (n := 14) 2 (by decide) dX7_aYear_13 rfl (mK_2 hM) (zin_ok (i := 2) (n := 16) rfl) ?_
  refine z_icmp_ge (n := 17) (t := 33) dX7_aYear_14 rfl (by decide) (fun hc => ?_) (fun hc => ?_)
  · replace hF := (if_pos hc).symm.trans hF
    refine z_sub [0] rfl ?_
    have hF := Option.some.inj hF; subst hF
    exact kx _ rfl
  · replace hF := (if_neg hc).symm.trans hF
    refine z_aload_n (n := 18) dX7_aYear_17 rfl 0 rfl rfl ?_
    refine z_iload_n (n := 19) dX7_aYear_18 rfl 1 rfl rfl ?_
    obtain ⟨I_6, c_5, hF⟩ := zb1_some hF
    refine z_cV (n := 22) (st := []) (C_X7_hunt htr hM c_5) dX7_aYear_19 rfl (lw_V q2093 q2095 qs87 q131 q2096) hcee_X7_hunt rfl (by decide) hM.1 rfl rfl rfl (Nat.le_of_ble_eq_true rfl) (Nat.le_refl _) (Nat.le_refl _) ?_
    refine z_aload_n (n := 23) dX7_aYear_22 rfl 0 rfl rfl ?_
    refine z_iload_n (n := 24) dX7_aYear_23 rfl 1 rfl rfl ?_
    obtain ⟨I_8, c_7, hF⟩ := zb1_some hF
    refine z_cV (n := 27) (st := []) (C_X7_pay htr hM c_7) dX7_aYear_24 rfl (lw_V q2097 q2099 qs88 q131 q2100) hcee_X7_pay rfl (by decide) hM.1 rfl rfl rfl (Nat.le_of_ble_eq_true rfl) (Nat.le_refl _) (Nat.le_refl _) ?_
    obtain ⟨v1_9, e_10, hF⟩ := zlet_ob hF
    refine z_iincE (n := 30) (w := 1) (v := v1_9) (lv' := [(1, .int v1_9), (0, .ref 1860)]) dX7_aYear_27 rfl 1 rfl (by decide) e_10 (by decide) rfl ?_
    refine z_goto (t := 7) dX7_aYear_30 (by decide) ?_
    refine z_sub [1, 0] rfl ?_
    have hF := Option.some.inj hF; subst hF
    exact kl _ _ rfl
set_option maxHeartbeats 1000000 in
theorem W_X7_aYear_L35 {l : Launch} {G : zGt} (htr : l.stackTraces = false) {K : zKd} {F : zFd} {L : zLd} {Q : zQt} {v1_13 : Int32} {I_14 : zId} (hM : zMLay K F) {r : (Int32 × zId) ⊕ (zId)} (hF : F_X7_aYear_L35 v1_13 I_14 = some r) (kl : ∀ (z0 : Int32) (z1 : zId), r = .inl (z0, z1) → zW l G MX7_aYear 4 92 0 0 35 [(0, .ref 1860), (1, .int z0)] [] K F z1 L Q) (kx : ∀ (y0 : zId), r = .inr y0 → zW l G MX7_aYear 4 92 0 0 56 [(0, .ref 1860)] [] K F y0 L Q)  : zW l G MX7_aYear 4 92 0 0 35 [(0, .ref 1860), (1, .int v1_13)] [] K F I_14 L Q := by
  unfold F_X7_aYear_L35 at hF
  refine z_iload_n (n := 36) dX7_aYear_35 rfl 1 rfl rfl ?_
  refine z_aload_n (n := 37) dX7_aYear_36 rfl 0 rfl rfl ?_
  refine z_getRS (n := 40) dX7_aYear_37 rfl zok6 fX7_29 rfl hM.1 (Or.inl (by decide)) (mF_2 hM) ?_
  refine z_iconst (n := 41) (v := 0) dX7_aYear_40 rfl (by decide) ?_
  refine z_ialdK (n := 42) 0 (by decide) dX7_aYear_41 rfl (mK_2 hM) (zin_ok (i := 0) (n := 16) rfl) ?_
  refine z_icmp_ge (n := 45) (t := 56) dX7_aYear_42 rfl (by decide) (fun hc => ?_) (fun hc => ?_)
  · replace hF := (if_pos hc).symm.trans hF
    refine z_sub [0] rfl ?_
    have hF := Option.some.inj hF; subst hF
    exact kx _ rfl
  · replace hF := (if_neg hc).symm.trans hF
    refine z_aload_n (n := 46) dX7_aYear_45 rfl 0 rfl rfl ?_
    refine z_iload_n (n := 47) dX7_aYear_46 rfl 1 rfl rfl ?_
    obtain ⟨I_16, c_15, hF⟩ := zb1_some hF
    refine z_cV (n := 50) (st := []) (C_X7_grow htr hM c_15) dX7_aYear_47 rfl (lw_V q2101 q2103 qs89 q131 q2104) hcee_X7_grow rfl (by decide) hM.1 rfl rfl rfl (Nat.le_of_ble_eq_true rfl) (Nat.le_refl _) (Nat.le_refl _) ?_
    obtain ⟨v1_17, e_18, hF⟩ := zlet_ob hF
    refine z_iincE (n := 53) (w := 1) (v := v1_17) (lv' := [(1, .int v1_17), (0, .ref 1860)]) dX7_aYear_50 rfl 1 rfl (by decide) e_18 (by decide) rfl ?_
    refine z_goto (t := 35) dX7_aYear_53 (by decide) ?_
    refine z_sub [1, 0] rfl ?_
    have hF := Option.some.inj hF; subst hF
    exact kl _ _ rfl
set_option maxHeartbeats 1000000 in
theorem C_X7_aYear {l : Launch} {G : zGt} (htr : l.stackTraces = false) {K : zKd} {F : zFd} {L : zLd} (hM : zMLay K F) {I : zId} {r : zId} (hF : F_X7_aYear I = some r) : zMet l G yX7_aYear (ws_ yX7_aYear cX7_aYear 2 none) 4 92 0 0 [.ref 1860] K F I L (zQe (.inl none) K F r L) := by
  refine zMet.of (by decide +kernel) htr (Nat.le_of_ble_eq_true rfl) ?_
  change zW l G MX7_aYear 4 92 0 0 0 [(0, .ref 1860)] [] K F I L (zQe (.inl none) K F r L)
  unfold F_X7_aYear at hF
  refine z_aload_n (n := 1) dX7_aYear_0 rfl 0 rfl rfl ?_
  refine z_iconst (n := 2) (v := (-1)) dX7_aYear_1 rfl (by decide) ?_
  obtain ⟨I_1, e_2, hF⟩ := zlet_ob hF
  refine z_putIE (n := 5) dX7_aYear_2 rfl zok6 fX7_355 (Or.inl ⟨_, rfl, rfl⟩) rfl ⟨rfl, rfl⟩ hM.1 (by decide) e_2 ?_
  refine z_iconst (n := 6) (v := 0) dX7_aYear_5 rfl (by decide) ?_
  refine z_istore_nE (n := 7) (lv' := [(1, .int 0), (0, .ref 1860)]) dX7_aYear_6 rfl rfl rfl (by decide) rfl ?_
  refine z_sub [1, 0] rfl ?_
  obtain ⟨t_25, e_12, hF⟩ := zb1_some hF
  obtain ⟨I_11, rfl⟩ : ∃ z, z = t_25 := ⟨_, rfl⟩
  have H_26 : zW l G MX7_aYear 4 92 0 0 33 [(0, .ref 1860)] [] K F I_11 L (zQe (.inl none) K F r L) := by
    refine z_iconst (n := 34) (v := 0) dX7_aYear_33 rfl (by decide) ?_
    refine z_istore_nE (n := 35) (lv' := [(1, .int 0), (0, .ref 1860)]) dX7_aYear_34 rfl rfl rfl (by decide) rfl ?_
    refine z_sub [1, 0] rfl ?_
    obtain ⟨t_23, e_20, hF⟩ := zb1_some hF
    obtain ⟨I_19, rfl⟩ : ∃ z, z = t_23 := ⟨_, rfl⟩
    have H_24 : zW l G MX7_aYear 4 92 0 0 56 [(0, .ref 1860)] [] K F I_19 L (zQe (.inl none) K F r L) := by
      refine z_aload_n (n := 57) dX7_aYear_56 rfl 0 rfl rfl ?_
      refine z_dup (n := 58) dX7_aYear_57 rfl rfl ?_
      refine z_getI (n := 61) dX7_aYear_58 rfl zok6 fX7_316 rfl hM.1 (Or.inl (by decide)) ?_
      refine z_iconst (n := 62) (v := 1) dX7_aYear_61 rfl (by decide) ?_
      refine z_iadd (n := 63) dX7_aYear_62 rfl ?_
      obtain ⟨I_21, e_22, hF⟩ := zlet_ob hF
      refine z_putIE (n := 66) dX7_aYear_63 rfl zok6 fX7_316 (Or.inl ⟨_, rfl, rfl⟩) rfl ⟨rfl, rfl⟩ hM.1 (by decide) e_22 ?_
      have hF := Option.some.inj hF; subst hF
      exact z_vret dX7_aYear_66 rfl ⟨rfl, rfl, rfl, rfl, rfl⟩
    refine zloop_ind (P := fun s : Int32 × zId => zW l G MX7_aYear 4 92 0 0 35 [(0, .ref 1860), (1, .int s.1)] [] K F s.2 L (zQe (.inl none) K F r L)) (fun s r hb kl kr => ?_) e_20
    exact W_X7_aYear_L35 htr hM hb (fun z0 z1 e => kl _ e) (fun y0 e => by cases kr _ e; exact H_24)
  refine zloop_ind (P := fun s : Int32 × zId => zW l G MX7_aYear 4 92 0 0 7 [(0, .ref 1860), (1, .int s.1)] [] K F s.2 L (zQe (.inl none) K F r L)) (fun s r hb kl kr => ?_) e_12
  exact W_X7_aYear_L7 htr hM hb (fun z0 z1 e => kl _ e) (fun y0 e => by cases kr _ e; exact H_26)
theorem hcee_X7_aYear : zCee yX7_aYear RX7 0 := ⟨rfl, by decide +kernel, by decide +kernel, by decide +kernel⟩
abbrev MX7_goOn : zM := (RX7, cX7_goOn, 3, none, "goOn", [])
noncomputable def F_X7_goOn_L2 (a0 : Int32) (v2_1 : Int32) (I_2 : zId) : Option ((Int32 × zId) ⊕ (zId)) := if a0 ≤ v2_1 then some (.inr (I_2)) else zb1 (F_X7_aYear I_2) (fun I_4 => zlet (v2_1 + 1) (fun v2_5 => some (.inl (v2_5, I_4))))
noncomputable def F_X7_goOn (a0 : Int32) (I : zId) : Option (zId) := zb1 (zloop (fun s : Int32 × zId => F_X7_goOn_L2 a0 s.1 s.2) (0, I)) (fun I_7 => some I_7)
set_option maxHeartbeats 1000000 in
theorem W_X7_goOn_L2 {l : Launch} {G : zGt} (htr : l.stackTraces = false) {K : zKd} {F : zFd} {L : zLd} {Q : zQt} {a0 : Int32} {v2_1 : Int32} {I_2 : zId} (hM : zMLay K F) {r : (Int32 × zId) ⊕ (zId)} (hF : F_X7_goOn_L2 a0 v2_1 I_2 = some r) (kl : ∀ (z0 : Int32) (z1 : zId), r = .inl (z0, z1) → zW l G MX7_goOn 5 113 0 0 2 [(0, .ref 1860), (1, .int a0), (2, .int z0)] [] K F z1 L Q) (kx : ∀ (y0 : zId), r = .inr y0 → zW l G MX7_goOn 5 113 0 0 17 [] [] K F y0 L Q)  : zW l G MX7_goOn 5 113 0 0 2 [(0, .ref 1860), (1, .int a0), (2, .int v2_1)] [] K F I_2 L Q := by
  unfold F_X7_goOn_L2 at hF
  refine z_iload_n (n := 3) dX7_goOn_2 rfl 2 rfl rfl ?_
  refine z_iload_n (n := 4) dX7_goOn_3 rfl 1 rfl rfl ?_
  refine z_icmp_ge (n := 7) (t := 17) dX7_goOn_4 rfl (by decide) (fun hc => ?_) (fun hc => ?_)
  · replace hF := (if_pos hc).symm.trans hF
    refine z_sub [] rfl ?_
    have hF := Option.some.inj hF; subst hF
    exact kx _ rfl
  · replace hF := (if_neg hc).symm.trans hF
    refine z_aload_n (n := 8) dX7_goOn_7 rfl 0 rfl rfl ?_
    obtain ⟨I_4, c_3, hF⟩ := zb1_some hF
    refine z_cV (n := 11) (st := []) (C_X7_aYear htr hM c_3) dX7_goOn_8 rfl (lw_V q2089 q2091 qs86 q131 q2092) hcee_X7_aYear rfl (by decide) hM.1 rfl rfl rfl (Nat.le_of_ble_eq_true rfl) (Nat.le_refl _) (Nat.le_refl _) ?_
    obtain ⟨v2_5, e_6, hF⟩ := zlet_ob hF
    refine z_iincE (n := 14) (w := 1) (v := v2_5) (lv' := [(2, .int v2_5), (0, .ref 1860), (1, .int a0)]) dX7_goOn_11 rfl 2 rfl (by decide) e_6 (by decide) rfl ?_
    refine z_goto (t := 2) dX7_goOn_14 (by decide) ?_
    refine z_sub [1, 2, 0] rfl ?_
    have hF := Option.some.inj hF; subst hF
    exact kl _ _ rfl
set_option maxHeartbeats 1000000 in
theorem C_X7_goOn {l : Launch} {G : zGt} (htr : l.stackTraces = false) {K : zKd} {F : zFd} {L : zLd} {a0 : Int32} (hM : zMLay K F) {I : zId} {r : zId} (hF : F_X7_goOn a0 I = some r) : zMet l G yX7_goOn (ws_ yX7_goOn cX7_goOn 3 none) 5 113 0 0 [.ref 1860, .int a0] K F I L (zQe (.inl none) K F r L) := by
  refine zMet.of (by decide +kernel) htr (Nat.le_of_ble_eq_true rfl) ?_
  change zW l G MX7_goOn 5 113 0 0 0 [(0, .ref 1860), (1, .int a0)] [] K F I L (zQe (.inl none) K F r L)
  unfold F_X7_goOn at hF
  refine z_iconst (n := 1) (v := 0) dX7_goOn_0 rfl (by decide) ?_
  refine z_istore_nE (n := 2) (lv' := [(2, .int 0), (0, .ref 1860), (1, .int a0)]) dX7_goOn_1 rfl rfl rfl (by decide) rfl ?_
  refine z_sub [1, 2, 0] rfl ?_
  obtain ⟨t_9, e_8, hF⟩ := zb1_some hF
  obtain ⟨I_7, rfl⟩ : ∃ z, z = t_9 := ⟨_, rfl⟩
  have H_10 : zW l G MX7_goOn 5 113 0 0 17 [] [] K F I_7 L (zQe (.inl none) K F r L) := by
    have hF := Option.some.inj hF; subst hF
    exact z_vret dX7_goOn_17 rfl ⟨rfl, rfl, rfl, rfl, rfl⟩
  refine zloop_ind (P := fun s : Int32 × zId => zW l G MX7_goOn 5 113 0 0 2 [(0, .ref 1860), (1, .int a0), (2, .int s.1)] [] K F s.2 L (zQe (.inl none) K F r L)) (fun s r hb kl kr => ?_) e_8
  exact W_X7_goOn_L2 (a0 := a0) htr hM hb (fun z0 z1 e => kl _ e) (fun y0 e => by cases kr _ e; exact H_10)
theorem hcee_X7_goOn : zCee yX7_goOn RX7 1 := ⟨rfl, by decide +kernel, by decide +kernel, by decide +kernel⟩
theorem hcee_X7_keep : zCee yX7_keep RX7 0 := ⟨rfl, by decide +kernel, by decide +kernel, by decide +kernel⟩
theorem hcee_X7_refuse : zCee yX7_refuse RX7 1 := ⟨rfl, by decide +kernel, by decide +kernel, by decide +kernel⟩
abbrev MX7_years : zM := (RX7, cX7_years, 2, (some .int), "years", [])
noncomputable def F_X7_years (a0 : Int32) (I : zId) : Option (Int32 × zId) := zlet (zu I 1860 1 0) (fun I_1 => zb1 (F_X7_isIn a0.toInt64 1 30 I_1) (fun x_4 => if x_4 = 0 then zb2 (F_X7_refuse 1 I_1) (fun x_6 I_7 => some (x_6, I_7)) else if ((I_1 1860 34) + a0) ≤ 999 then zb1 (F_X7_keep I_1) (fun I_9 => zb1 (F_X7_goOn a0 I_9) (fun I_11 => some (I_11 1860 34, I_11))) else zb2 (F_X7_refuse 1 I_1) (fun x_13 I_14 => some (x_13, I_14))))
set_option maxHeartbeats 1000000 in
theorem C_X7_years {l : Launch} {G : zGt} (htr : l.stackTraces = false) {K : zKd} {F : zFd} {L : zLd} {a0 : Int32} (hM : zMLay K F) {I : zId} {r : Int32 × zId} (hF : F_X7_years a0 I = some r) : zMet l G yX7_years (ws_ yX7_years cX7_years 2 (some .int)) 6 135 0 0 [.ref 1860, .int a0] K F I L (zQe (.inl (some (.int r.1))) K F r.2 L) := by
  refine zMet.of (by decide +kernel) htr (Nat.le_of_ble_eq_true rfl) ?_
  change zW l G MX7_years 6 135 0 0 0 [(0, .ref 1860), (1, .int a0)] [] K F I L (zQe (.inl (some (.int r.1))) K F r.2 L)
  unfold F_X7_years at hF
  refine z_aload_n (n := 1) dX7_years_0 rfl 0 rfl rfl ?_
  refine z_iconst (n := 2) (v := 0) dX7_years_1 rfl (by decide) ?_
  obtain ⟨I_1, e_2, hF⟩ := zlet_ob hF
  refine z_putIE (n := 5) dX7_years_2 rfl zok6 fX7_150 (Or.inl ⟨_, rfl, rfl⟩) rfl ⟨rfl, rfl⟩ hM.1 (by decide) e_2 ?_
  refine z_iload_n (n := 6) dX7_years_5 rfl 1 rfl rfl ?_
  refine z_i2l (n := 7) dX7_years_6 rfl ?_
  refine z_lconst (n := 8) (v := 1) dX7_years_7 rfl (by decide) ?_
  refine z_ldc2 (n := 11) dX7_years_8 rfl q2072 ?_
  obtain ⟨x_4, c_3, hF⟩ := zb1_some hF
  refine z_cS (n := 14) (st := []) (C_X7_isIn htr c_3) dX7_years_11 rfl (lw_S q2030 q2031 q131 q2032) hcee_X7_isIn rfl (by decide) rfl (Nat.le_of_ble_eq_true rfl) (Nat.le_refl _) (Nat.le_refl _) ?_
  refine z_if_eq (n := 17) (t := 29) dX7_years_14 rfl (by decide) (fun hc => ?_) (fun hc => ?_)
  · replace hF := (if_pos hc).symm.trans hF
    refine z_aload_n (n := 30) dX7_years_29 rfl 0 rfl rfl ?_
    refine z_iconst (n := 31) (v := 1) dX7_years_30 rfl (by decide) ?_
    obtain ⟨x_6, I_7, c_5, hF⟩ := zb2_some hF
    refine z_cV (n := 34) (st := []) (C_X7_refuse htr hM c_5) dX7_years_31 rfl (lw_V q2073 q2075 qs82 q131 q2076) hcee_X7_refuse rfl (by decide) hM.1 rfl rfl rfl (Nat.le_of_ble_eq_true rfl) (Nat.le_refl _) (Nat.le_refl _) ?_
    have hF := Option.some.inj hF; subst hF
    exact z_iret dX7_years_34 rfl rfl ⟨rfl, rfl, rfl, rfl, rfl⟩
  · replace hF := (if_neg hc).symm.trans hF
    refine z_aload_n (n := 18) dX7_years_17 rfl 0 rfl rfl ?_
    refine z_getI (n := 21) dX7_years_18 rfl zok6 fX7_316 rfl hM.1 (Or.inl (by decide)) ?_
    refine z_iload_n (n := 22) dX7_years_21 rfl 1 rfl rfl ?_
    refine z_iadd (n := 23) dX7_years_22 rfl ?_
    refine z_sipush (n := 26) (v := 999) dX7_years_23 rfl (by decide) ?_
    refine z_icmp_le (n := 29) (t := 35) dX7_years_26 rfl (by decide) (fun hc => ?_) (fun hc => ?_)
    · replace hF := (if_pos hc).symm.trans hF
      refine z_aload_n (n := 36) dX7_years_35 rfl 0 rfl rfl ?_
      obtain ⟨I_9, c_8, hF⟩ := zb1_some hF
      refine z_cV (n := 39) (st := []) (C_X7_keep htr hM c_8) dX7_years_36 rfl (lw_V q2077 q2079 qs83 q131 q2080) hcee_X7_keep rfl (by decide) hM.1 rfl rfl rfl (Nat.le_of_ble_eq_true rfl) (Nat.le_refl _) (Nat.le_refl _) ?_
      refine z_aload_n (n := 40) dX7_years_39 rfl 0 rfl rfl ?_
      refine z_iload_n (n := 41) dX7_years_40 rfl 1 rfl rfl ?_
      obtain ⟨I_11, c_10, hF⟩ := zb1_some hF
      refine z_cV (n := 44) (st := []) (C_X7_goOn htr hM c_10) dX7_years_41 rfl (lw_V q2085 q2087 qs85 q131 q2088) hcee_X7_goOn rfl (by decide) hM.1 rfl rfl rfl (Nat.le_of_ble_eq_true rfl) (Nat.le_refl _) (Nat.le_refl _) ?_
      refine z_aload_n (n := 45) dX7_years_44 rfl 0 rfl rfl ?_
      refine z_getI (n := 48) dX7_years_45 rfl zok6 fX7_316 rfl hM.1 (Or.inl (by decide)) ?_
      have hF := Option.some.inj hF; subst hF
      exact z_iret dX7_years_48 rfl rfl ⟨rfl, rfl, rfl, rfl, rfl⟩
    · replace hF := (if_neg hc).symm.trans hF
      refine z_aload_n (n := 30) dX7_years_29 rfl 0 rfl rfl ?_
      refine z_iconst (n := 31) (v := 1) dX7_years_30 rfl (by decide) ?_
      obtain ⟨x_13, I_14, c_12, hF⟩ := zb2_some hF
      refine z_cV (n := 34) (st := []) (C_X7_refuse htr hM c_12) dX7_years_31 rfl (lw_V q2073 q2075 qs82 q131 q2076) hcee_X7_refuse rfl (by decide) hM.1 rfl rfl rfl (Nat.le_of_ble_eq_true rfl) (Nat.le_refl _) (Nat.le_refl _) ?_
      have hF := Option.some.inj hF; subst hF
      exact z_iret dX7_years_34 rfl rfl ⟨rfl, rfl, rfl, rfl, rfl⟩
abbrev MX7_move : zM := (RX7, cX7_move, 4, (some .int), "move", [])
noncomputable def F_X7_move (a0 : Int32) (a1 : Int32) (I : zId) : Option (Int32 × zId) := zlet (zu I 1860 1 0) (fun I_1 => zb1 (F_X7_isBand a0 I_1) (fun x_4 => if x_4 = 0 then zb2 (F_X7_fail 1 I_1) (fun x_6 I_7 => some (x_6, I_7)) else zb1 (F_X7_isForest a1 I_1) (fun x_9 => if ¬ x_9 = 0 then zg (zin a0 6) (zg (zin (((8 : Int32) * (I_1 1878 a0.toNatClampNeg)) + a1) 128) (if ¬ (I_1 1867 ((((8 : Int32) * (I_1 1878 a0.toNatClampNeg)) + a1).toNatClampNeg)) = 0 then zb1 (F_X7_keep I_1) (fun I_13 => zg (zin a0 6) (zlet (I_13 1878 a0.toNatClampNeg) (fun v3_15 => zg (zin a0 6) (zlet (zu I_13 1878 a0.toNatClampNeg a1) (fun I_18 => some (v3_15, I_18)))))) else zb2 (F_X7_refuse 1 I_1) (fun x_21 I_22 => some (x_21, I_22)))) else zb2 (F_X7_fail 1 I_1) (fun x_24 I_25 => some (x_24, I_25)))))
set_option maxHeartbeats 1000000 in
theorem C_X7_move {l : Launch} {G : zGt} (htr : l.stackTraces = false) {K : zKd} {F : zFd} {L : zLd} {a0 : Int32} {a1 : Int32} (hM : zMLay K F) {I : zId} {r : Int32 × zId} (hF : F_X7_move a0 a1 I = some r) : zMet l G yX7_move (ws_ yX7_move cX7_move 4 (some .int)) 2 46 0 0 [.ref 1860, .int a0, .int a1] K F I L (zQe (.inl (some (.int r.1))) K F r.2 L) := by
  refine zMet.of (by decide +kernel) htr (Nat.le_of_ble_eq_true rfl) ?_
  change zW l G MX7_move 2 46 0 0 0 [(0, .ref 1860), (1, .int a0), (2, .int a1)] [] K F I L (zQe (.inl (some (.int r.1))) K F r.2 L)
  unfold F_X7_move at hF
  refine z_aload_n (n := 1) dX7_move_0 rfl 0 rfl rfl ?_
  refine z_iconst (n := 2) (v := 0) dX7_move_1 rfl (by decide) ?_
  obtain ⟨I_1, e_2, hF⟩ := zlet_ob hF
  refine z_putIE (n := 5) dX7_move_2 rfl zok6 fX7_150 (Or.inl ⟨_, rfl, rfl⟩) rfl ⟨rfl, rfl⟩ hM.1 (by decide) e_2 ?_
  refine z_aload_n (n := 6) dX7_move_5 rfl 0 rfl rfl ?_
  refine z_iload_n (n := 7) dX7_move_6 rfl 1 rfl rfl ?_
  obtain ⟨x_4, c_3, hF⟩ := zb1_some hF
  refine z_cV (n := 10) (st := []) (C_X7_isBand htr hM c_3) dX7_move_7 rfl (lw_V q2045 q2047 qs78 q131 q2048) hcee_X7_isBand rfl (by decide) hM.1 rfl rfl rfl (Nat.le_of_ble_eq_true rfl) (Nat.le_refl _) (Nat.le_refl _) ?_
  refine z_if_eq (n := 13) (t := 21) dX7_move_10 rfl (by decide) (fun hc => ?_) (fun hc => ?_)
  · replace hF := (if_pos hc).symm.trans hF
    refine z_aload_n (n := 22) dX7_move_21 rfl 0 rfl rfl ?_
    refine z_iconst (n := 23) (v := 1) dX7_move_22 rfl (by decide) ?_
    obtain ⟨x_6, I_7, c_5, hF⟩ := zb2_some hF
    refine z_cV (n := 26) (st := []) (C_X7_fail htr hM c_5) dX7_move_23 rfl (lw_V q1879 q1881 qs48 q131 q1882) hcee_X7_fail rfl (by decide) hM.1 rfl rfl rfl (Nat.le_of_ble_eq_true rfl) (Nat.le_refl _) (Nat.le_refl _) ?_
    have hF := Option.some.inj hF; subst hF
    exact z_iret dX7_move_26 rfl rfl ⟨rfl, rfl, rfl, rfl, rfl⟩
  · replace hF := (if_neg hc).symm.trans hF
    refine z_aload_n (n := 14) dX7_move_13 rfl 0 rfl rfl ?_
    refine z_iload_n (n := 15) dX7_move_14 rfl 2 rfl rfl ?_
    obtain ⟨x_9, c_8, hF⟩ := zb1_some hF
    refine z_cV (n := 18) (st := []) (C_X7_isForest htr hM c_8) dX7_move_15 rfl (lw_V q2026 q2028 qs75 q131 q2029) hcee_X7_isForest rfl (by decide) hM.1 rfl rfl rfl (Nat.le_of_ble_eq_true rfl) (Nat.le_refl _) (Nat.le_refl _) ?_
    refine z_if_ne (n := 21) (t := 27) dX7_move_18 rfl (by decide) (fun hc => ?_) (fun hc => ?_)
    · replace hF := (if_pos hc).symm.trans hF
      refine z_aload_n (n := 28) dX7_move_27 rfl 0 rfl rfl ?_
      refine z_getRS (n := 31) dX7_move_28 rfl zok6 fX7_45 rfl hM.1 (Or.inl (by decide)) (mF_7 hM) ?_
      refine z_bipush (n := 33) (v := 8) dX7_move_31 rfl (by decide) ?_
      refine z_aload_n (n := 34) dX7_move_33 rfl 0 rfl rfl ?_
      refine z_getRS (n := 37) dX7_move_34 rfl zok6 fX7_80 rfl hM.1 (Or.inl (by decide)) (mF_28 hM) ?_
      refine z_iload_n (n := 38) dX7_move_37 rfl 1 rfl rfl ?_
      obtain ⟨h_10, hF⟩ := zg_some hF
      refine z_ialdK (n := 39) a0.toNatClampNeg rfl dX7_move_38 rfl (mK_28 hM) (zin_ok h_10) ?_
      refine z_imul (n := 40) dX7_move_39 rfl ?_
      refine z_iload_n (n := 41) dX7_move_40 rfl 2 rfl rfl ?_
      refine z_iadd (n := 42) dX7_move_41 rfl ?_
      obtain ⟨h_11, hF⟩ := zg_some hF
      refine z_ialdK (n := 43) ((((8 : Int32) * (I_1 1878 a0.toNatClampNeg)) + a1).toNatClampNeg) rfl dX7_move_42 rfl (mK_7 hM) (zin_ok h_11) ?_
      refine z_if_ne (n := 46) (t := 52) dX7_move_43 rfl (by decide) (fun hc => ?_) (fun hc => ?_)
      · replace hF := (if_pos hc).symm.trans hF
        refine z_aload_n (n := 53) dX7_move_52 rfl 0 rfl rfl ?_
        obtain ⟨I_13, c_12, hF⟩ := zb1_some hF
        refine z_cV (n := 56) (st := []) (C_X7_keep htr hM c_12) dX7_move_53 rfl (lw_V q2077 q2079 qs83 q131 q2080) hcee_X7_keep rfl (by decide) hM.1 rfl rfl rfl (Nat.le_of_ble_eq_true rfl) (Nat.le_refl _) (Nat.le_refl _) ?_
        refine z_aload_n (n := 57) dX7_move_56 rfl 0 rfl rfl ?_
        refine z_getRS (n := 60) dX7_move_57 rfl zok6 fX7_80 rfl hM.1 (Or.inl (by decide)) (mF_28 hM) ?_
        refine z_iload_n (n := 61) dX7_move_60 rfl 1 rfl rfl ?_
        obtain ⟨h_14, hF⟩ := zg_some hF
        refine z_ialdK (n := 62) a0.toNatClampNeg rfl dX7_move_61 rfl (mK_28 hM) (zin_ok h_14) ?_
        obtain ⟨v3_15, e_16, hF⟩ := zlet_ob hF
        refine z_istore_nE (n := 63) (lv' := [(3, .int v3_15), (0, .ref 1860), (1, .int a0), (2, .int a1)]) dX7_move_62 rfl e_16 rfl (by decide) rfl ?_
        refine z_aload_n (n := 64) dX7_move_63 rfl 1 rfl rfl ?_
        refine z_getRS (n := 67) dX7_move_64 rfl zok6 fX7_80 rfl hM.1 (Or.inl (by decide)) (mF_28 hM) ?_
        refine z_iload_n (n := 68) dX7_move_67 rfl 2 rfl rfl ?_
        refine z_iload_n (n := 69) dX7_move_68 rfl 3 rfl rfl ?_
        obtain ⟨h_17, hF⟩ := zg_some hF
        obtain ⟨I_18, e_19, hF⟩ := zlet_ob hF
        refine z_iastK (n := 70) a0.toNatClampNeg rfl dX7_move_69 rfl (mK_28 hM) (by decide) (zin_ok h_17) e_19 ?_
        refine z_iload_n (n := 71) dX7_move_70 rfl 0 rfl rfl ?_
        have hF := Option.some.inj hF; subst hF
        exact z_iret dX7_move_71 rfl rfl ⟨rfl, rfl, rfl, rfl, rfl⟩
      · replace hF := (if_neg hc).symm.trans hF
        refine z_aload_n (n := 47) dX7_move_46 rfl 0 rfl rfl ?_
        refine z_iconst (n := 48) (v := 1) dX7_move_47 rfl (by decide) ?_
        obtain ⟨x_21, I_22, c_20, hF⟩ := zb2_some hF
        refine z_cV (n := 51) (st := []) (C_X7_refuse htr hM c_20) dX7_move_48 rfl (lw_V q2073 q2075 qs82 q131 q2076) hcee_X7_refuse rfl (by decide) hM.1 rfl rfl rfl (Nat.le_of_ble_eq_true rfl) (Nat.le_refl _) (Nat.le_refl _) ?_
        have hF := Option.some.inj hF; subst hF
        exact z_iret dX7_move_51 rfl rfl ⟨rfl, rfl, rfl, rfl, rfl⟩
    · replace hF := (if_neg hc).symm.trans hF
      refine z_aload_n (n := 22) dX7_move_21 rfl 0 rfl rfl ?_
      refine z_iconst (n := 23) (v := 1) dX7_move_22 rfl (by decide) ?_
      obtain ⟨x_24, I_25, c_23, hF⟩ := zb2_some hF
      refine z_cV (n := 26) (st := []) (C_X7_fail htr hM c_23) dX7_move_23 rfl (lw_V q1879 q1881 qs48 q131 q1882) hcee_X7_fail rfl (by decide) hM.1 rfl rfl rfl (Nat.le_of_ble_eq_true rfl) (Nat.le_refl _) (Nat.le_refl _) ?_
      have hF := Option.some.inj hF; subst hF
      exact z_iret dX7_move_26 rfl rfl ⟨rfl, rfl, rfl, rfl, rfl⟩
abbrev MX7_bows : zM := (RX7, cX7_bows, 4, (some .int), "bows", [])
noncomputable def F_X7_bows (a0 : Int32) (a1 : Int32) (I : zId) : Option (Int32 × zId) := zlet (zu I 1860 1 0) (fun I_1 => zb1 (F_X7_isBand a0 I_1) (fun x_4 => if ¬ x_4 = 0 then zb1 (F_X7_isIn a1.toInt64 0 30 I_1) (fun x_6 => if ¬ x_6 = 0 then zb1 (F_X7_keep I_1) (fun I_8 => zg (zin a0 6) (zlet (I_8 1879 a0.toNatClampNeg) (fun v3_10 => zg (zin a0 6) (zlet (zu I_8 1879 a0.toNatClampNeg a1) (fun I_13 => some (v3_10, I_13)))))) else zb2 (F_X7_refuse 1 I_1) (fun x_16 I_17 => some (x_16, I_17))) else zb2 (F_X7_fail 1 I_1) (fun x_19 I_20 => some (x_19, I_20))))
set_option maxHeartbeats 1000000 in
theorem C_X7_bows {l : Launch} {G : zGt} (htr : l.stackTraces = false) {K : zKd} {F : zFd} {L : zLd} {a0 : Int32} {a1 : Int32} (hM : zMLay K F) {I : zId} {r : Int32 × zId} (hF : F_X7_bows a0 a1 I = some r) : zMet l G yX7_bows (ws_ yX7_bows cX7_bows 4 (some .int)) 2 46 0 0 [.ref 1860, .int a0, .int a1] K F I L (zQe (.inl (some (.int r.1))) K F r.2 L) := by
  refine zMet.of (by decide +kernel) htr (Nat.le_of_ble_eq_true rfl) ?_
  change zW l G MX7_bows 2 46 0 0 0 [(0, .ref 1860), (1, .int a0), (2, .int a1)] [] K F I L (zQe (.inl (some (.int r.1))) K F r.2 L)
  unfold F_X7_bows at hF
  refine z_aload_n (n := 1) dX7_bows_0 rfl 0 rfl rfl ?_
  refine z_iconst (n := 2) (v := 0) dX7_bows_1 rfl (by decide) ?_
  obtain ⟨I_1, e_2, hF⟩ := zlet_ob hF
  refine z_putIE (n := 5) dX7_bows_2 rfl zok6 fX7_150 (Or.inl ⟨_, rfl, rfl⟩) rfl ⟨rfl, rfl⟩ hM.1 (by decide) e_2 ?_
  refine z_aload_n (n := 6) dX7_bows_5 rfl 0 rfl rfl ?_
  refine z_iload_n (n := 7) dX7_bows_6 rfl 1 rfl rfl ?_
  obtain ⟨x_4, c_3, hF⟩ := zb1_some hF
  refine z_cV (n := 10) (st := []) (C_X7_isBand htr hM c_3) dX7_bows_7 rfl (lw_V q2045 q2047 qs78 q131 q2048) hcee_X7_isBand rfl (by decide) hM.1 rfl rfl rfl (Nat.le_of_ble_eq_true rfl) (Nat.le_refl _) (Nat.le_refl _) ?_
  refine z_if_ne (n := 13) (t := 19) dX7_bows_10 rfl (by decide) (fun hc => ?_) (fun hc => ?_)
  · replace hF := (if_pos hc).symm.trans hF
    refine z_iload_n (n := 20) dX7_bows_19 rfl 2 rfl rfl ?_
    refine z_i2l (n := 21) dX7_bows_20 rfl ?_
    refine z_lconst (n := 22) (v := 0) dX7_bows_21 rfl (by decide) ?_
    refine z_ldc2 (n := 25) dX7_bows_22 rfl q2072 ?_
    obtain ⟨x_6, c_5, hF⟩ := zb1_some hF
    refine z_cS (n := 28) (st := []) (C_X7_isIn htr c_5) dX7_bows_25 rfl (lw_S q2030 q2031 q131 q2032) hcee_X7_isIn rfl (by decide) rfl (Nat.le_of_ble_eq_true rfl) (Nat.le_refl _) (Nat.le_refl _) ?_
    refine z_if_ne (n := 31) (t := 37) dX7_bows_28 rfl (by decide) (fun hc => ?_) (fun hc => ?_)
    · replace hF := (if_pos hc).symm.trans hF
      refine z_aload_n (n := 38) dX7_bows_37 rfl 0 rfl rfl ?_
      obtain ⟨I_8, c_7, hF⟩ := zb1_some hF
      refine z_cV (n := 41) (st := []) (C_X7_keep htr hM c_7) dX7_bows_38 rfl (lw_V q2077 q2079 qs83 q131 q2080) hcee_X7_keep rfl (by decide) hM.1 rfl rfl rfl (Nat.le_of_ble_eq_true rfl) (Nat.le_refl _) (Nat.le_refl _) ?_
      refine z_aload_n (n := 42) dX7_bows_41 rfl 0 rfl rfl ?_
      refine z_getRS (n := 45) dX7_bows_42 rfl zok6 fX7_83 rfl hM.1 (Or.inl (by decide)) (mF_29 hM) ?_
      refine z_iload_n (n := 46) dX7_bows_45 rfl 1 rfl rfl ?_
      obtain ⟨h_9, hF⟩ := zg_some hF
      refine z_ialdK (n := 47) a0.toNatClampNeg rfl dX7_bows_46 rfl (mK_29 hM) (zin_ok h_9) ?_
      obtain ⟨v3_10, e_11, hF⟩ := zlet_ob hF
      refine z_istore_nE (n := 48) (lv' := [(3, .int v3_10), (0, .ref 1860), (1, .int a0), (2, .int a1)]) dX7_bows_47 rfl e_11 rfl (by decide) rfl ?_
      refine z_aload_n (n := 49) dX7_bows_48 rfl 1 rfl rfl ?_
      refine z_getRS (n := 52) dX7_bows_49 rfl zok6 fX7_83 rfl hM.1 (Or.inl (by decide)) (mF_29 hM) ?_
      refine z_iload_n (n := 53) dX7_bows_52 rfl 2 rfl rfl ?_
      refine z_iload_n (n := 54) dX7_bows_53 rfl 3 rfl rfl ?_
      obtain ⟨h_12, hF⟩ := zg_some hF
      obtain ⟨I_13, e_14, hF⟩ := zlet_ob hF
      refine z_iastK (n := 55) a0.toNatClampNeg rfl dX7_bows_54 rfl (mK_29 hM) (by decide) (zin_ok h_12) e_14 ?_
      refine z_iload_n (n := 56) dX7_bows_55 rfl 0 rfl rfl ?_
      have hF := Option.some.inj hF; subst hF
      exact z_iret dX7_bows_56 rfl rfl ⟨rfl, rfl, rfl, rfl, rfl⟩
    · replace hF := (if_neg hc).symm.trans hF
      refine z_aload_n (n := 32) dX7_bows_31 rfl 0 rfl rfl ?_
      refine z_iconst (n := 33) (v := 1) dX7_bows_32 rfl (by decide) ?_
      obtain ⟨x_16, I_17, c_15, hF⟩ := zb2_some hF
      refine z_cV (n := 36) (st := []) (C_X7_refuse htr hM c_15) dX7_bows_33 rfl (lw_V q2073 q2075 qs82 q131 q2076) hcee_X7_refuse rfl (by decide) hM.1 rfl rfl rfl (Nat.le_of_ble_eq_true rfl) (Nat.le_refl _) (Nat.le_refl _) ?_
      have hF := Option.some.inj hF; subst hF
      exact z_iret dX7_bows_36 rfl rfl ⟨rfl, rfl, rfl, rfl, rfl⟩
  · replace hF := (if_neg hc).symm.trans hF
    refine z_aload_n (n := 14) dX7_bows_13 rfl 0 rfl rfl ?_
    refine z_iconst (n := 15) (v := 1) dX7_bows_14 rfl (by decide) ?_
    obtain ⟨x_19, I_20, c_18, hF⟩ := zb2_some hF
    refine z_cV (n := 18) (st := []) (C_X7_fail htr hM c_18) dX7_bows_15 rfl (lw_V q1879 q1881 qs48 q131 q1882) hcee_X7_fail rfl (by decide) hM.1 rfl rfl rfl (Nat.le_of_ble_eq_true rfl) (Nat.le_refl _) (Nat.le_refl _) ?_
    have hF := Option.some.inj hF; subst hF
    exact z_iret dX7_bows_18 rfl rfl ⟨rfl, rfl, rfl, rfl, rfl⟩
abbrev MX7_rest : zM := (RX7, cX7_rest, 4, (some .int), "rest", [])
noncomputable def F_X7_rest (a0 : Int32) (a1 : Int32) (I : zId) : Option (Int32 × zId) := zlet (zu I 1860 1 0) (fun I_1 => zb1 (F_X7_isForest a0 I_1) (fun x_4 => if ¬ x_4 = 0 then zb1 (F_X7_isIn a1.toInt64 0 50 I_1) (fun x_6 => if ¬ x_6 = 0 then zb1 (F_X7_keep I_1) (fun I_8 => zg (zin a0 8) (zlet (I_8 1877 a0.toNatClampNeg) (fun v3_10 => zg (zin a0 8) (zlet (zu I_8 1877 a0.toNatClampNeg a1) (fun I_13 => some (v3_10, I_13)))))) else zb2 (F_X7_refuse 1 I_1) (fun x_16 I_17 => some (x_16, I_17))) else zb2 (F_X7_fail 1 I_1) (fun x_19 I_20 => some (x_19, I_20))))
set_option maxHeartbeats 1000000 in
theorem C_X7_rest {l : Launch} {G : zGt} (htr : l.stackTraces = false) {K : zKd} {F : zFd} {L : zLd} {a0 : Int32} {a1 : Int32} (hM : zMLay K F) {I : zId} {r : Int32 × zId} (hF : F_X7_rest a0 a1 I = some r) : zMet l G yX7_rest (ws_ yX7_rest cX7_rest 4 (some .int)) 2 46 0 0 [.ref 1860, .int a0, .int a1] K F I L (zQe (.inl (some (.int r.1))) K F r.2 L) := by
  refine zMet.of (by decide +kernel) htr (Nat.le_of_ble_eq_true rfl) ?_
  change zW l G MX7_rest 2 46 0 0 0 [(0, .ref 1860), (1, .int a0), (2, .int a1)] [] K F I L (zQe (.inl (some (.int r.1))) K F r.2 L)
  unfold F_X7_rest at hF
  refine z_aload_n (n := 1) dX7_rest_0 rfl 0 rfl rfl ?_
  refine z_iconst (n := 2) (v := 0) dX7_rest_1 rfl (by decide) ?_
  obtain ⟨I_1, e_2, hF⟩ := zlet_ob hF
  refine z_putIE (n := 5) dX7_rest_2 rfl zok6 fX7_150 (Or.inl ⟨_, rfl, rfl⟩) rfl ⟨rfl, rfl⟩ hM.1 (by decide) e_2 ?_
  refine z_aload_n (n := 6) dX7_rest_5 rfl 0 rfl rfl ?_
  refine z_iload_n (n := 7) dX7_rest_6 rfl 1 rfl rfl ?_
  obtain ⟨x_4, c_3, hF⟩ := zb1_some hF
  refine z_cV (n := 10) (st := []) (C_X7_isForest htr hM c_3) dX7_rest_7 rfl (lw_V q2026 q2028 qs75 q131 q2029) hcee_X7_isForest rfl (by decide) hM.1 rfl rfl rfl (Nat.le_of_ble_eq_true rfl) (Nat.le_refl _) (Nat.le_refl _) ?_
  refine z_if_ne (n := 13) (t := 19) dX7_rest_10 rfl (by decide) (fun hc => ?_) (fun hc => ?_)
  · replace hF := (if_pos hc).symm.trans hF
    refine z_iload_n (n := 20) dX7_rest_19 rfl 2 rfl rfl ?_
    refine z_i2l (n := 21) dX7_rest_20 rfl ?_
    refine z_lconst (n := 22) (v := 0) dX7_rest_21 rfl (by decide) ?_
    refine z_ldc2 (n := 25) dX7_rest_22 rfl q2121 ?_
    obtain ⟨x_6, c_5, hF⟩ := zb1_some hF
    refine z_cS (n := 28) (st := []) (C_X7_isIn htr c_5) dX7_rest_25 rfl (lw_S q2030 q2031 q131 q2032) hcee_X7_isIn rfl (by decide) rfl (Nat.le_of_ble_eq_true rfl) (Nat.le_refl _) (Nat.le_refl _) ?_
    refine z_if_ne (n := 31) (t := 37) dX7_rest_28 rfl (by decide) (fun hc => ?_) (fun hc => ?_)
    · replace hF := (if_pos hc).symm.trans hF
      refine z_aload_n (n := 38) dX7_rest_37 rfl 0 rfl rfl ?_
      obtain ⟨I_8, c_7, hF⟩ := zb1_some hF
      refine z_cV (n := 41) (st := []) (C_X7_keep htr hM c_7) dX7_rest_38 rfl (lw_V q2077 q2079 qs83 q131 q2080) hcee_X7_keep rfl (by decide) hM.1 rfl rfl rfl (Nat.le_of_ble_eq_true rfl) (Nat.le_refl _) (Nat.le_refl _) ?_
      refine z_aload_n (n := 42) dX7_rest_41 rfl 0 rfl rfl ?_
      refine z_getRS (n := 45) dX7_rest_42 rfl zok6 fX7_77 rfl hM.1 (Or.inl (by decide)) (mF_27 hM) ?_
      refine z_iload_n (n := 46) dX7_rest_45 rfl 1 rfl rfl ?_
      obtain ⟨h_9, hF⟩ := zg_some hF
      refine z_ialdK (n := 47) a0.toNatClampNeg rfl dX7_rest_46 rfl (mK_27 hM) (zin_ok h_9) ?_
      obtain ⟨v3_10, e_11, hF⟩ := zlet_ob hF
      refine z_istore_nE (n := 48) (lv' := [(3, .int v3_10), (0, .ref 1860), (1, .int a0), (2, .int a1)]) dX7_rest_47 rfl e_11 rfl (by decide) rfl ?_
      refine z_aload_n (n := 49) dX7_rest_48 rfl 1 rfl rfl ?_
      refine z_getRS (n := 52) dX7_rest_49 rfl zok6 fX7_77 rfl hM.1 (Or.inl (by decide)) (mF_27 hM) ?_
      refine z_iload_n (n := 53) dX7_rest_52 rfl 2 rfl rfl ?_
      refine z_iload_n (n := 54) dX7_rest_53 rfl 3 rfl rfl ?_
      obtain ⟨h_12, hF⟩ := zg_some hF
      obtain ⟨I_13, e_14, hF⟩ := zlet_ob hF
      refine z_iastK (n := 55) a0.toNatClampNeg rfl dX7_rest_54 rfl (mK_27 hM) (by decide) (zin_ok h_12) e_14 ?_
      refine z_iload_n (n := 56) dX7_rest_55 rfl 0 rfl rfl ?_
      have hF := Option.some.inj hF; subst hF
      exact z_iret dX7_rest_56 rfl rfl ⟨rfl, rfl, rfl, rfl, rfl⟩
    · replace hF := (if_neg hc).symm.trans hF
      refine z_aload_n (n := 32) dX7_rest_31 rfl 0 rfl rfl ?_
      refine z_iconst (n := 33) (v := 1) dX7_rest_32 rfl (by decide) ?_
      obtain ⟨x_16, I_17, c_15, hF⟩ := zb2_some hF
      refine z_cV (n := 36) (st := []) (C_X7_refuse htr hM c_15) dX7_rest_33 rfl (lw_V q2073 q2075 qs82 q131 q2076) hcee_X7_refuse rfl (by decide) hM.1 rfl rfl rfl (Nat.le_of_ble_eq_true rfl) (Nat.le_refl _) (Nat.le_refl _) ?_
      have hF := Option.some.inj hF; subst hF
      exact z_iret dX7_rest_36 rfl rfl ⟨rfl, rfl, rfl, rfl, rfl⟩
  · replace hF := (if_neg hc).symm.trans hF
    refine z_aload_n (n := 14) dX7_rest_13 rfl 0 rfl rfl ?_
    refine z_iconst (n := 15) (v := 1) dX7_rest_14 rfl (by decide) ?_
    obtain ⟨x_19, I_20, c_18, hF⟩ := zb2_some hF
    refine z_cV (n := 18) (st := []) (C_X7_fail htr hM c_18) dX7_rest_15 rfl (lw_V q1879 q1881 qs48 q131 q1882) hcee_X7_fail rfl (by decide) hM.1 rfl rfl rfl (Nat.le_of_ble_eq_true rfl) (Nat.le_refl _) (Nat.le_refl _) ?_
    have hF := Option.some.inj hF; subst hF
    exact z_iret dX7_rest_18 rfl rfl ⟨rfl, rfl, rfl, rfl, rfl⟩
abbrev MX7_dye : zM := (RX7, cX7_dye, 3, (some .int), "dye", [])
noncomputable def F_X7_dye (a0 : Int32) (a1 : Int32) (I : zId) : Option (Int32 × zId) := zlet (zu I 1860 1 0) (fun I_1 => zb1 (F_X7_isBand a0 I_1) (fun x_4 => if ¬ x_4 = 0 then zb1 (F_X7_isIn a1.toInt64 1 99 I_1) (fun x_6 => if ¬ x_6 = 0 then zb1 (F_X7_keep I_1) (fun I_8 => zg (zin a0 6) (zg (zin a0 6) (zlet (zu I_8 1880 a0.toNatClampNeg (zmin 9999 ((I_8 1880 a0.toNatClampNeg) + a1))) (fun I_11 => zg (zin a0 6) (some (I_11 1880 a0.toNatClampNeg, I_11)))))) else zb2 (F_X7_refuse 1 I_1) (fun x_15 I_16 => some (x_15, I_16))) else zb2 (F_X7_fail 1 I_1) (fun x_18 I_19 => some (x_18, I_19))))
set_option maxHeartbeats 1000000 in
theorem C_X7_dye {l : Launch} {G : zGt} (htr : l.stackTraces = false) {K : zKd} {F : zFd} {L : zLd} {a0 : Int32} {a1 : Int32} (hM : zMLay K F) {I : zId} {r : Int32 × zId} (hF : F_X7_dye a0 a1 I = some r) : zMet l G yX7_dye (ws_ yX7_dye cX7_dye 3 (some .int)) 2 46 0 0 [.ref 1860, .int a0, .int a1] K F I L (zQe (.inl (some (.int r.1))) K F r.2 L) := by
  refine zMet.of (by decide +kernel) htr (Nat.le_of_ble_eq_true rfl) ?_
  change zW l G MX7_dye 2 46 0 0 0 [(0, .ref 1860), (1, .int a0), (2, .int a1)] [] K F I L (zQe (.inl (some (.int r.1))) K F r.2 L)
  unfold F_X7_dye at hF
  refine z_aload_n (n := 1) dX7_dye_0 rfl 0 rfl rfl ?_
  refine z_iconst (n := 2) (v := 0) dX7_dye_1 rfl (by decide) ?_
  obtain ⟨I_1, e_2, hF⟩ := zlet_ob hF
  refine z_putIE (n := 5) dX7_dye_2 rfl zok6 fX7_150 (Or.inl ⟨_, rfl, rfl⟩) rfl ⟨rfl, rfl⟩ hM.1 (by decide) e_2 ?_
  refine z_aload_n (n := 6) dX7_dye_5 rfl 0 rfl rfl ?_
  refine z_iload_n (n := 7) dX7_dye_6 rfl 1 rfl rfl ?_
  obtain ⟨x_4, c_3, hF⟩ := zb1_some hF
  refine z_cV (n := 10) (st := []) (C_X7_isBand htr hM c_3) dX7_dye_7 rfl (lw_V q2045 q2047 qs78 q131 q2048) hcee_X7_isBand rfl (by decide) hM.1 rfl rfl rfl (Nat.le_of_ble_eq_true rfl) (Nat.le_refl _) (Nat.le_refl _) ?_
  refine z_if_ne (n := 13) (t := 19) dX7_dye_10 rfl (by decide) (fun hc => ?_) (fun hc => ?_)
  · replace hF := (if_pos hc).symm.trans hF
    refine z_iload_n (n := 20) dX7_dye_19 rfl 2 rfl rfl ?_
    refine z_i2l (n := 21) dX7_dye_20 rfl ?_
    refine z_lconst (n := 22) (v := 1) dX7_dye_21 rfl (by decide) ?_
    refine z_ldc2 (n := 25) dX7_dye_22 rfl q2126 ?_
    obtain ⟨x_6, c_5, hF⟩ := zb1_some hF
    refine z_cS (n := 28) (st := []) (C_X7_isIn htr c_5) dX7_dye_25 rfl (lw_S q2030 q2031 q131 q2032) hcee_X7_isIn rfl (by decide) rfl (Nat.le_of_ble_eq_true rfl) (Nat.le_refl _) (Nat.le_refl _) ?_
    refine z_if_ne (n := 31) (t := 37) dX7_dye_28 rfl (by decide) (fun hc => ?_) (fun hc => ?_)
    · replace hF := (if_pos hc).symm.trans hF
      refine z_aload_n (n := 38) dX7_dye_37 rfl 0 rfl rfl ?_
      obtain ⟨I_8, c_7, hF⟩ := zb1_some hF
      refine z_cV (n := 41) (st := []) (C_X7_keep htr hM c_7) dX7_dye_38 rfl (lw_V q2077 q2079 qs83 q131 q2080) hcee_X7_keep rfl (by decide) hM.1 rfl rfl rfl (Nat.le_of_ble_eq_true rfl) (Nat.le_refl _) (Nat.le_refl _) ?_
      refine z_aload_n (n := 42) dX7_dye_41 rfl 0 rfl rfl ?_
      refine z_getRS (n := 45) dX7_dye_42 rfl zok6 fX7_86 rfl hM.1 (Or.inl (by decide)) (mF_30 hM) ?_
      refine z_iload_n (n := 46) dX7_dye_45 rfl 1 rfl rfl ?_
      refine z_sipush (n := 49) (v := 9999) dX7_dye_46 rfl (by decide) ?_
      refine z_aload_n (n := 50) dX7_dye_49 rfl 0 rfl rfl ?_
      refine z_getRS (n := 53) dX7_dye_50 rfl zok6 fX7_86 rfl hM.1 (Or.inl (by decide)) (mF_30 hM) ?_
      refine z_iload_n (n := 54) dX7_dye_53 rfl 1 rfl rfl ?_
      obtain ⟨h_9, hF⟩ := zg_some hF
      refine z_ialdK (n := 55) a0.toNatClampNeg rfl dX7_dye_54 rfl (mK_30 hM) (zin_ok h_9) ?_
      refine z_iload_n (n := 56) dX7_dye_55 rfl 2 rfl rfl ?_
      refine z_iadd (n := 57) dX7_dye_56 rfl ?_
      refine z_min (n := 60) dX7_dye_57 rfl q1898 q290 q119 q291 (by decide) (Nat.le_of_ble_eq_true rfl) ?_
      obtain ⟨h_10, hF⟩ := zg_some hF
      obtain ⟨I_11, e_12, hF⟩ := zlet_ob hF
      refine z_iastK (n := 61) a0.toNatClampNeg rfl dX7_dye_60 rfl (mK_30 hM) (by decide) (zin_ok h_10) e_12 ?_
      refine z_aload_n (n := 62) dX7_dye_61 rfl 0 rfl rfl ?_
      refine z_getRS (n := 65) dX7_dye_62 rfl zok6 fX7_86 rfl hM.1 (Or.inl (by decide)) (mF_30 hM) ?_
      refine z_iload_n (n := 66) dX7_dye_65 rfl 1 rfl rfl ?_
      obtain ⟨h_13, hF⟩ := zg_some hF
      refine z_ialdK (n := 67) a0.toNatClampNeg rfl dX7_dye_66 rfl (mK_30 hM) (zin_ok h_13) ?_
      have hF := Option.some.inj hF; subst hF
      exact z_iret dX7_dye_67 rfl rfl ⟨rfl, rfl, rfl, rfl, rfl⟩
    · replace hF := (if_neg hc).symm.trans hF
      refine z_aload_n (n := 32) dX7_dye_31 rfl 0 rfl rfl ?_
      refine z_iconst (n := 33) (v := 1) dX7_dye_32 rfl (by decide) ?_
      obtain ⟨x_15, I_16, c_14, hF⟩ := zb2_some hF
      refine z_cV (n := 36) (st := []) (C_X7_refuse htr hM c_14) dX7_dye_33 rfl (lw_V q2073 q2075 qs82 q131 q2076) hcee_X7_refuse rfl (by decide) hM.1 rfl rfl rfl (Nat.le_of_ble_eq_true rfl) (Nat.le_refl _) (Nat.le_refl _) ?_
      have hF := Option.some.inj hF; subst hF
      exact z_iret dX7_dye_36 rfl rfl ⟨rfl, rfl, rfl, rfl, rfl⟩
  · replace hF := (if_neg hc).symm.trans hF
    refine z_aload_n (n := 14) dX7_dye_13 rfl 0 rfl rfl ?_
    refine z_iconst (n := 15) (v := 1) dX7_dye_14 rfl (by decide) ?_
    obtain ⟨x_18, I_19, c_17, hF⟩ := zb2_some hF
    refine z_cV (n := 18) (st := []) (C_X7_fail htr hM c_17) dX7_dye_15 rfl (lw_V q1879 q1881 qs48 q131 q1882) hcee_X7_fail rfl (by decide) hM.1 rfl rfl rfl (Nat.le_of_ble_eq_true rfl) (Nat.le_refl _) (Nat.le_refl _) ?_
    have hF := Option.some.inj hF; subst hF
    exact z_iret dX7_dye_18 rfl rfl ⟨rfl, rfl, rfl, rfl, rfl⟩
abbrev MX7_forgive : zM := (RX7, cX7_forgive, 3, (some .int), "forgive", [])
noncomputable def F_X7_forgive (a0 : Int32) (I : zId) : Option (Int32 × zId) := zlet (zu I 1860 1 0) (fun I_1 => zb1 (F_X7_isBand a0 I_1) (fun x_4 => if ¬ x_4 = 0 then zg (zin a0 6) (if ¬ (I_1 1881 a0.toNatClampNeg) = 0 then zb1 (F_X7_keep I_1) (fun I_7 => zg (zin a0 6) (zlet (I_7 1881 a0.toNatClampNeg) (fun v2_9 => zg (zin a0 6) (zlet (zu I_7 1881 a0.toNatClampNeg 0) (fun I_12 => some (v2_9, I_12)))))) else zb2 (F_X7_refuse 1 I_1) (fun x_15 I_16 => some (x_15, I_16))) else zb2 (F_X7_fail 1 I_1) (fun x_18 I_19 => some (x_18, I_19))))
set_option maxHeartbeats 1000000 in
theorem C_X7_forgive {l : Launch} {G : zGt} (htr : l.stackTraces = false) {K : zKd} {F : zFd} {L : zLd} {a0 : Int32} (hM : zMLay K F) {I : zId} {r : Int32 × zId} (hF : F_X7_forgive a0 I = some r) : zMet l G yX7_forgive (ws_ yX7_forgive cX7_forgive 3 (some .int)) 2 46 0 0 [.ref 1860, .int a0] K F I L (zQe (.inl (some (.int r.1))) K F r.2 L) := by
  refine zMet.of (by decide +kernel) htr (Nat.le_of_ble_eq_true rfl) ?_
  change zW l G MX7_forgive 2 46 0 0 0 [(0, .ref 1860), (1, .int a0)] [] K F I L (zQe (.inl (some (.int r.1))) K F r.2 L)
  unfold F_X7_forgive at hF
  refine z_aload_n (n := 1) dX7_forgive_0 rfl 0 rfl rfl ?_
  refine z_iconst (n := 2) (v := 0) dX7_forgive_1 rfl (by decide) ?_
  obtain ⟨I_1, e_2, hF⟩ := zlet_ob hF
  refine z_putIE (n := 5) dX7_forgive_2 rfl zok6 fX7_150 (Or.inl ⟨_, rfl, rfl⟩) rfl ⟨rfl, rfl⟩ hM.1 (by decide) e_2 ?_
  refine z_aload_n (n := 6) dX7_forgive_5 rfl 0 rfl rfl ?_
  refine z_iload_n (n := 7) dX7_forgive_6 rfl 1 rfl rfl ?_
  obtain ⟨x_4, c_3, hF⟩ := zb1_some hF
  refine z_cV (n := 10) (st := []) (C_X7_isBand htr hM c_3) dX7_forgive_7 rfl (lw_V q2045 q2047 qs78 q131 q2048) hcee_X7_isBand rfl (by decide) hM.1 rfl rfl rfl (Nat.le_of_ble_eq_true rfl) (Nat.le_refl _) (Nat.le_refl _) ?_
  refine z_if_ne (n := 13) (t := 19) dX7_forgive_10 rfl (by decide) (fun hc => ?_) (fun hc => ?_)
  · replace hF := (if_pos hc).symm.trans hF
    refine z_aload_n (n := 20) dX7_forgive_19 rfl 0 rfl rfl ?_
    refine z_getRS (n := 23) dX7_forgive_20 rfl zok6 fX7_88 rfl hM.1 (Or.inl (by decide)) (mF_31 hM) ?_
    refine z_iload_n (n := 24) dX7_forgive_23 rfl 1 rfl rfl ?_
    obtain ⟨h_5, hF⟩ := zg_some hF
    refine z_ialdK (n := 25) a0.toNatClampNeg rfl dX7_forgive_24 rfl (mK_31 hM) (zin_ok h_5) ?_
    refine z_if_ne (n := 28) (t := 34) dX7_forgive_25 rfl (by decide) (fun hc => ?_) (fun hc => ?_)
    · replace hF := (if_pos hc).symm.trans hF
      refine z_aload_n (n := 35) dX7_forgive_34 rfl 0 rfl rfl ?_
      obtain ⟨I_7, c_6, hF⟩ := zb1_some hF
      refine z_cV (n := 38) (st := []) (C_X7_keep htr hM c_6) dX7_forgive_35 rfl (lw_V q2077 q2079 qs83 q131 q2080) hcee_X7_keep rfl (by decide) hM.1 rfl rfl rfl (Nat.le_of_ble_eq_true rfl) (Nat.le_refl _) (Nat.le_refl _) ?_
      refine z_aload_n (n := 39) dX7_forgive_38 rfl 0 rfl rfl ?_
      refine z_getRS (n := 42) dX7_forgive_39 rfl zok6 fX7_88 rfl hM.1 (Or.inl (by decide)) (mF_31 hM) ?_
      refine z_iload_n (n := 43) dX7_forgive_42 rfl 1 rfl rfl ?_
      obtain ⟨h_8, hF⟩ := zg_some hF
      refine z_ialdK (n := 44) a0.toNatClampNeg rfl dX7_forgive_43 rfl (mK_31 hM) (zin_ok h_8) ?_
      obtain ⟨v2_9, e_10, hF⟩ := zlet_ob hF
      refine z_istore_nE (n := 45) (lv' := [(2, .int v2_9), (0, .ref 1860), (1, .int a0)]) dX7_forgive_44 rfl e_10 rfl (by decide) rfl ?_
      refine z_aload_n (n := 46) dX7_forgive_45 rfl 1 rfl rfl ?_
      refine z_getRS (n := 49) dX7_forgive_46 rfl zok6 fX7_88 rfl hM.1 (Or.inl (by decide)) (mF_31 hM) ?_
      refine z_iload_n (n := 50) dX7_forgive_49 rfl 2 rfl rfl ?_
      refine z_iconst (n := 51) (v := 0) dX7_forgive_50 rfl (by decide) ?_
      obtain ⟨h_11, hF⟩ := zg_some hF
      obtain ⟨I_12, e_13, hF⟩ := zlet_ob hF
      refine z_iastK (n := 52) a0.toNatClampNeg rfl dX7_forgive_51 rfl (mK_31 hM) (by decide) (zin_ok h_11) e_13 ?_
      refine z_iload_n (n := 53) dX7_forgive_52 rfl 0 rfl rfl ?_
      have hF := Option.some.inj hF; subst hF
      exact z_iret dX7_forgive_53 rfl rfl ⟨rfl, rfl, rfl, rfl, rfl⟩
    · replace hF := (if_neg hc).symm.trans hF
      refine z_aload_n (n := 29) dX7_forgive_28 rfl 0 rfl rfl ?_
      refine z_iconst (n := 30) (v := 1) dX7_forgive_29 rfl (by decide) ?_
      obtain ⟨x_15, I_16, c_14, hF⟩ := zb2_some hF
      refine z_cV (n := 33) (st := []) (C_X7_refuse htr hM c_14) dX7_forgive_30 rfl (lw_V q2073 q2075 qs82 q131 q2076) hcee_X7_refuse rfl (by decide) hM.1 rfl rfl rfl (Nat.le_of_ble_eq_true rfl) (Nat.le_refl _) (Nat.le_refl _) ?_
      have hF := Option.some.inj hF; subst hF
      exact z_iret dX7_forgive_33 rfl rfl ⟨rfl, rfl, rfl, rfl, rfl⟩
  · replace hF := (if_neg hc).symm.trans hF
    refine z_aload_n (n := 14) dX7_forgive_13 rfl 0 rfl rfl ?_
    refine z_iconst (n := 15) (v := 1) dX7_forgive_14 rfl (by decide) ?_
    obtain ⟨x_18, I_19, c_17, hF⟩ := zb2_some hF
    refine z_cV (n := 18) (st := []) (C_X7_fail htr hM c_17) dX7_forgive_15 rfl (lw_V q1879 q1881 qs48 q131 q1882) hcee_X7_fail rfl (by decide) hM.1 rfl rfl rfl (Nat.le_of_ble_eq_true rfl) (Nat.le_refl _) (Nat.le_refl _) ?_
    have hF := Option.some.inj hF; subst hF
    exact z_iret dX7_forgive_18 rfl rfl ⟨rfl, rfl, rfl, rfl, rfl⟩
abbrev MX7_unpack : zM := (RX7, cX7_unpack, 5, none, "unpack", [])
noncomputable def F_X7_unpack_L27 (a0 : Nat) (n0 : Nat) (a1 : Int32) (v3_10 : Int32) (I_11 : zId) : Option ((Int32 × zId) ⊕ (zId)) := if 8 ≤ v3_10 then some (.inr (I_11)) else zg (zin ((a1 + 3) + v3_10) n0) (zg (zin v3_10 8) (zlet (zu I_11 1875 v3_10.toNatClampNeg (I_11 a0 (((a1 + 3) + v3_10).toNatClampNeg))) (fun I_14 => zg (zin (((a1 + 3) + 8) + v3_10) n0) (zg (zin v3_10 8) (zlet (zu I_14 1876 v3_10.toNatClampNeg (I_14 a0 ((((a1 + 3) + 8) + v3_10).toNatClampNeg))) (fun I_18 => zg (zin (((a1 + 3) + 16) + v3_10) n0) (zg (zin v3_10 8) (zlet (zu I_18 1877 v3_10.toNatClampNeg (I_18 a0 ((((a1 + 3) + 16) + v3_10).toNatClampNeg))) (fun I_22 => zlet (v3_10 + 1) (fun v3_24 => some (.inl (v3_24, I_22))))))))))))
noncomputable def F_X7_unpack_L94 (a0 : Nat) (n0 : Nat) (v3_28 : Int32) (v4_30 : Int32) (I_31 : zId) : Option ((Int32 × zId) ⊕ (zId)) := if 6 ≤ v4_30 then some (.inr (I_31)) else zg (zin (v3_28 + v4_30) n0) (zg (zin v4_30 6) (zlet (zu I_31 1878 v4_30.toNatClampNeg (I_31 a0 ((v3_28 + v4_30).toNatClampNeg))) (fun I_34 => zg (zin ((v3_28 + 6) + v4_30) n0) (zg (zin v4_30 6) (zlet (zu I_34 1879 v4_30.toNatClampNeg (I_34 a0 (((v3_28 + 6) + v4_30).toNatClampNeg))) (fun I_38 => zg (zin ((v3_28 + 12) + v4_30) n0) (zg (zin v4_30 6) (zlet (zu I_38 1880 v4_30.toNatClampNeg (I_38 a0 (((v3_28 + 12) + v4_30).toNatClampNeg))) (fun I_42 => zg (zin ((v3_28 + 18) + v4_30) n0) (zg (zin v4_30 6) (zlet (zu I_42 1881 v4_30.toNatClampNeg (I_42 a0 (((v3_28 + 18) + v4_30).toNatClampNeg))) (fun I_46 => zg (zin ((v3_28 + 24) + v4_30) n0) (zg (zin v4_30 6) (zlet (zu I_46 1882 v4_30.toNatClampNeg (I_46 a0 (((v3_28 + 24) + v4_30).toNatClampNeg))) (fun I_50 => zlet (v4_30 + 1) (fun v4_52 => some (.inl (v4_52, I_50))))))))))))))))))
noncomputable def F_X7_unpack (a0 : Nat) (n0 : Nat) (a1 : Int32) (I : zId) : Option (zId) := zg (zin a1 n0) (zlet (zu I 1860 34 (I a0 a1.toNatClampNeg)) (fun I_2 => zg (zin (a1 + 1) n0) (zlet (zu I_2 1860 35 (I_2 a0 ((a1 + 1).toNatClampNeg))) (fun I_5 => zg (zin (a1 + 2) n0) (zlet (zu I_5 1860 36 (I_5 a0 ((a1 + 2).toNatClampNeg))) (fun I_8 => zb1 (zloop (fun s : Int32 × zId => F_X7_unpack_L27 a0 n0 a1 s.1 s.2) (0, I_8)) (fun I_26 => zlet ((a1 + 3) + 24) (fun v3_28 => zb1 (zloop (fun s : Int32 × zId => F_X7_unpack_L94 a0 n0 v3_28 s.1 s.2) (0, I_26)) (fun I_54 => some I_54)))))))))
set_option maxHeartbeats 1000000 in
theorem W_X7_unpack_L27 {l : Launch} {G : zGt} (htr : l.stackTraces = false) {K : zKd} {F : zFd} {L : zLd} {Q : zQt} {a0 : Nat} {n0 : Nat} {a1 : Int32} {v3_10 : Int32} {I_11 : zId} (hM : zMLay K F) (hk0 : K a0 = some (64, n0)) (hb0 : zNC ≤ a0) {r : (Int32 × zId) ⊕ (zId)} (hF : F_X7_unpack_L27 a0 n0 a1 v3_10 I_11 = some r) (kl : ∀ (z0 : Int32) (z1 : zId), r = .inl (z0, z1) → zW l G MX7_unpack 0 0 0 0 27 [(0, .ref 1860), (1, .ref a0), (2, .int a1), (3, .int z0)] [] K F z1 L Q) (kx : ∀ (y0 : zId), r = .inr y0 → zW l G MX7_unpack 0 0 0 0 84 [(0, .ref 1860), (1, .ref a0), (2, .int a1)] [] K F y0 L Q)  : zW l G MX7_unpack 0 0 0 0 27 [(0, .ref 1860), (1, .ref a0), (2, .int a1), (3, .int v3_10)] [] K F I_11 L Q := by
  unfold F_X7_unpack_L27 at hF
  refine z_iload_n (n := 28) dX7_unpack_27 rfl 3 rfl rfl ?_
  refine z_bipush (n := 30) (v := 8) dX7_unpack_28 rfl (by decide) ?_
  refine z_icmp_ge (n := 33) (t := 84) dX7_unpack_30 rfl (by decide) (fun hc => ?_) (fun hc => ?_)
  · replace hF := (if_pos hc).symm.trans hF
    refine z_sub [0, 1, 2] rfl ?_
    have hF := Option.some.inj hF; subst hF
    exact kx _ rfl
  · replace hF := (if_neg hc).symm.trans hF
    refine z_aload_n (n := 34) dX7_unpack_33 rfl 0 rfl rfl ?_
    refine z_getRS (n := 37) dX7_unpack_34 rfl zok6 fX7_72 rfl hM.1 (Or.inl (by decide)) (mF_25 hM) ?_
    refine z_iload_n (n := 38) dX7_unpack_37 rfl 3 rfl rfl ?_
    refine z_aload_n (n := 39) dX7_unpack_38 rfl 1 rfl rfl ?_
    refine z_iload_n (n := 40) dX7_unpack_39 rfl 2 rfl rfl ?_
    refine z_iconst (n := 41) (v := 3) dX7_unpack_40 rfl (by decide) ?_
    refine z_iadd (n := 42) dX7_unpack_41 rfl ?_
    refine z_iload_n (n := 43) dX7_unpack_42 rfl 3 rfl rfl ?_
    refine z_iadd (n := 44) dX7_unpack_43 rfl ?_
    obtain ⟨h_12, hF⟩ := zg_some hF
    refine z_ialdK (n := 45) (((a1 + 3) + v3_10).toNatClampNeg) rfl dX7_unpack_44 rfl hk0 (zin_ok h_12) ?_
    obtain ⟨h_13, hF⟩ := zg_some hF
    obtain ⟨I_14, e_15, hF⟩ := zlet_ob hF
    refine z_iastK (n := 46) v3_10.toNatClampNeg rfl dX7_unpack_45 rfl (mK_25 hM) (by decide) (zin_ok h_13) e_15 ?_
    refine z_aload_n (n := 47) dX7_unpack_46 rfl 0 rfl rfl ?_
    refine z_getRS (n := 50) dX7_unpack_47 rfl zok6 fX7_74 rfl hM.1 (Or.inl (by decide)) (mF_26 hM) ?_
    refine z_iload_n (n := 51) dX7_unpack_50 rfl 3 rfl rfl ?_
    refine z_aload_n (n := 52) dX7_unpack_51 rfl 1 rfl rfl ?_
    refine z_iload_n (n := 53) dX7_unpack_52 rfl 2 rfl rfl ?_
    refine z_iconst (n := 54) (v := 3) dX7_unpack_53 rfl (by decide) ?_
    refine z_iadd (n := 55) dX7_unpack_54 rfl ?_
    refine z_bipush (n := 57) (v := 8) dX7_unpack_55 rfl (by decide) ?_
    refine z_iadd (n := 58) dX7_unpack_57 rfl ?_
    refine z_iload_n (n := 59) dX7_unpack_58 rfl 3 rfl rfl ?_
    refine z_iadd (n := 60) dX7_unpack_59 rfl ?_
    obtain ⟨h_16, hF⟩ := zg_some hF
    refine z_ialdK (n := 61) ((((a1 + 3) + 8) + v3_10).toNatClampNeg) rfl dX7_unpack_60 rfl hk0 (zin_ok h_16) ?_
    obtain ⟨h_17, hF⟩ := zg_some hF
    obtain ⟨I_18, e_19, hF⟩ := zlet_ob hF
    refine z_iastK (n := 62) v3_10.toNatClampNeg rfl dX7_unpack_61 rfl (mK_26 hM) (by decide) (zin_ok h_17) e_19 ?_
    refine z_aload_n (n := 63) dX7_unpack_62 rfl 0 rfl rfl ?_
    refine z_getRS (n := 66) dX7_unpack_63 rfl zok6 fX7_77 rfl hM.1 (Or.inl (by decide)) (mF_27 hM) ?_
    refine z_iload_n (n := 67) dX7_unpack_66 rfl 3 rfl rfl ?_
    refine z_aload_n (n := 68) dX7_unpack_67 rfl 1 rfl rfl ?_
    refine z_iload_n (n := 69) dX7_unpack_68 rfl 2 rfl rfl ?_
    refine z_iconst (n := 70) (v := 3) dX7_unpack_69 rfl (by decide) ?_
    refine z_iadd (n := 71) dX7_unpack_70 rfl ?_
    refine z_bipush (n := 73) (v := 16) dX7_unpack_71 rfl (by decide) ?_
    refine z_iadd (n := 74) dX7_unpack_73 rfl ?_
    refine z_iload_n (n := 75) dX7_unpack_74 rfl 3 rfl rfl ?_
    refine z_iadd (n := 76) dX7_unpack_75 rfl ?_
    obtain ⟨h_20, hF⟩ := zg_some hF
    refine z_ialdK (n := 77) ((((a1 + 3) + 16) + v3_10).toNatClampNeg) rfl dX7_unpack_76 rfl hk0 (zin_ok h_20) ?_
    obtain ⟨h_21, hF⟩ := zg_some hF
    obtain ⟨I_22, e_23, hF⟩ := zlet_ob hF
    refine z_iastK (n := 78) v3_10.toNatClampNeg rfl dX7_unpack_77 rfl (mK_27 hM) (by decide) (zin_ok h_21) e_23 ?_
    obtain ⟨v3_24, e_25, hF⟩ := zlet_ob hF
    refine z_iincE (n := 81) (w := 1) (v := v3_24) (lv' := [(3, .int v3_24), (0, .ref 1860), (1, .ref a0), (2, .int a1)]) dX7_unpack_78 rfl 3 rfl (by decide) e_25 (by decide) rfl ?_
    refine z_goto (t := 27) dX7_unpack_81 (by decide) ?_
    refine z_sub [1, 2, 3, 0] rfl ?_
    have hF := Option.some.inj hF; subst hF
    exact kl _ _ rfl
set_option maxHeartbeats 1000000 in
theorem W_X7_unpack_L94 {l : Launch} {G : zGt} (htr : l.stackTraces = false) {K : zKd} {F : zFd} {L : zLd} {Q : zQt} {a0 : Nat} {n0 : Nat} {a1 : Int32} {v3_28 : Int32} {v4_30 : Int32} {I_31 : zId} (hM : zMLay K F) (hk0 : K a0 = some (64, n0)) (hb0 : zNC ≤ a0) {r : (Int32 × zId) ⊕ (zId)} (hF : F_X7_unpack_L94 a0 n0 v3_28 v4_30 I_31 = some r) (kl : ∀ (z0 : Int32) (z1 : zId), r = .inl (z0, z1) → zW l G MX7_unpack 0 0 0 0 94 [(0, .ref 1860), (1, .ref a0), (3, .int v3_28), (4, .int z0)] [] K F z1 L Q) (kx : ∀ (y0 : zId), r = .inr y0 → zW l G MX7_unpack 0 0 0 0 184 [] [] K F y0 L Q)  : zW l G MX7_unpack 0 0 0 0 94 [(0, .ref 1860), (1, .ref a0), (3, .int v3_28), (4, .int v4_30)] [] K F I_31 L Q := by
  unfold F_X7_unpack_L94 at hF
  refine z_iload (n := 96) dX7_unpack_94 rfl 3 rfl ?_
  refine z_bipush (n := 98) (v := 6) dX7_unpack_96 rfl (by decide) ?_
  refine z_icmp_ge (n := 101) (t := 184) dX7_unpack_98 rfl (by decide) (fun hc => ?_) (fun hc => ?_)
  · replace hF := (if_pos hc).symm.trans hF
    refine z_sub [] rfl ?_
    have hF := Option.some.inj hF; subst hF
    exact kx _ rfl
  · replace hF := (if_neg hc).symm.trans hF
    refine z_aload_n (n := 102) dX7_unpack_101 rfl 0 rfl rfl ?_
    refine z_getRS (n := 105) dX7_unpack_102 rfl zok6 fX7_80 rfl hM.1 (Or.inl (by decide)) (mF_28 hM) ?_
    refine z_iload (n := 107) dX7_unpack_105 rfl 3 rfl ?_
    refine z_aload_n (n := 108) dX7_unpack_107 rfl 1 rfl rfl ?_
    refine z_iload_n (n := 109) dX7_unpack_108 rfl 2 rfl rfl ?_
    refine z_iload (n := 111) dX7_unpack_109 rfl 3 rfl ?_
    refine z_iadd (n := 112) dX7_unpack_111 rfl ?_
    obtain ⟨h_32, hF⟩ := zg_some hF
    refine z_ialdK (n := 113) ((v3_28 + v4_30).toNatClampNeg) rfl dX7_unpack_112 rfl hk0 (zin_ok h_32) ?_
    obtain ⟨h_33, hF⟩ := zg_some hF
    obtain ⟨I_34, e_35, hF⟩ := zlet_ob hF
    refine z_iastK (n := 114) v4_30.toNatClampNeg rfl dX7_unpack_113 rfl (mK_28 hM) (by decide) (zin_ok h_33) e_35 ?_
    refine z_aload_n (n := 115) dX7_unpack_114 rfl 0 rfl rfl ?_
    refine z_getRS (n := 118) dX7_unpack_115 rfl zok6 fX7_83 rfl hM.1 (Or.inl (by decide)) (mF_29 hM) ?_
    refine z_iload (n := 120) dX7_unpack_118 rfl 3 rfl ?_
    refine z_aload_n (n := 121) dX7_unpack_120 rfl 1 rfl rfl ?_
    refine z_iload_n (n := 122) dX7_unpack_121 rfl 2 rfl rfl ?_
    refine z_bipush (n := 124) (v := 6) dX7_unpack_122 rfl (by decide) ?_
    refine z_iadd (n := 125) dX7_unpack_124 rfl ?_
    refine z_iload (n := 127) dX7_unpack_125 rfl 3 rfl ?_
    refine z_iadd (n := 128) dX7_unpack_127 rfl ?_
    obtain ⟨h_36, hF⟩ := zg_some hF
    refine z_ialdK (n := 129) (((v3_28 + 6) + v4_30).toNatClampNeg) rfl dX7_unpack_128 rfl hk0 (zin_ok h_36) ?_
    obtain ⟨h_37, hF⟩ := zg_some hF
    obtain ⟨I_38, e_39, hF⟩ := zlet_ob hF
    refine z_iastK (n := 130) v4_30.toNatClampNeg rfl dX7_unpack_129 rfl (mK_29 hM) (by decide) (zin_ok h_37) e_39 ?_
    refine z_aload_n (n := 131) dX7_unpack_130 rfl 0 rfl rfl ?_
    refine z_getRS (n := 134) dX7_unpack_131 rfl zok6 fX7_86 rfl hM.1 (Or.inl (by decide)) (mF_30 hM) ?_
    refine z_iload (n := 136) dX7_unpack_134 rfl 3 rfl ?_
    refine z_aload_n (n := 137) dX7_unpack_136 rfl 1 rfl rfl ?_
    refine z_iload_n (n := 138) dX7_unpack_137 rfl 2 rfl rfl ?_
    refine z_bipush (n := 140) (v := 12) dX7_unpack_138 rfl (by decide) ?_
    refine z_iadd (n := 141) dX7_unpack_140 rfl ?_
    refine z_iload (n := 143) dX7_unpack_141 rfl 3 rfl ?_
    refine z_iadd (n := 144) dX7_unpack_143 rfl ?_
    obtain ⟨h_40, hF⟩ := zg_some hF
    refine z_ialdK (n := 145) (((v3_28 + 12) + v4_30).toNatClampNeg) rfl dX7_unpack_144 rfl hk0 (zin_ok h_40) ?_
    obtain ⟨h_41, hF⟩ := zg_some hF
    obtain ⟨I_42, e_43, hF⟩ := zlet_ob hF
    refine z_iastK (n := 146) v4_30.toNatClampNeg rfl dX7_unpack_145 rfl (mK_30 hM) (by decide) (zin_ok h_41) e_43 ?_
    refine z_aload_n (n := 147) dX7_unpack_146 rfl 0 rfl rfl ?_
    refine z_getRS (n := 150) dX7_unpack_147 rfl zok6 fX7_88 rfl hM.1 (Or.inl (by decide)) (mF_31 hM) ?_
    refine z_iload (n := 152) dX7_unpack_150 rfl 3 rfl ?_
    refine z_aload_n (n := 153) dX7_unpack_152 rfl 1 rfl rfl ?_
    refine z_iload_n (n := 154) dX7_unpack_153 rfl 2 rfl rfl ?_
    refine z_bipush (n := 156) (v := 18) dX7_unpack_154 rfl (by decide) ?_
    refine z_iadd (n := 157) dX7_unpack_156 rfl ?_
    refine z_iload (n := 159) dX7_unpack_157 rfl 3 rfl ?_
    refine z_iadd (n := 160) dX7_unpack_159 rfl ?_
    obtain ⟨h_44, hF⟩ := zg_some hF
    refine z_ialdK (n := 161) (((v3_28 + 18) + v4_30).toNatClampNeg) rfl dX7_unpack_160 rfl hk0 (zin_ok h_44) ?_
    obtain ⟨h_45, hF⟩ := zg_some hF
    obtain ⟨I_46, e_47, hF⟩ := zlet_ob hF
    refine z_iastK (n := 162) v4_30.toNatClampNeg rfl dX7_unpack_161 rfl (mK_31 hM) (by decide) (zin_ok h_45) e_47 ?_
    refine z_aload_n (n := 163) dX7_unpack_162 rfl 0 rfl rfl ?_
    refine z_getRS (n := 166) dX7_unpack_163 rfl zok6 fX7_90 rfl hM.1 (Or.inl (by decide)) (mF_32 hM) ?_
    refine z_iload (n := 168) dX7_unpack_166 rfl 3 rfl ?_
    refine z_aload_n (n := 169) dX7_unpack_168 rfl 1 rfl rfl ?_
    refine z_iload_n (n := 170) dX7_unpack_169 rfl 2 rfl rfl ?_
    refine z_bipush (n := 172) (v := 24) dX7_unpack_170 rfl (by decide) ?_
    refine z_iadd (n := 173) dX7_unpack_172 rfl ?_
    refine z_iload (n := 175) dX7_unpack_173 rfl 3 rfl ?_
    refine z_iadd (n := 176) dX7_unpack_175 rfl ?_
    obtain ⟨h_48, hF⟩ := zg_some hF
    refine z_ialdK (n := 177) (((v3_28 + 24) + v4_30).toNatClampNeg) rfl dX7_unpack_176 rfl hk0 (zin_ok h_48) ?_
    obtain ⟨h_49, hF⟩ := zg_some hF
    obtain ⟨I_50, e_51, hF⟩ := zlet_ob hF
    refine z_iastK (n := 178) v4_30.toNatClampNeg rfl dX7_unpack_177 rfl (mK_32 hM) (by decide) (zin_ok h_49) e_51 ?_
    obtain ⟨v4_52, e_53, hF⟩ := zlet_ob hF
    refine z_iincE (n := 181) (w := 1) (v := v4_52) (lv' := [(4, .int v4_52), (0, .ref 1860), (1, .ref a0), (3, .int v3_28)]) dX7_unpack_178 rfl 3 rfl (by decide) e_53 (by decide) rfl ?_
    refine z_goto (t := 94) dX7_unpack_181 (by decide) ?_
    refine z_sub [1, 2, 3, 0] rfl ?_
    have hF := Option.some.inj hF; subst hF
    exact kl _ _ rfl
set_option maxHeartbeats 1000000 in
theorem C_X7_unpack {l : Launch} {G : zGt} (htr : l.stackTraces = false) {K : zKd} {F : zFd} {L : zLd} {a0 : Nat} {n0 : Nat} {a1 : Int32} (hM : zMLay K F) (hk0 : K a0 = some (64, n0)) (hb0 : zNC ≤ a0) {I : zId} {r : zId} (hF : F_X7_unpack a0 n0 a1 I = some r) : zMet l G yX7_unpack (ws_ yX7_unpack cX7_unpack 5 none) 0 0 0 0 [.ref 1860, .ref a0, .int a1] K F I L (zQe (.inl none) K F r L) := by
  refine zMet.of (by decide +kernel) htr (Nat.le_of_ble_eq_true rfl) ?_
  change zW l G MX7_unpack 0 0 0 0 0 [(0, .ref 1860), (1, .ref a0), (2, .int a1)] [] K F I L (zQe (.inl none) K F r L)
  unfold F_X7_unpack at hF
  refine z_aload_n (n := 1) dX7_unpack_0 rfl 0 rfl rfl ?_
  refine z_aload_n (n := 2) dX7_unpack_1 rfl 1 rfl rfl ?_
  refine z_iload_n (n := 3) dX7_unpack_2 rfl 2 rfl rfl ?_
  obtain ⟨h_1, hF⟩ := zg_some hF
  refine z_ialdK (n := 4) a1.toNatClampNeg rfl dX7_unpack_3 rfl hk0 (zin_ok h_1) ?_
  obtain ⟨I_2, e_3, hF⟩ := zlet_ob hF
  refine z_putIE (n := 7) dX7_unpack_4 rfl zok6 fX7_316 (Or.inl ⟨_, rfl, rfl⟩) rfl ⟨rfl, rfl⟩ hM.1 (by decide) e_3 ?_
  refine z_aload_n (n := 8) dX7_unpack_7 rfl 0 rfl rfl ?_
  refine z_aload_n (n := 9) dX7_unpack_8 rfl 1 rfl rfl ?_
  refine z_iload_n (n := 10) dX7_unpack_9 rfl 2 rfl rfl ?_
  refine z_iconst (n := 11) (v := 1) dX7_unpack_10 rfl (by decide) ?_
  refine z_iadd (n := 12) dX7_unpack_11 rfl ?_
  obtain ⟨h_4, hF⟩ := zg_some hF
  refine z_ialdK (n := 13) ((a1 + 1).toNatClampNeg) rfl dX7_unpack_12 rfl hk0 (zin_ok h_4) ?_
  obtain ⟨I_5, e_6, hF⟩ := zlet_ob hF
  refine z_putIE (n := 16) dX7_unpack_13 rfl zok6 fX7_318 (Or.inl ⟨_, rfl, rfl⟩) rfl ⟨rfl, rfl⟩ hM.1 (by decide) e_6 ?_
  refine z_aload_n (n := 17) dX7_unpack_16 rfl 0 rfl rfl ?_
  refine z_aload_n (n := 18) dX7_unpack_17 rfl 1 rfl rfl ?_
  refine z_iload_n (n := 19) dX7_unpack_18 rfl 2 rfl rfl ?_
  refine z_iconst (n := 20) (v := 2) dX7_unpack_19 rfl (by decide) ?_
  refine z_iadd (n := 21) dX7_unpack_20 rfl ?_
  obtain ⟨h_7, hF⟩ := zg_some hF
  refine z_ialdK (n := 22) ((a1 + 2).toNatClampNeg) rfl dX7_unpack_21 rfl hk0 (zin_ok h_7) ?_
  obtain ⟨I_8, e_9, hF⟩ := zlet_ob hF
  refine z_putIE (n := 25) dX7_unpack_22 rfl zok6 fX7_321 (Or.inl ⟨_, rfl, rfl⟩) rfl ⟨rfl, rfl⟩ hM.1 (by decide) e_9 ?_
  refine z_iconst (n := 26) (v := 0) dX7_unpack_25 rfl (by decide) ?_
  refine z_istore_nE (n := 27) (lv' := [(3, .int 0), (0, .ref 1860), (1, .ref a0), (2, .int a1)]) dX7_unpack_26 rfl rfl rfl (by decide) rfl ?_
  refine z_sub [1, 2, 3, 0] rfl ?_
  obtain ⟨t_58, e_27, hF⟩ := zb1_some hF
  obtain ⟨I_26, rfl⟩ : ∃ z, z = t_58 := ⟨_, rfl⟩
  have H_59 : zW l G MX7_unpack 0 0 0 0 84 [(0, .ref 1860), (1, .ref a0), (2, .int a1)] [] K F I_26 L (zQe (.inl none) K F r L) := by
    refine z_iload_n (n := 85) dX7_unpack_84 rfl 2 rfl rfl ?_
    refine z_iconst (n := 86) (v := 3) dX7_unpack_85 rfl (by decide) ?_
    refine z_iadd (n := 87) dX7_unpack_86 rfl ?_
    refine z_bipush (n := 89) (v := 24) dX7_unpack_87 rfl (by decide) ?_
    refine z_iadd (n := 90) dX7_unpack_89 rfl ?_
    obtain ⟨v3_28, e_29, hF⟩ := zlet_ob hF
    refine z_istore_nE (n := 91) (lv' := [(3, .int v3_28), (0, .ref 1860), (1, .ref a0), (2, .int a1)]) dX7_unpack_90 rfl e_29 rfl (by decide) rfl ?_
    refine z_iconst (n := 92) (v := 0) dX7_unpack_91 rfl (by decide) ?_
    refine z_istoreE (n := 94) (lv' := [(4, .int 0), (3, .int v3_28), (0, .ref 1860), (1, .ref a0), (2, .int a1)]) dX7_unpack_92 rfl rfl (by decide) rfl ?_
    refine z_sub [2, 3, 1, 0] rfl ?_
    obtain ⟨t_56, e_55, hF⟩ := zb1_some hF
    obtain ⟨I_54, rfl⟩ : ∃ z, z = t_56 := ⟨_, rfl⟩
    have H_57 : zW l G MX7_unpack 0 0 0 0 184 [] [] K F I_54 L (zQe (.inl none) K F r L) := by
      have hF := Option.some.inj hF; subst hF
      exact z_vret dX7_unpack_184 rfl ⟨rfl, rfl, rfl, rfl, rfl⟩
    refine zloop_ind (P := fun s : Int32 × zId => zW l G MX7_unpack 0 0 0 0 94 [(0, .ref 1860), (1, .ref a0), (3, .int v3_28), (4, .int s.1)] [] K F s.2 L (zQe (.inl none) K F r L)) (fun s r hb kl kr => ?_) e_55
    exact W_X7_unpack_L94 (a0 := a0) (n0 := n0) (a1 := a1) htr hM hk0 hb0 hb (fun z0 z1 e => kl _ e) (fun y0 e => by cases kr _ e; exact H_57)
  refine zloop_ind (P := fun s : Int32 × zId => zW l G MX7_unpack 0 0 0 0 27 [(0, .ref 1860), (1, .ref a0), (2, .int a1), (3, .int s.1)] [] K F s.2 L (zQe (.inl none) K F r L)) (fun s r hb kl kr => ?_) e_27
  exact W_X7_unpack_L27 (a0 := a0) (n0 := n0) (a1 := a1) htr hM hk0 hb0 hb (fun z0 z1 e => kl _ e) (fun y0 e => by cases kr _ e; exact H_59)
theorem hcee_X7_unpack : zCee yX7_unpack RX7 2 := ⟨rfl, by decide +kernel, by decide +kernel, by decide +kernel⟩
abbrev MX7_undo : zM := (RX7, cX7_undo, 1, (some .int), "undo", [])
noncomputable def F_X7_undo (I : zId) : Option (Int32 × zId) := zlet (zu I 1860 1 0) (fun I_1 => if ¬ (I_1 1860 37) = 0 then zlet (zu I_1 1860 37 ((I_1 1860 37) - 1)) (fun I_3 => zb1 (F_X7_unpack 1883 2280 ((57 : Int32) * (I_3 1860 37)) I_3) (fun I_6 => some (I_6 1860 37, I_6))) else some ((-1), I_1))
set_option maxHeartbeats 1000000 in
theorem C_X7_undo {l : Launch} {G : zGt} (htr : l.stackTraces = false) {K : zKd} {F : zFd} {L : zLd} (hM : zMLay K F) {I : zId} {r : Int32 × zId} (hF : F_X7_undo I = some r) : zMet l G yX7_undo (ws_ yX7_undo cX7_undo 1 (some .int)) 1 24 0 0 [.ref 1860] K F I L (zQe (.inl (some (.int r.1))) K F r.2 L) := by
  refine zMet.of (by decide +kernel) htr (Nat.le_of_ble_eq_true rfl) ?_
  change zW l G MX7_undo 1 24 0 0 0 [(0, .ref 1860)] [] K F I L (zQe (.inl (some (.int r.1))) K F r.2 L)
  unfold F_X7_undo at hF
  refine z_aload_n (n := 1) dX7_undo_0 rfl 0 rfl rfl ?_
  refine z_iconst (n := 2) (v := 0) dX7_undo_1 rfl (by decide) ?_
  obtain ⟨I_1, e_2, hF⟩ := zlet_ob hF
  refine z_putIE (n := 5) dX7_undo_2 rfl zok6 fX7_150 (Or.inl ⟨_, rfl, rfl⟩) rfl ⟨rfl, rfl⟩ hM.1 (by decide) e_2 ?_
  refine z_aload_n (n := 6) dX7_undo_5 rfl 0 rfl rfl ?_
  refine z_getI (n := 9) dX7_undo_6 rfl zok6 fX7_324 rfl hM.1 (Or.inl (by decide)) ?_
  refine z_if_ne (n := 12) (t := 14) dX7_undo_9 rfl (by decide) (fun hc => ?_) (fun hc => ?_)
  · replace hF := (if_pos hc).symm.trans hF
    refine z_aload_n (n := 15) dX7_undo_14 rfl 0 rfl rfl ?_
    refine z_dup (n := 16) dX7_undo_15 rfl rfl ?_
    refine z_getI (n := 19) dX7_undo_16 rfl zok6 fX7_324 rfl hM.1 (Or.inl (by decide)) ?_
    refine z_iconst (n := 20) (v := 1) dX7_undo_19 rfl (by decide) ?_
    refine z_isub (n := 21) dX7_undo_20 rfl ?_
    obtain ⟨I_3, e_4, hF⟩ := zlet_ob hF
    refine z_putIE (n := 24) dX7_undo_21 rfl zok6 fX7_324 (Or.inl ⟨_, rfl, rfl⟩) rfl ⟨rfl, rfl⟩ hM.1 (by decide) e_4 ?_
    refine z_aload_n (n := 25) dX7_undo_24 rfl 0 rfl rfl ?_
    refine z_aload_n (n := 26) dX7_undo_25 rfl 0 rfl rfl ?_
    refine z_getRS (n := 29) dX7_undo_26 rfl zok6 fX7_93 rfl hM.1 (Or.inl (by decide)) (mF_33 hM) ?_
    refine z_bipush (n := 31) (v := 57) dX7_undo_29 rfl (by decide) ?_
    refine z_aload_n (n := 32) dX7_undo_31 rfl 0 rfl rfl ?_
    refine z_getI (n := 35) dX7_undo_32 rfl zok6 fX7_324 rfl hM.1 (Or.inl (by decide)) ?_
    refine z_imul (n := 36) dX7_undo_35 rfl ?_
    obtain ⟨I_6, c_5, hF⟩ := zb1_some hF
    refine z_cV (n := 39) (st := []) (C_X7_unpack htr hM (mK_33 hM) (by decide) c_5) dX7_undo_36 rfl (lw_V q2135 q2137 qs91 q131 q2138) hcee_X7_unpack rfl (by decide) hM.1 rfl rfl rfl (Nat.le_of_ble_eq_true rfl) (Nat.le_refl _) (Nat.le_refl _) ?_
    refine z_aload_n (n := 40) dX7_undo_39 rfl 0 rfl rfl ?_
    refine z_getI (n := 43) dX7_undo_40 rfl zok6 fX7_324 rfl hM.1 (Or.inl (by decide)) ?_
    have hF := Option.some.inj hF; subst hF
    exact z_iret dX7_undo_43 rfl rfl ⟨rfl, rfl, rfl, rfl, rfl⟩
  · replace hF := (if_neg hc).symm.trans hF
    refine z_iconst (n := 13) (v := (-1)) dX7_undo_12 rfl (by decide) ?_
    have hF := Option.some.inj hF; subst hF
    exact z_iret dX7_undo_13 rfl rfl ⟨rfl, rfl, rfl, rfl, rfl⟩
theorem fX7_102 : zFld RX7 102 6 42 := ⟨_, rfl, by decide, _, Or.inl q1719, Or.inl rfl⟩
abbrev MX7_then : zM := (RX7, cX7_then, 4, (some .int), "then", [])
noncomputable def F_X7_then (a0 : Int32) (a1 : Int32) (I : zId) : Option (Int32 × zId) := zlet (zu I 1860 1 0) (fun I_1 => zb1 (F_X7_isForest a0 I_1) (fun x_4 => if ¬ x_4 = 0 then zb1 (F_X7_isIn a1.toInt64 0 50 I_1) (fun x_6 => if ¬ x_6 = 0 then zb1 (F_X7_pack 1886 57 0 I_1) (fun I_8 => zb1 (F_X7_goOn a1 I_8) (fun I_10 => zg (zin a0 8) (zlet (I_10 1875 a0.toNatClampNeg) (fun v3_12 => zb1 (F_X7_unpack 1886 57 0 I_10) (fun I_15 => some (v3_12, I_15)))))) else zb2 (F_X7_fail 2 I_1) (fun x_17 I_18 => some (x_17, I_18))) else zb2 (F_X7_fail 1 I_1) (fun x_20 I_21 => some (x_20, I_21))))
set_option maxHeartbeats 1000000 in
theorem C_X7_then {l : Launch} {G : zGt} (htr : l.stackTraces = false) {K : zKd} {F : zFd} {L : zLd} {a0 : Int32} {a1 : Int32} (hM : zMLay K F) {I : zId} {r : Int32 × zId} (hF : F_X7_then a0 a1 I = some r) : zMet l G yX7_then (ws_ yX7_then cX7_then 4 (some .int)) 6 135 0 0 [.ref 1860, .int a0, .int a1] K F I L (zQe (.inl (some (.int r.1))) K F r.2 L) := by
  refine zMet.of (by decide +kernel) htr (Nat.le_of_ble_eq_true rfl) ?_
  change zW l G MX7_then 6 135 0 0 0 [(0, .ref 1860), (1, .int a0), (2, .int a1)] [] K F I L (zQe (.inl (some (.int r.1))) K F r.2 L)
  unfold F_X7_then at hF
  refine z_aload_n (n := 1) dX7_then_0 rfl 0 rfl rfl ?_
  refine z_iconst (n := 2) (v := 0) dX7_then_1 rfl (by decide) ?_
  obtain ⟨I_1, e_2, hF⟩ := zlet_ob hF
  refine z_putIE (n := 5) dX7_then_2 rfl zok6 fX7_150 (Or.inl ⟨_, rfl, rfl⟩) rfl ⟨rfl, rfl⟩ hM.1 (by decide) e_2 ?_
  refine z_aload_n (n := 6) dX7_then_5 rfl 0 rfl rfl ?_
  refine z_iload_n (n := 7) dX7_then_6 rfl 1 rfl rfl ?_
  obtain ⟨x_4, c_3, hF⟩ := zb1_some hF
  refine z_cV (n := 10) (st := []) (C_X7_isForest htr hM c_3) dX7_then_7 rfl (lw_V q2026 q2028 qs75 q131 q2029) hcee_X7_isForest rfl (by decide) hM.1 rfl rfl rfl (Nat.le_of_ble_eq_true rfl) (Nat.le_refl _) (Nat.le_refl _) ?_
  refine z_if_ne (n := 13) (t := 19) dX7_then_10 rfl (by decide) (fun hc => ?_) (fun hc => ?_)
  · replace hF := (if_pos hc).symm.trans hF
    refine z_iload_n (n := 20) dX7_then_19 rfl 2 rfl rfl ?_
    refine z_i2l (n := 21) dX7_then_20 rfl ?_
    refine z_lconst (n := 22) (v := 0) dX7_then_21 rfl (by decide) ?_
    refine z_ldc2 (n := 25) dX7_then_22 rfl q2121 ?_
    obtain ⟨x_6, c_5, hF⟩ := zb1_some hF
    refine z_cS (n := 28) (st := []) (C_X7_isIn htr c_5) dX7_then_25 rfl (lw_S q2030 q2031 q131 q2032) hcee_X7_isIn rfl (by decide) rfl (Nat.le_of_ble_eq_true rfl) (Nat.le_refl _) (Nat.le_refl _) ?_
    refine z_if_ne (n := 31) (t := 37) dX7_then_28 rfl (by decide) (fun hc => ?_) (fun hc => ?_)
    · replace hF := (if_pos hc).symm.trans hF
      refine z_aload_n (n := 38) dX7_then_37 rfl 0 rfl rfl ?_
      refine z_aload_n (n := 39) dX7_then_38 rfl 0 rfl rfl ?_
      refine z_getRS (n := 42) dX7_then_39 rfl zok6 fX7_102 rfl hM.1 (Or.inl (by decide)) (mF_42 hM) ?_
      refine z_iconst (n := 43) (v := 0) dX7_then_42 rfl (by decide) ?_
      obtain ⟨I_8, c_7, hF⟩ := zb1_some hF
      refine z_cV (n := 46) (st := []) (C_X7_pack htr hM (mK_42 hM) (by decide) c_7) dX7_then_43 rfl (lw_V q2081 q2083 qs84 q131 q2084) hcee_X7_pack rfl (by decide) hM.1 rfl rfl rfl (Nat.le_of_ble_eq_true rfl) (Nat.le_refl _) (Nat.le_refl _) ?_
      refine z_aload_n (n := 47) dX7_then_46 rfl 0 rfl rfl ?_
      refine z_iload_n (n := 48) dX7_then_47 rfl 2 rfl rfl ?_
      obtain ⟨I_10, c_9, hF⟩ := zb1_some hF
      refine z_cV (n := 51) (st := []) (C_X7_goOn htr hM c_9) dX7_then_48 rfl (lw_V q2085 q2087 qs85 q131 q2088) hcee_X7_goOn rfl (by decide) hM.1 rfl rfl rfl (Nat.le_of_ble_eq_true rfl) (Nat.le_refl _) (Nat.le_refl _) ?_
      refine z_aload_n (n := 52) dX7_then_51 rfl 0 rfl rfl ?_
      refine z_getRS (n := 55) dX7_then_52 rfl zok6 fX7_72 rfl hM.1 (Or.inl (by decide)) (mF_25 hM) ?_
      refine z_iload_n (n := 56) dX7_then_55 rfl 1 rfl rfl ?_
      obtain ⟨h_11, hF⟩ := zg_some hF
      refine z_ialdK (n := 57) a0.toNatClampNeg rfl dX7_then_56 rfl (mK_25 hM) (zin_ok h_11) ?_
      obtain ⟨v3_12, e_13, hF⟩ := zlet_ob hF
      refine z_istore_nE (n := 58) (lv' := [(3, .int v3_12), (0, .ref 1860), (1, .int a0), (2, .int a1)]) dX7_then_57 rfl e_13 rfl (by decide) rfl ?_
      refine z_aload_n (n := 59) dX7_then_58 rfl 1 rfl rfl ?_
      refine z_aload_n (n := 60) dX7_then_59 rfl 1 rfl rfl ?_
      refine z_getRS (n := 63) dX7_then_60 rfl zok6 fX7_102 rfl hM.1 (Or.inl (by decide)) (mF_42 hM) ?_
      refine z_iconst (n := 64) (v := 0) dX7_then_63 rfl (by decide) ?_
      obtain ⟨I_15, c_14, hF⟩ := zb1_some hF
      refine z_cV (n := 67) (st := []) (C_X7_unpack htr hM (mK_42 hM) (by decide) c_14) dX7_then_64 rfl (lw_V q2135 q2137 qs91 q131 q2138) hcee_X7_unpack rfl (by decide) hM.1 rfl rfl rfl (Nat.le_of_ble_eq_true rfl) (Nat.le_refl _) (Nat.le_refl _) ?_
      refine z_iload_n (n := 68) dX7_then_67 rfl 0 rfl rfl ?_
      have hF := Option.some.inj hF; subst hF
      exact z_iret dX7_then_68 rfl rfl ⟨rfl, rfl, rfl, rfl, rfl⟩
    · replace hF := (if_neg hc).symm.trans hF
      refine z_aload_n (n := 32) dX7_then_31 rfl 0 rfl rfl ?_
      refine z_iconst (n := 33) (v := 2) dX7_then_32 rfl (by decide) ?_
      obtain ⟨x_17, I_18, c_16, hF⟩ := zb2_some hF
      refine z_cV (n := 36) (st := []) (C_X7_fail htr hM c_16) dX7_then_33 rfl (lw_V q1879 q1881 qs48 q131 q1882) hcee_X7_fail rfl (by decide) hM.1 rfl rfl rfl (Nat.le_of_ble_eq_true rfl) (Nat.le_refl _) (Nat.le_refl _) ?_
      have hF := Option.some.inj hF; subst hF
      exact z_iret dX7_then_36 rfl rfl ⟨rfl, rfl, rfl, rfl, rfl⟩
  · replace hF := (if_neg hc).symm.trans hF
    refine z_aload_n (n := 14) dX7_then_13 rfl 0 rfl rfl ?_
    refine z_iconst (n := 15) (v := 1) dX7_then_14 rfl (by decide) ?_
    obtain ⟨x_20, I_21, c_19, hF⟩ := zb2_some hF
    refine z_cV (n := 18) (st := []) (C_X7_fail htr hM c_19) dX7_then_15 rfl (lw_V q1879 q1881 qs48 q131 q1882) hcee_X7_fail rfl (by decide) hM.1 rfl rfl rfl (Nat.le_of_ble_eq_true rfl) (Nat.le_refl _) (Nat.le_refl _) ?_
    have hF := Option.some.inj hF; subst hF
    exact z_iret dX7_then_18 rfl rfl ⟨rfl, rfl, rfl, rfl, rfl⟩
abbrev MX7_empty : zM := (RX7, cX7_empty, 4, (some .int), "empty", [])
noncomputable def F_X7_empty_L32 (a0 : Int32) (v2_7 : Int32) (v3_8 : Int32) (I_9 : zId) : Option ((Int32 × Int32 × zId) ⊕ (Int32 × zId)) := if 50 < v3_8 then some (.inr ((v2_7, I_9))) else if ¬ v2_7 = (-1) then some (.inr ((v2_7, I_9))) else zg (zin a0 8) (zlet (fun (v2_11 : Int32) => zb1 (F_X7_aYear I_9) (fun I_16 => zlet (v3_8 + 1) (fun v3_17 => some (.inl (v2_11, v3_17, I_16))))) (fun k_12 => if ¬ (I_9 1875 a0.toNatClampNeg) = 0 then k_12 v2_7 else k_12 v3_8))
noncomputable def F_X7_empty (a0 : Int32) (I : zId) : Option (Int32 × zId) := zlet (zu I 1860 1 0) (fun I_1 => zb1 (F_X7_isForest a0 I_1) (fun x_4 => if ¬ x_4 = 0 then zb1 (F_X7_pack 1886 57 0 I_1) (fun I_6 => zb1 (zloop (fun s : Int32 × Int32 × zId => F_X7_empty_L32 a0 s.1 s.2.1 s.2.2) ((-1), 0, I_6)) (zn2 (fun v2_19 I_20 => zb1 (F_X7_unpack 1886 57 0 I_20) (fun I_23 => some (v2_19, I_23))))) else zb2 (F_X7_fail 1 I_1) (fun x_27 I_28 => some (x_27, I_28))))
set_option maxHeartbeats 1000000 in
theorem W_X7_empty_L32 {l : Launch} {G : zGt} (htr : l.stackTraces = false) {K : zKd} {F : zFd} {L : zLd} {Q : zQt} {a0 : Int32} {v2_7 : Int32} {v3_8 : Int32} {I_9 : zId} (hM : zMLay K F) {r : (Int32 × Int32 × zId) ⊕ (Int32 × zId)} (hF : F_X7_empty_L32 a0 v2_7 v3_8 I_9 = some r) (kl : ∀ (z0 : Int32) (z1 : Int32) (z2 : zId), r = .inl (z0, z1, z2) → zW l G MX7_empty 5 113 0 0 32 [(0, .ref 1860), (1, .int a0), (2, .int z0), (3, .int z1)] [] K F z2 L Q) (kx : ∀ (y0 : Int32) (y1 : zId), r = .inr (y0, y1) → zW l G MX7_empty 5 113 0 0 64 [(0, .ref 1860), (2, .int y0)] [] K F y1 L Q)  : zW l G MX7_empty 5 113 0 0 32 [(0, .ref 1860), (1, .int a0), (2, .int v2_7), (3, .int v3_8)] [] K F I_9 L Q := by
  unfold F_X7_empty_L32 at hF
  refine z_iload_n (n := 33) dX7_empty_32 rfl 3 rfl rfl ?_
  refine z_bipush (n := 35) (v := 50) dX7_empty_33 rfl (by decide) ?_
  refine z_icmp_gt (n := 38) (t := 64) dX7_empty_35 rfl (by decide) (fun hc => ?_) (fun hc => ?_)
  · replace hF := (if_pos hc).symm.trans hF
    refine z_sub [0, 2] rfl ?_
    have hF := Option.some.inj hF; subst hF
    exact kx _ _ rfl
  · replace hF := (if_neg hc).symm.trans hF
    refine z_iload_n (n := 39) dX7_empty_38 rfl 2 rfl rfl ?_
    refine z_iconst (n := 40) (v := (-1)) dX7_empty_39 rfl (by decide) ?_
    refine z_icmp_ne (n := 43) (t := 64) dX7_empty_40 rfl (by decide) (fun hc => ?_) (fun hc => ?_)
    · replace hF := (if_pos hc).symm.trans hF
      refine z_sub [0, 2] rfl ?_
      have hF := Option.some.inj hF; subst hF
      exact kx _ _ rfl
    · replace hF := (if_neg hc).symm.trans hF
      refine z_aload_n (n := 44) dX7_empty_43 rfl 0 rfl rfl ?_
      refine z_getRS (n := 47) dX7_empty_44 rfl zok6 fX7_72 rfl hM.1 (Or.inl (by decide)) (mF_25 hM) ?_
      refine z_iload_n (n := 48) dX7_empty_47 rfl 1 rfl rfl ?_
      obtain ⟨h_10, hF⟩ := zg_some hF
      refine z_ialdK (n := 49) a0.toNatClampNeg rfl dX7_empty_48 rfl (mK_25 hM) (zin_ok h_10) ?_
      obtain ⟨k_12, e_13, hF⟩ := zlet_ob hF
      have H_14 : ∀ (v2_11 : Int32), k_12 v2_11 = some r → zW l G MX7_empty 5 113 0 0 54 [(0, .ref 1860), (1, .int a0), (2, .int v2_11), (3, .int v3_8)] [] K F I_9 L Q := by
        intro v2_11 hF
        subst e_13
        dsimp only at hF
        refine z_aload_n (n := 55) dX7_empty_54 rfl 0 rfl rfl ?_
        obtain ⟨I_16, c_15, hF⟩ := zb1_some hF
        refine z_cV (n := 58) (st := []) (C_X7_aYear htr hM c_15) dX7_empty_55 rfl (lw_V q2089 q2091 qs86 q131 q2092) hcee_X7_aYear rfl (by decide) hM.1 rfl rfl rfl (Nat.le_of_ble_eq_true rfl) (Nat.le_refl _) (Nat.le_refl _) ?_
        obtain ⟨v3_17, e_18, hF⟩ := zlet_ob hF
        refine z_iincE (n := 61) (w := 1) (v := v3_17) (lv' := [(3, .int v3_17), (0, .ref 1860), (1, .int a0), (2, .int v2_11)]) dX7_empty_58 rfl 3 rfl (by decide) e_18 (by decide) rfl ?_
        refine z_goto (t := 32) dX7_empty_61 (by decide) ?_
        refine z_sub [1, 2, 3, 0] rfl ?_
        have hF := Option.some.inj hF; subst hF
        exact kl _ _ _ rfl
      clear e_13
      refine z_if_ne (n := 52) (t := 54) dX7_empty_49 rfl (by decide) (fun hc => ?_) (fun hc => ?_)
      · replace hF := (if_pos hc).symm.trans hF
        exact H_14 _ hF
      · replace hF := (if_neg hc).symm.trans hF
        refine z_iload_n (n := 53) dX7_empty_52 rfl 3 rfl rfl ?_
        refine z_istore_nE (n := 54) (lv' := [(2, .int v3_8), (0, .ref 1860), (1, .int a0), (3, .int v3_8)]) dX7_empty_53 rfl rfl rfl (by decide) rfl ?_
        refine z_sub [1, 2, 0, 3] rfl ?_
        exact H_14 _ hF
set_option maxHeartbeats 1000000 in
theorem C_X7_empty {l : Launch} {G : zGt} (htr : l.stackTraces = false) {K : zKd} {F : zFd} {L : zLd} {a0 : Int32} (hM : zMLay K F) {I : zId} {r : Int32 × zId} (hF : F_X7_empty a0 I = some r) : zMet l G yX7_empty (ws_ yX7_empty cX7_empty 4 (some .int)) 5 113 0 0 [.ref 1860, .int a0] K F I L (zQe (.inl (some (.int r.1))) K F r.2 L) := by
  refine zMet.of (by decide +kernel) htr (Nat.le_of_ble_eq_true rfl) ?_
  change zW l G MX7_empty 5 113 0 0 0 [(0, .ref 1860), (1, .int a0)] [] K F I L (zQe (.inl (some (.int r.1))) K F r.2 L)
  unfold F_X7_empty at hF
  refine z_aload_n (n := 1) dX7_empty_0 rfl 0 rfl rfl ?_
  refine z_iconst (n := 2) (v := 0) dX7_empty_1 rfl (by decide) ?_
  obtain ⟨I_1, e_2, hF⟩ := zlet_ob hF
  refine z_putIE (n := 5) dX7_empty_2 rfl zok6 fX7_150 (Or.inl ⟨_, rfl, rfl⟩) rfl ⟨rfl, rfl⟩ hM.1 (by decide) e_2 ?_
  refine z_aload_n (n := 6) dX7_empty_5 rfl 0 rfl rfl ?_
  refine z_iload_n (n := 7) dX7_empty_6 rfl 1 rfl rfl ?_
  obtain ⟨x_4, c_3, hF⟩ := zb1_some hF
  refine z_cV (n := 10) (st := []) (C_X7_isForest htr hM c_3) dX7_empty_7 rfl (lw_V q2026 q2028 qs75 q131 q2029) hcee_X7_isForest rfl (by decide) hM.1 rfl rfl rfl (Nat.le_of_ble_eq_true rfl) (Nat.le_refl _) (Nat.le_refl _) ?_
  refine z_if_ne (n := 13) (t := 19) dX7_empty_10 rfl (by decide) (fun hc => ?_) (fun hc => ?_)
  · replace hF := (if_pos hc).symm.trans hF
    refine z_aload_n (n := 20) dX7_empty_19 rfl 0 rfl rfl ?_
    refine z_aload_n (n := 21) dX7_empty_20 rfl 0 rfl rfl ?_
    refine z_getRS (n := 24) dX7_empty_21 rfl zok6 fX7_102 rfl hM.1 (Or.inl (by decide)) (mF_42 hM) ?_
    refine z_iconst (n := 25) (v := 0) dX7_empty_24 rfl (by decide) ?_
    obtain ⟨I_6, c_5, hF⟩ := zb1_some hF
    refine z_cV (n := 28) (st := []) (C_X7_pack htr hM (mK_42 hM) (by decide) c_5) dX7_empty_25 rfl (lw_V q2081 q2083 qs84 q131 q2084) hcee_X7_pack rfl (by decide) hM.1 rfl rfl rfl (Nat.le_of_ble_eq_true rfl) (Nat.le_refl _) (Nat.le_refl _) ?_
    refine z_iconst (n := 29) (v := (-1)) dX7_empty_28 rfl (by decide) ?_
    refine z_istore_nE (n := 30) (lv' := [(2, .int (-1)), (0, .ref 1860), (1, .int a0)]) dX7_empty_29 rfl rfl rfl (by decide) rfl ?_
    refine z_iconst (n := 31) (v := 0) dX7_empty_30 rfl (by decide) ?_
    refine z_istore_nE (n := 32) (lv' := [(3, .int 0), (2, .int (-1)), (0, .ref 1860), (1, .int a0)]) dX7_empty_31 rfl rfl rfl (by decide) rfl ?_
    refine z_sub [2, 3, 1, 0] rfl ?_
    obtain ⟨t_24, e_21, hF⟩ := zb1_some hF
    obtain ⟨v2_19, I_20⟩ := t_24
    dsimp only [zn2] at hF
    have H_25 : zW l G MX7_empty 5 113 0 0 64 [(0, .ref 1860), (2, .int v2_19)] [] K F I_20 L (zQe (.inl (some (.int r.1))) K F r.2 L) := by
      refine z_aload_n (n := 65) dX7_empty_64 rfl 0 rfl rfl ?_
      refine z_aload_n (n := 66) dX7_empty_65 rfl 0 rfl rfl ?_
      refine z_getRS (n := 69) dX7_empty_66 rfl zok6 fX7_102 rfl hM.1 (Or.inl (by decide)) (mF_42 hM) ?_
      refine z_iconst (n := 70) (v := 0) dX7_empty_69 rfl (by decide) ?_
      obtain ⟨I_23, c_22, hF⟩ := zb1_some hF
      refine z_cV (n := 73) (st := []) (C_X7_unpack htr hM (mK_42 hM) (by decide) c_22) dX7_empty_70 rfl (lw_V q2135 q2137 qs91 q131 q2138) hcee_X7_unpack rfl (by decide) hM.1 rfl rfl rfl (Nat.le_of_ble_eq_true rfl) (Nat.le_refl _) (Nat.le_refl _) ?_
      refine z_iload_n (n := 74) dX7_empty_73 rfl 1 rfl rfl ?_
      have hF := Option.some.inj hF; subst hF
      exact z_iret dX7_empty_74 rfl rfl ⟨rfl, rfl, rfl, rfl, rfl⟩
    refine zloop_ind (P := fun s : Int32 × Int32 × zId => zW l G MX7_empty 5 113 0 0 32 [(0, .ref 1860), (1, .int a0), (2, .int s.1), (3, .int s.2.1)] [] K F s.2.2 L (zQe (.inl (some (.int r.1))) K F r.2 L)) (fun s r hb kl kr => ?_) e_21
    exact W_X7_empty_L32 (a0 := a0) htr hM hb (fun z0 z1 z2 e => kl _ e) (fun y0 y1 e => by cases kr _ e; exact H_25)
  · replace hF := (if_neg hc).symm.trans hF
    refine z_aload_n (n := 14) dX7_empty_13 rfl 0 rfl rfl ?_
    refine z_iconst (n := 15) (v := 1) dX7_empty_14 rfl (by decide) ?_
    obtain ⟨x_27, I_28, c_26, hF⟩ := zb2_some hF
    refine z_cV (n := 18) (st := []) (C_X7_fail htr hM c_26) dX7_empty_15 rfl (lw_V q1879 q1881 qs48 q131 q1882) hcee_X7_fail rfl (by decide) hM.1 rfl rfl rfl (Nat.le_of_ble_eq_true rfl) (Nat.le_refl _) (Nat.le_refl _) ?_
    have hF := Option.some.inj hF; subst hF
    exact z_iret dX7_empty_18 rfl rfl ⟨rfl, rfl, rfl, rfl, rfl⟩
abbrev MX7_paid : zM := (RX7, cX7_paid, 5, (some .int), "paid", [])
noncomputable def F_X7_paid (a0 : Int32) (a1 : Int32) (I : zId) : Option (Int32 × zId) := zlet (zu I 1860 1 0) (fun I_1 => if a1 < 0 then zb2 (F_X7_fail 1 I_1) (fun x_4 I_5 => some (x_4, I_5)) else if a1 ≤ 1 then zb1 (F_X7_isIn a0.toInt64 0 50 I_1) (fun x_7 => if ¬ x_7 = 0 then zb1 (F_X7_pack 1886 57 0 I_1) (fun I_9 => zb1 (F_X7_goOn a0 I_9) (fun I_11 => zlet (I_11 1860 35) (fun v3_12 => zlet (I_11 1860 36) (fun v4_14 => zb1 (F_X7_unpack 1886 57 0 I_11) (fun I_17 => if ¬ a1 = 0 then some (v4_14 - (I_17 1860 36), I_17) else some (v3_12 - (I_17 1860 35), I_17)))))) else zb2 (F_X7_fail 2 I_1) (fun x_19 I_20 => some (x_19, I_20))) else zb2 (F_X7_fail 1 I_1) (fun x_22 I_23 => some (x_22, I_23)))
set_option maxHeartbeats 1000000 in
theorem C_X7_paid {l : Launch} {G : zGt} (htr : l.stackTraces = false) {K : zKd} {F : zFd} {L : zLd} {a0 : Int32} {a1 : Int32} (hM : zMLay K F) {I : zId} {r : Int32 × zId} (hF : F_X7_paid a0 a1 I = some r) : zMet l G yX7_paid (ws_ yX7_paid cX7_paid 5 (some .int)) 6 135 0 0 [.ref 1860, .int a0, .int a1] K F I L (zQe (.inl (some (.int r.1))) K F r.2 L) := by
  refine zMet.of (by decide +kernel) htr (Nat.le_of_ble_eq_true rfl) ?_
  change zW l G MX7_paid 6 135 0 0 0 [(0, .ref 1860), (1, .int a0), (2, .int a1)] [] K F I L (zQe (.inl (some (.int r.1))) K F r.2 L)
  unfold F_X7_paid at hF
  refine z_aload_n (n := 1) dX7_paid_0 rfl 0 rfl rfl ?_
  refine z_iconst (n := 2) (v := 0) dX7_paid_1 rfl (by decide) ?_
  obtain ⟨I_1, e_2, hF⟩ := zlet_ob hF
  refine z_putIE (n := 5) dX7_paid_2 rfl zok6 fX7_150 (Or.inl ⟨_, rfl, rfl⟩) rfl ⟨rfl, rfl⟩ hM.1 (by decide) e_2 ?_
  refine z_iload_n (n := 6) dX7_paid_5 rfl 2 rfl rfl ?_
  refine z_if_lt (n := 9) (t := 14) dX7_paid_6 rfl (by decide) (fun hc => ?_) (fun hc => ?_)
  · replace hF := (if_pos hc).symm.trans hF
    refine z_aload_n (n := 15) dX7_paid_14 rfl 0 rfl rfl ?_
    refine z_iconst (n := 16) (v := 1) dX7_paid_15 rfl (by decide) ?_
    obtain ⟨x_4, I_5, c_3, hF⟩ := zb2_some hF
    refine z_cV (n := 19) (st := []) (C_X7_fail htr hM c_3) dX7_paid_16 rfl (lw_V q1879 q1881 qs48 q131 q1882) hcee_X7_fail rfl (by decide) hM.1 rfl rfl rfl (Nat.le_of_ble_eq_true rfl) (Nat.le_refl _) (Nat.le_refl _) ?_
    have hF := Option.some.inj hF; subst hF
    exact z_iret dX7_paid_19 rfl rfl ⟨rfl, rfl, rfl, rfl, rfl⟩
  · replace hF := (if_neg hc).symm.trans hF
    refine z_iload_n (n := 10) dX7_paid_9 rfl 2 rfl rfl ?_
    refine z_iconst (n := 11) (v := 1) dX7_paid_10 rfl (by decide) ?_
    refine z_icmp_le (n := 14) (t := 20) dX7_paid_11 rfl (by decide) (fun hc => ?_) (fun hc => ?_)
    · replace hF := (if_pos hc).symm.trans hF
      refine z_iload_n (n := 21) dX7_paid_20 rfl 1 rfl rfl ?_
      refine z_i2l (n := 22) dX7_paid_21 rfl ?_
      refine z_lconst (n := 23) (v := 0) dX7_paid_22 rfl (by decide) ?_
      refine z_ldc2 (n := 26) dX7_paid_23 rfl q2121 ?_
      obtain ⟨x_7, c_6, hF⟩ := zb1_some hF
      refine z_cS (n := 29) (st := []) (C_X7_isIn htr c_6) dX7_paid_26 rfl (lw_S q2030 q2031 q131 q2032) hcee_X7_isIn rfl (by decide) rfl (Nat.le_of_ble_eq_true rfl) (Nat.le_refl _) (Nat.le_refl _) ?_
      refine z_if_ne (n := 32) (t := 38) dX7_paid_29 rfl (by decide) (fun hc => ?_) (fun hc => ?_)
      · replace hF := (if_pos hc).symm.trans hF
        refine z_aload_n (n := 39) dX7_paid_38 rfl 0 rfl rfl ?_
        refine z_aload_n (n := 40) dX7_paid_39 rfl 0 rfl rfl ?_
        refine z_getRS (n := 43) dX7_paid_40 rfl zok6 fX7_102 rfl hM.1 (Or.inl (by decide)) (mF_42 hM) ?_
        refine z_iconst (n := 44) (v := 0) dX7_paid_43 rfl (by decide) ?_
        obtain ⟨I_9, c_8, hF⟩ := zb1_some hF
        refine z_cV (n := 47) (st := []) (C_X7_pack htr hM (mK_42 hM) (by decide) c_8) dX7_paid_44 rfl (lw_V q2081 q2083 qs84 q131 q2084) hcee_X7_pack rfl (by decide) hM.1 rfl rfl rfl (Nat.le_of_ble_eq_true rfl) (Nat.le_refl _) (Nat.le_refl _) ?_
        refine z_aload_n (n := 48) dX7_paid_47 rfl 0 rfl rfl ?_
        refine z_iload_n (n := 49) dX7_paid_48 rfl 1 rfl rfl ?_
        obtain ⟨I_11, c_10, hF⟩ := zb1_some hF
        refine z_cV (n := 52) (st := []) (C_X7_goOn htr hM c_10) dX7_paid_49 rfl (lw_V q2085 q2087 qs85 q131 q2088) hcee_X7_goOn rfl (by decide) hM.1 rfl rfl rfl (Nat.le_of_ble_eq_true rfl) (Nat.le_refl _) (Nat.le_refl _) ?_
        refine z_aload_n (n := 53) dX7_paid_52 rfl 0 rfl rfl ?_
        refine z_getI (n := 56) dX7_paid_53 rfl zok6 fX7_318 rfl hM.1 (Or.inl (by decide)) ?_
        obtain ⟨v3_12, e_13, hF⟩ := zlet_ob hF
        refine z_istore_nE (n := 57) (lv' := [(3, .int v3_12), (0, .ref 1860), (1, .int a0), (2, .int a1)]) dX7_paid_56 rfl e_13 rfl (by decide) rfl ?_
        refine z_aload_n (n := 58) dX7_paid_57 rfl 1 rfl rfl ?_
        refine z_getI (n := 61) dX7_paid_58 rfl zok6 fX7_321 rfl hM.1 (Or.inl (by decide)) ?_
        obtain ⟨v4_14, e_15, hF⟩ := zlet_ob hF
        refine z_istoreE (n := 63) (lv' := [(4, .int v4_14), (3, .int v3_12), (0, .ref 1860), (1, .int a0), (2, .int a1)]) dX7_paid_61 rfl e_15 (by decide) rfl ?_
        refine z_aload_n (n := 64) dX7_paid_63 rfl 2 rfl rfl ?_
        refine z_aload_n (n := 65) dX7_paid_64 rfl 2 rfl rfl ?_
        refine z_getRS (n := 68) dX7_paid_65 rfl zok6 fX7_102 rfl hM.1 (Or.inl (by decide)) (mF_42 hM) ?_
        refine z_iconst (n := 69) (v := 0) dX7_paid_68 rfl (by decide) ?_
        obtain ⟨I_17, c_16, hF⟩ := zb1_some hF
        refine z_cV (n := 72) (st := []) (C_X7_unpack htr hM (mK_42 hM) (by decide) c_16) dX7_paid_69 rfl (lw_V q2135 q2137 qs91 q131 q2138) hcee_X7_unpack rfl (by decide) hM.1 rfl rfl rfl (Nat.le_of_ble_eq_true rfl) (Nat.le_refl _) (Nat.le_refl _) ?_
        refine z_iload_n (n := 73) dX7_paid_72 rfl 4 rfl rfl ?_
        refine z_if_ne (n := 76) (t := 85) dX7_paid_73 rfl (by decide) (fun hc => ?_) (fun hc => ?_)
        · replace hF := (if_pos hc).symm.trans hF
          refine z_iload (n := 87) dX7_paid_85 rfl 0 rfl ?_
          refine z_aload_n (n := 88) dX7_paid_87 rfl 2 rfl rfl ?_
          refine z_getI (n := 91) dX7_paid_88 rfl zok6 fX7_321 rfl hM.1 (Or.inl (by decide)) ?_
          refine z_isub (n := 92) dX7_paid_91 rfl ?_
          have hF := Option.some.inj hF; subst hF
          exact z_iret dX7_paid_92 rfl rfl ⟨rfl, rfl, rfl, rfl, rfl⟩
        · replace hF := (if_neg hc).symm.trans hF
          refine z_iload_n (n := 77) dX7_paid_76 rfl 1 rfl rfl ?_
          refine z_aload_n (n := 78) dX7_paid_77 rfl 2 rfl rfl ?_
          refine z_getI (n := 81) dX7_paid_78 rfl zok6 fX7_318 rfl hM.1 (Or.inl (by decide)) ?_
          refine z_isub (n := 82) dX7_paid_81 rfl ?_
          refine z_goto (t := 92) dX7_paid_82 (by decide) ?_
          have hF := Option.some.inj hF; subst hF
          exact z_iret dX7_paid_92 rfl rfl ⟨rfl, rfl, rfl, rfl, rfl⟩
      · replace hF := (if_neg hc).symm.trans hF
        refine z_aload_n (n := 33) dX7_paid_32 rfl 0 rfl rfl ?_
        refine z_iconst (n := 34) (v := 2) dX7_paid_33 rfl (by decide) ?_
        obtain ⟨x_19, I_20, c_18, hF⟩ := zb2_some hF
        refine z_cV (n := 37) (st := []) (C_X7_fail htr hM c_18) dX7_paid_34 rfl (lw_V q1879 q1881 qs48 q131 q1882) hcee_X7_fail rfl (by decide) hM.1 rfl rfl rfl (Nat.le_of_ble_eq_true rfl) (Nat.le_refl _) (Nat.le_refl _) ?_
        have hF := Option.some.inj hF; subst hF
        exact z_iret dX7_paid_37 rfl rfl ⟨rfl, rfl, rfl, rfl, rfl⟩
    · replace hF := (if_neg hc).symm.trans hF
      refine z_aload_n (n := 15) dX7_paid_14 rfl 0 rfl rfl ?_
      refine z_iconst (n := 16) (v := 1) dX7_paid_15 rfl (by decide) ?_
      obtain ⟨x_22, I_23, c_21, hF⟩ := zb2_some hF
      refine z_cV (n := 19) (st := []) (C_X7_fail htr hM c_21) dX7_paid_16 rfl (lw_V q1879 q1881 qs48 q131 q1882) hcee_X7_fail rfl (by decide) hM.1 rfl rfl rfl (Nat.le_of_ble_eq_true rfl) (Nat.le_refl _) (Nat.le_refl _) ?_
      have hF := Option.some.inj hF; subst hF
      exact z_iret dX7_paid_19 rfl rfl ⟨rfl, rfl, rfl, rfl, rfl⟩
