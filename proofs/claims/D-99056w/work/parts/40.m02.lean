theorem fX7_48 : zFld RX7 48 6 8 := ⟨_, rfl, by decide, _, Or.inl q1685, Or.inl rfl⟩
theorem fX7_50 : zFld RX7 50 6 9 := ⟨_, rfl, by decide, _, Or.inl q1686, Or.inl rfl⟩
theorem fX7_53 : zFld RX7 53 6 10 := ⟨_, rfl, by decide, _, Or.inl q1687, Or.inl rfl⟩
abbrev MX7_sayBand : zM := (RX7, cX7_sayBand, 2, none, "sayBand", [])
noncomputable def F_X7_sayBand (I : zId) : Option (zId) := zb2 (F_X7_another 2 6 I) (fun x_2 I_3 => if ¬ x_2 = 0 then zlet ((6 : Int32) + (I_3 1862 10)) (fun v1_4 => zb2 (F_X7_readNumber 1 30 I_3) (fun x_7 I_8 => zg (zin v1_4 12) (zlet (zu I_8 1868 v1_4.toNatClampNeg x_7) (fun I_10 => zb2 (F_X7_readForest I_10) (fun x_13 I_14 => zg (zin v1_4 12) (zlet (zu I_14 1869 v1_4.toNatClampNeg x_13) (fun I_16 => zb2 (F_X7_readNumber 0 30 I_16) (fun x_19 I_20 => zg (zin v1_4 12) (zlet (zu I_20 1870 v1_4.toNatClampNeg x_19) (fun I_22 => zlet (zu I_22 1862 10 ((I_22 1862 10) + 1)) (fun I_24 => some I_24))))))))))) else some I_3)
set_option maxHeartbeats 1000000 in
theorem C_X7_sayBand {l : Launch} {G : zGt} (htr : l.stackTraces = false) {K : zKd} {F : zFd} {L : zLd} (hM : zMLay K F) {I : zId} {r : zId} (hF : F_X7_sayBand I = some r) : zMet l G yX7_sayBand (ws_ yX7_sayBand cX7_sayBand 2 none) 4 85 0 0 [.ref 1860] K F I L (zQe (.inl none) K F r L) := by
  refine zMet.of (by decide +kernel) htr (Nat.le_of_ble_eq_true rfl) ?_
  change zW l G MX7_sayBand 4 85 0 0 0 [(0, .ref 1860)] [] K F I L (zQe (.inl none) K F r L)
  unfold F_X7_sayBand at hF
  refine z_aload_n (n := 1) dX7_sayBand_0 rfl 0 rfl rfl ?_
  refine z_iconst (n := 2) (v := 2) dX7_sayBand_1 rfl (by decide) ?_
  refine z_bipush (n := 4) (v := 6) dX7_sayBand_2 rfl (by decide) ?_
  obtain ⟨x_2, I_3, c_1, hF⟩ := zb2_some hF
  refine z_cV (n := 7) (st := []) (C_X7_another htr hM c_1) dX7_sayBand_4 rfl (lw_V q1976 q1978 qs67 q131 q1979) hcee_X7_another rfl (by decide) hM.1 rfl rfl rfl (Nat.le_of_ble_eq_true rfl) (Nat.le_refl _) (Nat.le_refl _) ?_
  refine z_if_ne (n := 10) (t := 11) dX7_sayBand_7 rfl (by decide) (fun hc => ?_) (fun hc => ?_)
  · replace hF := (if_pos hc).symm.trans hF
    refine z_bipush (n := 13) (v := 6) dX7_sayBand_11 rfl (by decide) ?_
    refine z_aload_n (n := 14) dX7_sayBand_13 rfl 0 rfl rfl ?_
    refine z_getRS (n := 17) dX7_sayBand_14 rfl zok6 fX7_29 rfl hM.1 (Or.inl (by decide)) (mF_2 hM) ?_
    refine z_bipush (n := 19) (v := 10) dX7_sayBand_17 rfl (by decide) ?_
    refine z_ialdK (n := 20) 10 (by decide) dX7_sayBand_19 rfl (mK_2 hM) (zin_ok (i := 10) (n := 16) rfl) ?_
    refine z_iadd (n := 21) dX7_sayBand_20 rfl ?_
    obtain ⟨v1_4, e_5, hF⟩ := zlet_ob hF
    refine z_istore_nE (n := 22) (lv' := [(1, .int v1_4), (0, .ref 1860)]) dX7_sayBand_21 rfl e_5 rfl (by decide) rfl ?_
    refine z_aload_n (n := 23) dX7_sayBand_22 rfl 1 rfl rfl ?_
    refine z_getRS (n := 26) dX7_sayBand_23 rfl zok6 fX7_48 rfl hM.1 (Or.inl (by decide)) (mF_8 hM) ?_
    refine z_iload_n (n := 27) dX7_sayBand_26 rfl 0 rfl rfl ?_
    refine z_aload_n (n := 28) dX7_sayBand_27 rfl 1 rfl rfl ?_
    refine z_iconst (n := 29) (v := 1) dX7_sayBand_28 rfl (by decide) ?_
    refine z_bipush (n := 31) (v := 30) dX7_sayBand_29 rfl (by decide) ?_
    obtain ⟨x_7, I_8, c_6, hF⟩ := zb2_some hF
    refine z_cV (n := 34) (st := [.int v1_4, .ref 1868]) (C_X7_readNumber htr hM c_6) dX7_sayBand_31 rfl (lw_V q1920 q1922 qs54 q131 q1923) hcee_X7_readNumber rfl (by decide) hM.1 rfl rfl rfl (Nat.le_of_ble_eq_true rfl) (Nat.le_refl _) (Nat.le_refl _) ?_
    obtain ⟨h_9, hF⟩ := zg_some hF
    obtain ⟨I_10, e_11, hF⟩ := zlet_ob hF
    refine z_iastK (n := 35) v1_4.toNatClampNeg rfl dX7_sayBand_34 rfl (mK_8 hM) (by decide) (zin_ok h_9) e_11 ?_
    refine z_aload_n (n := 36) dX7_sayBand_35 rfl 1 rfl rfl ?_
    refine z_getRS (n := 39) dX7_sayBand_36 rfl zok6 fX7_50 rfl hM.1 (Or.inl (by decide)) (mF_9 hM) ?_
    refine z_iload_n (n := 40) dX7_sayBand_39 rfl 0 rfl rfl ?_
    refine z_aload_n (n := 41) dX7_sayBand_40 rfl 1 rfl rfl ?_
    obtain ⟨x_13, I_14, c_12, hF⟩ := zb2_some hF
    refine z_cV (n := 44) (st := [.int v1_4, .ref 1869]) (C_X7_readForest htr hM c_12) dX7_sayBand_41 rfl (lw_V q1985 q1987 qs69 q131 q1988) hcee_X7_readForest rfl (by decide) hM.1 rfl rfl rfl (Nat.le_of_ble_eq_true rfl) (Nat.le_refl _) (Nat.le_refl _) ?_
    obtain ⟨h_15, hF⟩ := zg_some hF
    obtain ⟨I_16, e_17, hF⟩ := zlet_ob hF
    refine z_iastK (n := 45) v1_4.toNatClampNeg rfl dX7_sayBand_44 rfl (mK_9 hM) (by decide) (zin_ok h_15) e_17 ?_
    refine z_aload_n (n := 46) dX7_sayBand_45 rfl 1 rfl rfl ?_
    refine z_getRS (n := 49) dX7_sayBand_46 rfl zok6 fX7_53 rfl hM.1 (Or.inl (by decide)) (mF_10 hM) ?_
    refine z_iload_n (n := 50) dX7_sayBand_49 rfl 0 rfl rfl ?_
    refine z_aload_n (n := 51) dX7_sayBand_50 rfl 1 rfl rfl ?_
    refine z_iconst (n := 52) (v := 0) dX7_sayBand_51 rfl (by decide) ?_
    refine z_bipush (n := 54) (v := 30) dX7_sayBand_52 rfl (by decide) ?_
    obtain ⟨x_19, I_20, c_18, hF⟩ := zb2_some hF
    refine z_cV (n := 57) (st := [.int v1_4, .ref 1870]) (C_X7_readNumber htr hM c_18) dX7_sayBand_54 rfl (lw_V q1920 q1922 qs54 q131 q1923) hcee_X7_readNumber rfl (by decide) hM.1 rfl rfl rfl (Nat.le_of_ble_eq_true rfl) (Nat.le_refl _) (Nat.le_refl _) ?_
    obtain ⟨h_21, hF⟩ := zg_some hF
    obtain ⟨I_22, e_23, hF⟩ := zlet_ob hF
    refine z_iastK (n := 58) v1_4.toNatClampNeg rfl dX7_sayBand_57 rfl (mK_10 hM) (by decide) (zin_ok h_21) e_23 ?_
    refine z_aload_n (n := 59) dX7_sayBand_58 rfl 1 rfl rfl ?_
    refine z_getRS (n := 62) dX7_sayBand_59 rfl zok6 fX7_29 rfl hM.1 (Or.inl (by decide)) (mF_2 hM) ?_
    refine z_bipush (n := 64) (v := 10) dX7_sayBand_62 rfl (by decide) ?_
    refine z_dup2 (n := 65) dX7_sayBand_64 rfl rfl rfl ?_
    refine z_ialdK (n := 66) 10 (by decide) dX7_sayBand_65 rfl (mK_2 hM) (zin_ok (i := 10) (n := 16) rfl) ?_
    refine z_iconst (n := 67) (v := 1) dX7_sayBand_66 rfl (by decide) ?_
    refine z_iadd (n := 68) dX7_sayBand_67 rfl ?_
    obtain ⟨I_24, e_25, hF⟩ := zlet_ob hF
    refine z_iastK (n := 69) 10 (by decide) dX7_sayBand_68 rfl (mK_2 hM) (by decide) (zin_ok (i := 10) (n := 16) rfl) e_25 ?_
    have hF := Option.some.inj hF; subst hF
    exact z_vret dX7_sayBand_69 rfl ⟨rfl, rfl, rfl, rfl, rfl⟩
  · replace hF := (if_neg hc).symm.trans hF
    have hF := Option.some.inj hF; subst hF
    exact z_vret dX7_sayBand_10 rfl ⟨rfl, rfl, rfl, rfl, rfl⟩
theorem fX7_56 : zFld RX7 56 6 11 := ⟨_, rfl, by decide, _, Or.inl q1688, Or.inl rfl⟩
abbrev MX7_sayFort : zM := (RX7, cX7_sayFort, 3, none, "sayFort", [])
noncomputable def F_X7_sayFort_L17 (x_5 : Int32) (v2_7 : Int32) (I_8 : zId) : Option ((Int32 × zId) ⊕ (zId)) := if ¬ (I_8 1860 22) = 0 then some (.inr (I_8)) else if ((3 : Int32) + (I_8 1862 11)) ≤ v2_7 then some (.inr (I_8)) else zg (zin v2_7 6) (if ¬ (I_8 1871 v2_7.toNatClampNeg) = x_5 then zlet (v2_7 + 1) (fun v2_10 => some (.inl (v2_10, I_8))) else zb1 (F_X7_wrong 4 I_8) (fun I_13 => zlet (v2_7 + 1) (fun v2_14 => some (.inl (v2_14, I_13)))))
noncomputable def F_X7_sayFort (I : zId) : Option (zId) := zb2 (F_X7_another 3 3 I) (fun x_2 I_3 => if ¬ x_2 = 0 then zb2 (F_X7_forestNow I_3) (fun x_5 I_6 => zb1 (zloop (fun s : Int32 × zId => F_X7_sayFort_L17 x_5 s.1 s.2) (3, I_6)) (fun I_16 => if (I_16 1860 22) = 0 then zb1 (F_X7_stepOn I_16) (fun I_19 => zg (zin ((3 : Int32) + (I_19 1862 11)) 6) (zlet (zu I_19 1871 (((3 : Int32) + (I_19 1862 11)).toNatClampNeg) x_5) (fun I_21 => zlet (zu I_21 1862 11 ((I_21 1862 11) + 1)) (fun I_23 => some I_23)))) else some I_16)) else some I_3)
set_option maxHeartbeats 1000000 in
theorem W_X7_sayFort_L17 {l : Launch} {G : zGt} (htr : l.stackTraces = false) {K : zKd} {F : zFd} {L : zLd} {Q : zQt} {x_5 : Int32} {v2_7 : Int32} {I_8 : zId} (hM : zMLay K F) {r : (Int32 × zId) ⊕ (zId)} (hF : F_X7_sayFort_L17 x_5 v2_7 I_8 = some r) (kl : ∀ (z0 : Int32) (z1 : zId), r = .inl (z0, z1) → zW l G MX7_sayFort 3 67 0 0 17 [(0, .ref 1860), (1, .int x_5), (2, .int z0)] [] K F z1 L Q) (kx : ∀ (y0 : zId), r = .inr y0 → zW l G MX7_sayFort 3 67 0 0 58 [(0, .ref 1860), (1, .int x_5)] [] K F y0 L Q)  : zW l G MX7_sayFort 3 67 0 0 17 [(0, .ref 1860), (1, .int x_5), (2, .int v2_7)] [] K F I_8 L Q := by
  unfold F_X7_sayFort_L17 at hF
  refine z_aload_n (n := 18) dX7_sayFort_17 rfl 0 rfl rfl ?_
  refine z_getI (n := 21) dX7_sayFort_18 rfl zok6 fX7_199 rfl hM.1 (Or.inl (by decide)) ?_
  refine z_if_ne (n := 24) (t := 58) dX7_sayFort_21 rfl (by decide) (fun hc => ?_) (fun hc => ?_)
  · replace hF := (if_pos hc).symm.trans hF
    refine z_sub [0, 1] rfl ?_
    have hF := Option.some.inj hF; subst hF
    exact kx _ rfl
  · replace hF := (if_neg hc).symm.trans hF
    refine z_iload_n (n := 25) dX7_sayFort_24 rfl 2 rfl rfl ?_
    refine z_iconst (n := 26) (v := 3) dX7_sayFort_25 rfl (by decide) ?_
    refine z_aload_n (n := 27) dX7_sayFort_26 rfl 0 rfl rfl ?_
    refine z_getRS (n := 30) dX7_sayFort_27 rfl zok6 fX7_29 rfl hM.1 (Or.inl (by decide)) (mF_2 hM) ?_
    refine z_bipush (n := 32) (v := 11) dX7_sayFort_30 rfl (by decide) ?_
    refine z_ialdK (n := 33) 11 (by decide) dX7_sayFort_32 rfl (mK_2 hM) (zin_ok (i := 11) (n := 16) rfl) ?_
    refine z_iadd (n := 34) dX7_sayFort_33 rfl ?_
    refine z_icmp_ge (n := 37) (t := 58) dX7_sayFort_34 rfl (by decide) (fun hc => ?_) (fun hc => ?_)
    · replace hF := (if_pos hc).symm.trans hF
      refine z_sub [0, 1] rfl ?_
      have hF := Option.some.inj hF; subst hF
      exact kx _ rfl
    · replace hF := (if_neg hc).symm.trans hF
      refine z_aload_n (n := 38) dX7_sayFort_37 rfl 0 rfl rfl ?_
      refine z_getRS (n := 41) dX7_sayFort_38 rfl zok6 fX7_56 rfl hM.1 (Or.inl (by decide)) (mF_11 hM) ?_
      refine z_iload_n (n := 42) dX7_sayFort_41 rfl 2 rfl rfl ?_
      obtain ⟨h_9, hF⟩ := zg_some hF
      refine z_ialdK (n := 43) v2_7.toNatClampNeg rfl dX7_sayFort_42 rfl (mK_11 hM) (zin_ok h_9) ?_
      refine z_iload_n (n := 44) dX7_sayFort_43 rfl 1 rfl rfl ?_
      refine z_icmp_ne (n := 47) (t := 52) dX7_sayFort_44 rfl (by decide) (fun hc => ?_) (fun hc => ?_)
      · replace hF := (if_pos hc).symm.trans hF
        obtain ⟨v2_10, e_11, hF⟩ := zlet_ob hF
        refine z_iincE (n := 55) (w := 1) (v := v2_10) (lv' := [(2, .int v2_10), (0, .ref 1860), (1, .int x_5)]) dX7_sayFort_52 rfl 2 rfl (by decide) e_11 (by decide) rfl ?_
        refine z_goto (t := 17) dX7_sayFort_55 (by decide) ?_
        refine z_sub [1, 2, 0] rfl ?_
        have hF := Option.some.inj hF; subst hF
        exact kl _ _ rfl
      · replace hF := (if_neg hc).symm.trans hF
        refine z_aload_n (n := 48) dX7_sayFort_47 rfl 0 rfl rfl ?_
        refine z_iconst (n := 49) (v := 4) dX7_sayFort_48 rfl (by decide) ?_
        obtain ⟨I_13, c_12, hF⟩ := zb1_some hF
        refine z_cV (n := 52) (st := []) (C_X7_wrong htr hM c_12) dX7_sayFort_49 rfl (lw_V q1916 q1918 qs53 q131 q1919) hcee_X7_wrong rfl (by decide) hM.1 rfl rfl rfl (Nat.le_of_ble_eq_true rfl) (Nat.le_refl _) (Nat.le_refl _) ?_
        obtain ⟨v2_14, e_15, hF⟩ := zlet_ob hF
        refine z_iincE (n := 55) (w := 1) (v := v2_14) (lv' := [(2, .int v2_14), (0, .ref 1860), (1, .int x_5)]) dX7_sayFort_52 rfl 2 rfl (by decide) e_15 (by decide) rfl ?_
        refine z_goto (t := 17) dX7_sayFort_55 (by decide) ?_
        refine z_sub [1, 2, 0] rfl ?_
        have hF := Option.some.inj hF; subst hF
        exact kl _ _ rfl
set_option maxHeartbeats 1000000 in
theorem C_X7_sayFort {l : Launch} {G : zGt} (htr : l.stackTraces = false) {K : zKd} {F : zFd} {L : zLd} (hM : zMLay K F) {I : zId} {r : zId} (hF : F_X7_sayFort I = some r) : zMet l G yX7_sayFort (ws_ yX7_sayFort cX7_sayFort 3 none) 3 67 0 0 [.ref 1860] K F I L (zQe (.inl none) K F r L) := by
  refine zMet.of (by decide +kernel) htr (Nat.le_of_ble_eq_true rfl) ?_
  change zW l G MX7_sayFort 3 67 0 0 0 [(0, .ref 1860)] [] K F I L (zQe (.inl none) K F r L)
  unfold F_X7_sayFort at hF
  refine z_aload_n (n := 1) dX7_sayFort_0 rfl 0 rfl rfl ?_
  refine z_iconst (n := 2) (v := 3) dX7_sayFort_1 rfl (by decide) ?_
  refine z_iconst (n := 3) (v := 3) dX7_sayFort_2 rfl (by decide) ?_
  obtain ⟨x_2, I_3, c_1, hF⟩ := zb2_some hF
  refine z_cV (n := 6) (st := []) (C_X7_another htr hM c_1) dX7_sayFort_3 rfl (lw_V q1976 q1978 qs67 q131 q1979) hcee_X7_another rfl (by decide) hM.1 rfl rfl rfl (Nat.le_of_ble_eq_true rfl) (Nat.le_refl _) (Nat.le_refl _) ?_
  refine z_if_ne (n := 9) (t := 10) dX7_sayFort_6 rfl (by decide) (fun hc => ?_) (fun hc => ?_)
  · replace hF := (if_pos hc).symm.trans hF
    refine z_aload_n (n := 11) dX7_sayFort_10 rfl 0 rfl rfl ?_
    obtain ⟨x_5, I_6, c_4, hF⟩ := zb2_some hF
    refine z_cV (n := 14) (st := []) (C_X7_forestNow htr hM c_4) dX7_sayFort_11 rfl (lw_V q1989 q1991 qs70 q131 q1992) hcee_X7_forestNow rfl (by decide) hM.1 rfl rfl rfl (Nat.le_of_ble_eq_true rfl) (Nat.le_refl _) (Nat.le_refl _) ?_
    refine z_istore_nE (n := 15) (lv' := [(1, .int x_5), (0, .ref 1860)]) dX7_sayFort_14 rfl rfl rfl (by decide) rfl ?_
    refine z_iconst (n := 16) (v := 3) dX7_sayFort_15 rfl (by decide) ?_
    refine z_istore_nE (n := 17) (lv' := [(2, .int 3), (1, .int x_5), (0, .ref 1860)]) dX7_sayFort_16 rfl rfl rfl (by decide) rfl ?_
    refine z_sub [2, 1, 0] rfl ?_
    obtain ⟨t_25, e_17, hF⟩ := zb1_some hF
    obtain ⟨I_16, rfl⟩ : ∃ z, z = t_25 := ⟨_, rfl⟩
    have H_26 : zW l G MX7_sayFort 3 67 0 0 58 [(0, .ref 1860), (1, .int x_5)] [] K F I_16 L (zQe (.inl none) K F r L) := by
      refine z_aload_n (n := 59) dX7_sayFort_58 rfl 0 rfl rfl ?_
      refine z_getI (n := 62) dX7_sayFort_59 rfl zok6 fX7_199 rfl hM.1 (Or.inl (by decide)) ?_
      refine z_if_eq (n := 65) (t := 66) dX7_sayFort_62 rfl (by decide) (fun hc => ?_) (fun hc => ?_)
      · replace hF := (if_pos hc).symm.trans hF
        refine z_aload_n (n := 67) dX7_sayFort_66 rfl 0 rfl rfl ?_
        obtain ⟨I_19, c_18, hF⟩ := zb1_some hF
        refine z_cV (n := 70) (st := []) (C_X7_stepOn htr hM c_18) dX7_sayFort_67 rfl (lw_V q1883 q1885 qs49 q131 q1886) hcee_X7_stepOn rfl (by decide) hM.1 rfl rfl rfl (Nat.le_of_ble_eq_true rfl) (Nat.le_refl _) (Nat.le_refl _) ?_
        refine z_aload_n (n := 71) dX7_sayFort_70 rfl 0 rfl rfl ?_
        refine z_getRS (n := 74) dX7_sayFort_71 rfl zok6 fX7_56 rfl hM.1 (Or.inl (by decide)) (mF_11 hM) ?_
        refine z_iconst (n := 75) (v := 3) dX7_sayFort_74 rfl (by decide) ?_
        refine z_aload_n (n := 76) dX7_sayFort_75 rfl 0 rfl rfl ?_
        refine z_getRS (n := 79) dX7_sayFort_76 rfl zok6 fX7_29 rfl hM.1 (Or.inl (by decide)) (mF_2 hM) ?_
        refine z_bipush (n := 81) (v := 11) dX7_sayFort_79 rfl (by decide) ?_
        refine z_ialdK (n := 82) 11 (by decide) dX7_sayFort_81 rfl (mK_2 hM) (zin_ok (i := 11) (n := 16) rfl) ?_
        refine z_iadd (n := 83) dX7_sayFort_82 rfl ?_
        refine z_iload_n (n := 84) dX7_sayFort_83 rfl 1 rfl rfl ?_
        obtain ⟨h_20, hF⟩ := zg_some hF
        obtain ⟨I_21, e_22, hF⟩ := zlet_ob hF
        refine z_iastK (n := 85) (((3 : Int32) + (I_19 1862 11)).toNatClampNeg) rfl dX7_sayFort_84 rfl (mK_11 hM) (by decide) (zin_ok h_20) e_22 ?_
        refine z_aload_n (n := 86) dX7_sayFort_85 rfl 0 rfl rfl ?_
        refine z_getRS (n := 89) dX7_sayFort_86 rfl zok6 fX7_29 rfl hM.1 (Or.inl (by decide)) (mF_2 hM) ?_
        refine z_bipush (n := 91) (v := 11) dX7_sayFort_89 rfl (by decide) ?_
        refine z_dup2 (n := 92) dX7_sayFort_91 rfl rfl rfl ?_
        refine z_ialdK (n := 93) 11 (by decide) dX7_sayFort_92 rfl (mK_2 hM) (zin_ok (i := 11) (n := 16) rfl) ?_
        refine z_iconst (n := 94) (v := 1) dX7_sayFort_93 rfl (by decide) ?_
        refine z_iadd (n := 95) dX7_sayFort_94 rfl ?_
        obtain ⟨I_23, e_24, hF⟩ := zlet_ob hF
        refine z_iastK (n := 96) 11 (by decide) dX7_sayFort_95 rfl (mK_2 hM) (by decide) (zin_ok (i := 11) (n := 16) rfl) e_24 ?_
        have hF := Option.some.inj hF; subst hF
        exact z_vret dX7_sayFort_96 rfl ⟨rfl, rfl, rfl, rfl, rfl⟩
      · replace hF := (if_neg hc).symm.trans hF
        have hF := Option.some.inj hF; subst hF
        exact z_vret dX7_sayFort_65 rfl ⟨rfl, rfl, rfl, rfl, rfl⟩
    refine zloop_ind (P := fun s : Int32 × zId => zW l G MX7_sayFort 3 67 0 0 17 [(0, .ref 1860), (1, .int x_5), (2, .int s.1)] [] K F s.2 L (zQe (.inl none) K F r L)) (fun s r hb kl kr => ?_) e_17
    exact W_X7_sayFort_L17 htr hM hb (fun z0 z1 e => kl _ e) (fun y0 e => by cases kr _ e; exact H_26)
  · replace hF := (if_neg hc).symm.trans hF
    have hF := Option.some.inj hF; subst hF
    exact z_vret dX7_sayFort_9 rfl ⟨rfl, rfl, rfl, rfl, rfl⟩
abbrev MX7_takeHalf : zM := (RX7, cX7_takeHalf, 2, none, "takeHalf", [])
noncomputable def F_X7_takeHalf_L2 (a0 : Nat) (n0 : Nat) (v1_1 : Int32) (I_2 : zId) : Option ((Int32 × zId) ⊕ (zId)) := if ((nI n0) / 2) ≤ v1_1 then some (.inr (I_2)) else zg (zin (((nI n0) / 2) + v1_1) n0) (zg (zin v1_1 n0) (zlet (zu I_2 a0 v1_1.toNatClampNeg (I_2 a0 ((((nI n0) / 2) + v1_1).toNatClampNeg))) (fun I_5 => zlet (v1_1 + 1) (fun v1_7 => some (.inl (v1_7, I_5))))))
noncomputable def F_X7_takeHalf (a0 : Nat) (n0 : Nat) (I : zId) : Option (zId) := zb1 (zloop (fun s : Int32 × zId => F_X7_takeHalf_L2 a0 n0 s.1 s.2) (0, I)) (fun I_9 => some I_9)
set_option maxHeartbeats 1000000 in
theorem W_X7_takeHalf_L2 {l : Launch} {G : zGt} (htr : l.stackTraces = false) {K : zKd} {F : zFd} {L : zLd} {Q : zQt} {a0 : Nat} {n0 : Nat} {v1_1 : Int32} {I_2 : zId} (hk0 : K a0 = some (64, n0)) (hb0 : zNC ≤ a0) {r : (Int32 × zId) ⊕ (zId)} (hF : F_X7_takeHalf_L2 a0 n0 v1_1 I_2 = some r) (kl : ∀ (z0 : Int32) (z1 : zId), r = .inl (z0, z1) → zW l G MX7_takeHalf 0 0 0 0 2 [(0, .ref a0), (1, .int z0)] [] K F z1 L Q) (kx : ∀ (y0 : zId), r = .inr y0 → zW l G MX7_takeHalf 0 0 0 0 27 [] [] K F y0 L Q)  : zW l G MX7_takeHalf 0 0 0 0 2 [(0, .ref a0), (1, .int v1_1)] [] K F I_2 L Q := by
  unfold F_X7_takeHalf_L2 at hF
  refine z_iload_n (n := 3) dX7_takeHalf_2 rfl 1 rfl rfl ?_
  refine z_aload_n (n := 4) dX7_takeHalf_3 rfl 0 rfl rfl ?_
  refine z_alen (n := 5) 0 (by decide) dX7_takeHalf_4 rfl hk0 ?_
  refine z_iconst (n := 6) (v := 2) dX7_takeHalf_5 rfl (by decide) ?_
  refine z_idiv (n := 7) dX7_takeHalf_6 rfl (by decide) ?_
  refine z_icmp_ge (n := 10) (t := 27) dX7_takeHalf_7 rfl (by decide) (fun hc => ?_) (fun hc => ?_)
  · replace hF := (if_pos hc).symm.trans hF
    refine z_sub [] rfl ?_
    have hF := Option.some.inj hF; subst hF
    exact kx _ rfl
  · replace hF := (if_neg hc).symm.trans hF
    refine z_aload_n (n := 11) dX7_takeHalf_10 rfl 0 rfl rfl ?_
    refine z_iload_n (n := 12) dX7_takeHalf_11 rfl 1 rfl rfl ?_
    refine z_aload_n (n := 13) dX7_takeHalf_12 rfl 0 rfl rfl ?_
    refine z_aload_n (n := 14) dX7_takeHalf_13 rfl 0 rfl rfl ?_
    refine z_alen (n := 15) 0 (by decide) dX7_takeHalf_14 rfl hk0 ?_
    refine z_iconst (n := 16) (v := 2) dX7_takeHalf_15 rfl (by decide) ?_
    refine z_idiv (n := 17) dX7_takeHalf_16 rfl (by decide) ?_
    refine z_iload_n (n := 18) dX7_takeHalf_17 rfl 1 rfl rfl ?_
    refine z_iadd (n := 19) dX7_takeHalf_18 rfl ?_
    obtain ⟨h_3, hF⟩ := zg_some hF
    refine z_ialdK (n := 20) ((((nI n0) / 2) + v1_1).toNatClampNeg) rfl dX7_takeHalf_19 rfl hk0 (zin_ok h_3) ?_
    obtain ⟨h_4, hF⟩ := zg_some hF
    obtain ⟨I_5, e_6, hF⟩ := zlet_ob hF
    refine z_iastK (n := 21) v1_1.toNatClampNeg rfl dX7_takeHalf_20 rfl hk0 hb0 (zin_ok h_4) e_6 ?_
    obtain ⟨v1_7, e_8, hF⟩ := zlet_ob hF
    refine z_iincE (n := 24) (w := 1) (v := v1_7) (lv' := [(1, .int v1_7), (0, .ref a0)]) dX7_takeHalf_21 rfl 1 rfl (by decide) e_8 (by decide) rfl ?_
    refine z_goto (t := 2) dX7_takeHalf_24 (by decide) ?_
    refine z_sub [1, 0] rfl ?_
    have hF := Option.some.inj hF; subst hF
    exact kl _ _ rfl
set_option maxHeartbeats 1000000 in
theorem C_X7_takeHalf {l : Launch} {G : zGt} (htr : l.stackTraces = false) {K : zKd} {F : zFd} {L : zLd} {a0 : Nat} {n0 : Nat} (hk0 : K a0 = some (64, n0)) (hb0 : zNC ≤ a0) {I : zId} {r : zId} (hF : F_X7_takeHalf a0 n0 I = some r) : zMet l G yX7_takeHalf (ws_ yX7_takeHalf cX7_takeHalf 2 none) 0 0 0 0 [.ref a0] K F I L (zQe (.inl none) K F r L) := by
  refine zMet.of (by decide +kernel) htr (Nat.le_of_ble_eq_true rfl) ?_
  change zW l G MX7_takeHalf 0 0 0 0 0 [(0, .ref a0)] [] K F I L (zQe (.inl none) K F r L)
  unfold F_X7_takeHalf at hF
  refine z_iconst (n := 1) (v := 0) dX7_takeHalf_0 rfl (by decide) ?_
  refine z_istore_nE (n := 2) (lv' := [(1, .int 0), (0, .ref a0)]) dX7_takeHalf_1 rfl rfl rfl (by decide) rfl ?_
  refine z_sub [1, 0] rfl ?_
  obtain ⟨t_11, e_10, hF⟩ := zb1_some hF
  obtain ⟨I_9, rfl⟩ : ∃ z, z = t_11 := ⟨_, rfl⟩
  have H_12 : zW l G MX7_takeHalf 0 0 0 0 27 [] [] K F I_9 L (zQe (.inl none) K F r L) := by
    have hF := Option.some.inj hF; subst hF
    exact z_vret dX7_takeHalf_27 rfl ⟨rfl, rfl, rfl, rfl, rfl⟩
  refine zloop_ind (P := fun s : Int32 × zId => zW l G MX7_takeHalf 0 0 0 0 2 [(0, .ref a0), (1, .int s.1)] [] K F s.2 L (zQe (.inl none) K F r L)) (fun s r hb kl kr => ?_) e_10
  exact W_X7_takeHalf_L2 (a0 := a0) (n0 := n0) htr hk0 hb0 hb (fun z0 z1 e => kl _ e) (fun y0 e => by cases kr _ e; exact H_12)
theorem fX7_72 : zFld RX7 72 6 25 := ⟨_, rfl, by decide, _, Or.inl q1702, Or.inl rfl⟩
theorem fX7_74 : zFld RX7 74 6 26 := ⟨_, rfl, by decide, _, Or.inl q1703, Or.inl rfl⟩
theorem fX7_77 : zFld RX7 77 6 27 := ⟨_, rfl, by decide, _, Or.inl q1704, Or.inl rfl⟩
theorem fX7_80 : zFld RX7 80 6 28 := ⟨_, rfl, by decide, _, Or.inl q1705, Or.inl rfl⟩
theorem fX7_83 : zFld RX7 83 6 29 := ⟨_, rfl, by decide, _, Or.inl q1706, Or.inl rfl⟩
theorem fX7_86 : zFld RX7 86 6 30 := ⟨_, rfl, by decide, _, Or.inl q1707, Or.inl rfl⟩
theorem fX7_88 : zFld RX7 88 6 31 := ⟨_, rfl, by decide, _, Or.inl q1708, Or.inl rfl⟩
theorem fX7_90 : zFld RX7 90 6 32 := ⟨_, rfl, by decide, _, Or.inl q1709, Or.inl rfl⟩
theorem fX7_316 : zFld RX7 316 6 34 := ⟨_, rfl, by decide, _, Or.inl q1711, Or.inl rfl⟩
theorem fX7_318 : zFld RX7 318 6 35 := ⟨_, rfl, by decide, _, Or.inl q1712, Or.inl rfl⟩
theorem fX7_321 : zFld RX7 321 6 36 := ⟨_, rfl, by decide, _, Or.inl q1713, Or.inl rfl⟩
theorem fX7_324 : zFld RX7 324 6 37 := ⟨_, rfl, by decide, _, Or.inl q1714, Or.inl rfl⟩
theorem fX7_327 : zFld RX7 327 6 38 := ⟨_, rfl, by decide, _, Or.inl q1715, Or.inl rfl⟩
theorem fX7_330 : zFld RX7 330 6 54 := ⟨_, rfl, by decide, _, Or.inl q1731, Or.inl rfl⟩
theorem hcee_X7_takeHalf : zCee yX7_takeHalf RX7 1 := ⟨rfl, by decide +kernel, by decide +kernel, by decide +kernel⟩
abbrev MX7_takeOver : zM := (RX7, cX7_takeOver, 2, none, "takeOver", [])
noncomputable def F_X7_takeOver_L94 (v1_29 : Int32) (I_30 : zId) : Option ((Int32 × zId) ⊕ (zId)) := if 8 ≤ v1_29 then some (.inr (I_30)) else zlet (fun (w_31 : Int32) => zg (zin v1_29 8) (zlet (zu I_30 1875 v1_29.toNatClampNeg w_31) (fun I_36 => zlet (fun (w_38 : Int32) => zg (zin v1_29 8) (zlet (zu I_36 1876 v1_29.toNatClampNeg w_38) (fun I_43 => zg (zin v1_29 8) (zlet (zu I_43 1877 v1_29.toNatClampNeg 0) (fun I_46 => zlet (v1_29 + 1) (fun v1_48 => some (.inl (v1_48, I_46)))))))) (fun k_39 => if (I_36 1862 0) ≤ v1_29 then k_39 0 else zg (zin v1_29 16) (k_39 (I_36 1864 v1_29.toNatClampNeg)))))) (fun k_32 => if (I_30 1862 0) ≤ v1_29 then k_32 0 else zg (zin v1_29 16) (k_32 (I_30 1863 v1_29.toNatClampNeg)))
noncomputable def F_X7_takeOver_L167 (v1_54 : Int32) (I_55 : zId) : Option ((Int32 × zId) ⊕ (zId)) := if 6 ≤ v1_54 then some (.inr (I_55)) else zlet (fun (w_56 : Int32) => zg (zin v1_54 6) (zlet (zu I_55 1878 v1_54.toNatClampNeg w_56) (fun I_61 => zlet (fun (w_63 : Int32) => zg (zin v1_54 6) (zlet (zu I_61 1879 v1_54.toNatClampNeg w_63) (fun I_68 => zg (zin v1_54 6) (zlet (zu I_68 1880 v1_54.toNatClampNeg 0) (fun I_71 => zg (zin v1_54 6) (zlet (zu I_71 1881 v1_54.toNatClampNeg 0) (fun I_74 => zg (zin v1_54 6) (zlet (zu I_74 1882 v1_54.toNatClampNeg 0) (fun I_77 => zlet (v1_54 + 1) (fun v1_79 => some (.inl (v1_79, I_77)))))))))))) (fun k_64 => if (I_61 1862 2) ≤ v1_54 then k_64 0 else zg (zin v1_54 12) (k_64 (I_61 1870 v1_54.toNatClampNeg)))))) (fun k_57 => if (I_55 1862 2) ≤ v1_54 then k_57 (-1) else zg (zin v1_54 12) (k_57 (I_55 1869 v1_54.toNatClampNeg)))
noncomputable def F_X7_takeOver (I : zId) : Option (zId) := zb1 (F_X7_takeHalf 1862 16 I) (fun I_2 => zb1 (F_X7_takeHalf 1863 16 I_2) (fun I_4 => zb1 (F_X7_takeHalf 1864 16 I_4) (fun I_6 => zb1 (F_X7_takeHalf 1865 16 I_6) (fun I_8 => zb1 (F_X7_takeHalf 1866 16 I_8) (fun I_10 => zb1 (F_X7_takeHalf 1867 128 I_10) (fun I_12 => zb1 (F_X7_takeHalf 1868 12 I_12) (fun I_14 => zb1 (F_X7_takeHalf 1869 12 I_14) (fun I_16 => zb1 (F_X7_takeHalf 1870 12 I_16) (fun I_18 => zb1 (F_X7_takeHalf 1871 6 I_18) (fun I_20 => zb1 (F_X7_takeHalf 1872 1400 I_20) (fun I_22 => zlet (zu I_22 1860 34 0) (fun I_23 => zlet (zu I_23 1860 35 0) (fun I_25 => zlet (zu I_25 1860 36 0) (fun I_27 => zb1 (zloop (fun s : Int32 × zId => F_X7_takeOver_L94 s.1 s.2) (0, I_27)) (fun I_52 => zb1 (zloop (fun s : Int32 × zId => F_X7_takeOver_L167 s.1 s.2) (0, I_52)) (fun I_83 => zlet (zu I_83 1860 37 0) (fun I_85 => zlet (zu I_85 1860 38 0) (fun I_87 => zlet (zu I_87 1860 54 0) (fun I_89 => some I_89)))))))))))))))))))
set_option maxHeartbeats 1000000 in
theorem W_X7_takeOver_L94 {l : Launch} {G : zGt} (htr : l.stackTraces = false) {K : zKd} {F : zFd} {L : zLd} {Q : zQt} {v1_29 : Int32} {I_30 : zId} (hM : zMLay K F) {r : (Int32 × zId) ⊕ (zId)} (hF : F_X7_takeOver_L94 v1_29 I_30 = some r) (kl : ∀ (z0 : Int32) (z1 : zId), r = .inl (z0, z1) → zW l G MX7_takeOver 1 21 0 0 94 [(0, .ref 1860), (1, .int z0)] [] K F z1 L Q) (kx : ∀ (y0 : zId), r = .inr y0 → zW l G MX7_takeOver 1 21 0 0 165 [(0, .ref 1860)] [] K F y0 L Q)  : zW l G MX7_takeOver 1 21 0 0 94 [(0, .ref 1860), (1, .int v1_29)] [] K F I_30 L Q := by
  unfold F_X7_takeOver_L94 at hF
  refine z_iload_n (n := 95) dX7_takeOver_94 rfl 1 rfl rfl ?_
  refine z_bipush (n := 97) (v := 8) dX7_takeOver_95 rfl (by decide) ?_
  refine z_icmp_ge (n := 100) (t := 165) dX7_takeOver_97 rfl (by decide) (fun hc => ?_) (fun hc => ?_)
  · replace hF := (if_pos hc).symm.trans hF
    refine z_sub [0] rfl ?_
    have hF := Option.some.inj hF; subst hF
    exact kx _ rfl
  · replace hF := (if_neg hc).symm.trans hF
    refine z_aload_n (n := 101) dX7_takeOver_100 rfl 0 rfl rfl ?_
    refine z_getRS (n := 104) dX7_takeOver_101 rfl zok6 fX7_72 rfl hM.1 (Or.inl (by decide)) (mF_25 hM) ?_
    refine z_iload_n (n := 105) dX7_takeOver_104 rfl 1 rfl rfl ?_
    refine z_iload_n (n := 106) dX7_takeOver_105 rfl 1 rfl rfl ?_
    refine z_aload_n (n := 107) dX7_takeOver_106 rfl 0 rfl rfl ?_
    refine z_getRS (n := 110) dX7_takeOver_107 rfl zok6 fX7_29 rfl hM.1 (Or.inl (by decide)) (mF_2 hM) ?_
    refine z_iconst (n := 111) (v := 0) dX7_takeOver_110 rfl (by decide) ?_
    refine z_ialdK (n := 112) 0 (by decide) dX7_takeOver_111 rfl (mK_2 hM) (zin_ok (i := 0) (n := 16) rfl) ?_
    obtain ⟨k_32, e_33, hF⟩ := zlet_ob hF
    have H_34 : ∀ (w_31 : Int32), k_32 w_31 = some r → zW l G MX7_takeOver 1 21 0 0 125 [(0, .ref 1860), (1, .int v1_29)] [.int w_31, .int v1_29, .ref 1875] K F I_30 L Q := by
      intro w_31 hF
      subst e_33
      dsimp only at hF
      obtain ⟨h_35, hF⟩ := zg_some hF
      obtain ⟨I_36, e_37, hF⟩ := zlet_ob hF
      refine z_iastK (n := 126) v1_29.toNatClampNeg rfl dX7_takeOver_125 rfl (mK_25 hM) (by decide) (zin_ok h_35) e_37 ?_
      refine z_aload_n (n := 127) dX7_takeOver_126 rfl 0 rfl rfl ?_
      refine z_getRS (n := 130) dX7_takeOver_127 rfl zok6 fX7_74 rfl hM.1 (Or.inl (by decide)) (mF_26 hM) ?_
      refine z_iload_n (n := 131) dX7_takeOver_130 rfl 1 rfl rfl ?_
      refine z_iload_n (n := 132) dX7_takeOver_131 rfl 1 rfl rfl ?_
      refine z_aload_n (n := 133) dX7_takeOver_132 rfl 0 rfl rfl ?_
      refine z_getRS (n := 136) dX7_takeOver_133 rfl zok6 fX7_29 rfl hM.1 (Or.inl (by decide)) (mF_2 hM) ?_
      refine z_iconst (n := 137) (v := 0) dX7_takeOver_136 rfl (by decide) ?_
      refine z_ialdK (n := 138) 0 (by decide) dX7_takeOver_137 rfl (mK_2 hM) (zin_ok (i := 0) (n := 16) rfl) ?_
      obtain ⟨k_39, e_40, hF⟩ := zlet_ob hF
      have H_41 : ∀ (w_38 : Int32), k_39 w_38 = some r → zW l G MX7_takeOver 1 21 0 0 151 [(0, .ref 1860), (1, .int v1_29)] [.int w_38, .int v1_29, .ref 1876] K F I_36 L Q := by
        intro w_38 hF
        subst e_40
        dsimp only at hF
        obtain ⟨h_42, hF⟩ := zg_some hF
        obtain ⟨I_43, e_44, hF⟩ := zlet_ob hF
        refine z_iastK (n := 152) v1_29.toNatClampNeg rfl dX7_takeOver_151 rfl (mK_26 hM) (by decide) (zin_ok h_42) e_44 ?_
        refine z_aload_n (n := 153) dX7_takeOver_152 rfl 0 rfl rfl ?_
        refine z_getRS (n := 156) dX7_takeOver_153 rfl zok6 fX7_77 rfl hM.1 (Or.inl (by decide)) (mF_27 hM) ?_
        refine z_iload_n (n := 157) dX7_takeOver_156 rfl 1 rfl rfl ?_
        refine z_iconst (n := 158) (v := 0) dX7_takeOver_157 rfl (by decide) ?_
        obtain ⟨h_45, hF⟩ := zg_some hF
        obtain ⟨I_46, e_47, hF⟩ := zlet_ob hF
        refine z_iastK (n := 159) v1_29.toNatClampNeg rfl dX7_takeOver_158 rfl (mK_27 hM) (by decide) (zin_ok h_45) e_47 ?_
        obtain ⟨v1_48, e_49, hF⟩ := zlet_ob hF
        refine z_iincE (n := 162) (w := 1) (v := v1_48) (lv' := [(1, .int v1_48), (0, .ref 1860)]) dX7_takeOver_159 rfl 1 rfl (by decide) e_49 (by decide) rfl ?_
        refine z_goto (t := 94) dX7_takeOver_162 (by decide) ?_
        refine z_sub [1, 0] rfl ?_
        have hF := Option.some.inj hF; subst hF
        exact kl _ _ rfl
      clear e_40
      refine z_icmp_ge (n := 141) (t := 150) dX7_takeOver_138 rfl (by decide) (fun hc => ?_) (fun hc => ?_)
      · replace hF := (if_pos hc).symm.trans hF
        refine z_iconst (n := 151) (v := 0) dX7_takeOver_150 rfl (by decide) ?_
        exact H_41 _ hF
      · replace hF := (if_neg hc).symm.trans hF
        refine z_aload_n (n := 142) dX7_takeOver_141 rfl 0 rfl rfl ?_
        refine z_getRS (n := 145) dX7_takeOver_142 rfl zok6 fX7_36 rfl hM.1 (Or.inl (by decide)) (mF_4 hM) ?_
        refine z_iload_n (n := 146) dX7_takeOver_145 rfl 1 rfl rfl ?_
        obtain ⟨h_50, hF⟩ := zg_some hF
        refine z_ialdK (n := 147) v1_29.toNatClampNeg rfl dX7_takeOver_146 rfl (mK_4 hM) (zin_ok h_50) ?_
        refine z_goto (t := 151) dX7_takeOver_147 (by decide) ?_
        exact H_41 _ hF
    clear e_33
    refine z_icmp_ge (n := 115) (t := 124) dX7_takeOver_112 rfl (by decide) (fun hc => ?_) (fun hc => ?_)
    · replace hF := (if_pos hc).symm.trans hF
      refine z_iconst (n := 125) (v := 0) dX7_takeOver_124 rfl (by decide) ?_
      exact H_34 _ hF
    · replace hF := (if_neg hc).symm.trans hF
      refine z_aload_n (n := 116) dX7_takeOver_115 rfl 0 rfl rfl ?_
      refine z_getRS (n := 119) dX7_takeOver_116 rfl zok6 fX7_33 rfl hM.1 (Or.inl (by decide)) (mF_3 hM) ?_
      refine z_iload_n (n := 120) dX7_takeOver_119 rfl 1 rfl rfl ?_
      obtain ⟨h_51, hF⟩ := zg_some hF
      refine z_ialdK (n := 121) v1_29.toNatClampNeg rfl dX7_takeOver_120 rfl (mK_3 hM) (zin_ok h_51) ?_
      refine z_goto (t := 125) dX7_takeOver_121 (by decide) ?_
      exact H_34 _ hF
set_option maxHeartbeats 1000000 in
theorem W_X7_takeOver_L167 {l : Launch} {G : zGt} (htr : l.stackTraces = false) {K : zKd} {F : zFd} {L : zLd} {Q : zQt} {v1_54 : Int32} {I_55 : zId} (hM : zMLay K F) {r : (Int32 × zId) ⊕ (zId)} (hF : F_X7_takeOver_L167 v1_54 I_55 = some r) (kl : ∀ (z0 : Int32) (z1 : zId), r = .inl (z0, z1) → zW l G MX7_takeOver 1 21 0 0 167 [(0, .ref 1860), (1, .int z0)] [] K F z1 L Q) (kx : ∀ (y0 : zId), r = .inr y0 → zW l G MX7_takeOver 1 21 0 0 252 [(0, .ref 1860)] [] K F y0 L Q)  : zW l G MX7_takeOver 1 21 0 0 167 [(0, .ref 1860), (1, .int v1_54)] [] K F I_55 L Q := by
  unfold F_X7_takeOver_L167 at hF
  refine z_iload_n (n := 168) dX7_takeOver_167 rfl 1 rfl rfl ?_
  refine z_bipush (n := 170) (v := 6) dX7_takeOver_168 rfl (by decide) ?_
  refine z_icmp_ge (n := 173) (t := 252) dX7_takeOver_170 rfl (by decide) (fun hc => ?_) (fun hc => ?_)
  · replace hF := (if_pos hc).symm.trans hF
    refine z_sub [0] rfl ?_
    have hF := Option.some.inj hF; subst hF
    exact kx _ rfl
  · replace hF := (if_neg hc).symm.trans hF
    refine z_aload_n (n := 174) dX7_takeOver_173 rfl 0 rfl rfl ?_
    refine z_getRS (n := 177) dX7_takeOver_174 rfl zok6 fX7_80 rfl hM.1 (Or.inl (by decide)) (mF_28 hM) ?_
    refine z_iload_n (n := 178) dX7_takeOver_177 rfl 1 rfl rfl ?_
    refine z_iload_n (n := 179) dX7_takeOver_178 rfl 1 rfl rfl ?_
    refine z_aload_n (n := 180) dX7_takeOver_179 rfl 0 rfl rfl ?_
    refine z_getRS (n := 183) dX7_takeOver_180 rfl zok6 fX7_29 rfl hM.1 (Or.inl (by decide)) (mF_2 hM) ?_
    refine z_iconst (n := 184) (v := 2) dX7_takeOver_183 rfl (by decide) ?_
    refine z_ialdK (n := 185) 2 (by decide) dX7_takeOver_184 rfl (mK_2 hM) (zin_ok (i := 2) (n := 16) rfl) ?_
    obtain ⟨k_57, e_58, hF⟩ := zlet_ob hF
    have H_59 : ∀ (w_56 : Int32), k_57 w_56 = some r → zW l G MX7_takeOver 1 21 0 0 198 [(0, .ref 1860), (1, .int v1_54)] [.int w_56, .int v1_54, .ref 1878] K F I_55 L Q := by
      intro w_56 hF
      subst e_58
      dsimp only at hF
      obtain ⟨h_60, hF⟩ := zg_some hF
      obtain ⟨I_61, e_62, hF⟩ := zlet_ob hF
      refine z_iastK (n := 199) v1_54.toNatClampNeg rfl dX7_takeOver_198 rfl (mK_28 hM) (by decide) (zin_ok h_60) e_62 ?_
      refine z_aload_n (n := 200) dX7_takeOver_199 rfl 0 rfl rfl ?_
      refine z_getRS (n := 203) dX7_takeOver_200 rfl zok6 fX7_83 rfl hM.1 (Or.inl (by decide)) (mF_29 hM) ?_
      refine z_iload_n (n := 204) dX7_takeOver_203 rfl 1 rfl rfl ?_
      refine z_iload_n (n := 205) dX7_takeOver_204 rfl 1 rfl rfl ?_
      refine z_aload_n (n := 206) dX7_takeOver_205 rfl 0 rfl rfl ?_
      refine z_getRS (n := 209) dX7_takeOver_206 rfl zok6 fX7_29 rfl hM.1 (Or.inl (by decide)) (mF_2 hM) ?_
      refine z_iconst (n := 210) (v := 2) dX7_takeOver_209 rfl (by decide) ?_
      refine z_ialdK (n := 211) 2 (by decide) dX7_takeOver_210 rfl (mK_2 hM) (zin_ok (i := 2) (n := 16) rfl) ?_
      obtain ⟨k_64, e_65, hF⟩ := zlet_ob hF
      have H_66 : ∀ (w_63 : Int32), k_64 w_63 = some r → zW l G MX7_takeOver 1 21 0 0 224 [(0, .ref 1860), (1, .int v1_54)] [.int w_63, .int v1_54, .ref 1879] K F I_61 L Q := by
        intro w_63 hF
        subst e_65
        dsimp only at hF
        obtain ⟨h_67, hF⟩ := zg_some hF
        obtain ⟨I_68, e_69, hF⟩ := zlet_ob hF
        refine z_iastK (n := 225) v1_54.toNatClampNeg rfl dX7_takeOver_224 rfl (mK_29 hM) (by decide) (zin_ok h_67) e_69 ?_
        refine z_aload_n (n := 226) dX7_takeOver_225 rfl 0 rfl rfl ?_
        refine z_getRS (n := 229) dX7_takeOver_226 rfl zok6 fX7_86 rfl hM.1 (Or.inl (by decide)) (mF_30 hM) ?_
        refine z_iload_n (n := 230) dX7_takeOver_229 rfl 1 rfl rfl ?_
        refine z_iconst (n := 231) (v := 0) dX7_takeOver_230 rfl (by decide) ?_
        obtain ⟨h_70, hF⟩ := zg_some hF
        obtain ⟨I_71, e_72, hF⟩ := zlet_ob hF
        refine z_iastK (n := 232) v1_54.toNatClampNeg rfl dX7_takeOver_231 rfl (mK_30 hM) (by decide) (zin_ok h_70) e_72 ?_
        refine z_aload_n (n := 233) dX7_takeOver_232 rfl 0 rfl rfl ?_
        refine z_getRS (n := 236) dX7_takeOver_233 rfl zok6 fX7_88 rfl hM.1 (Or.inl (by decide)) (mF_31 hM) ?_
        refine z_iload_n (n := 237) dX7_takeOver_236 rfl 1 rfl rfl ?_
        refine z_iconst (n := 238) (v := 0) dX7_takeOver_237 rfl (by decide) ?_
        obtain ⟨h_73, hF⟩ := zg_some hF
        obtain ⟨I_74, e_75, hF⟩ := zlet_ob hF
        refine z_iastK (n := 239) v1_54.toNatClampNeg rfl dX7_takeOver_238 rfl (mK_31 hM) (by decide) (zin_ok h_73) e_75 ?_
        refine z_aload_n (n := 240) dX7_takeOver_239 rfl 0 rfl rfl ?_
        refine z_getRS (n := 243) dX7_takeOver_240 rfl zok6 fX7_90 rfl hM.1 (Or.inl (by decide)) (mF_32 hM) ?_
        refine z_iload_n (n := 244) dX7_takeOver_243 rfl 1 rfl rfl ?_
        refine z_iconst (n := 245) (v := 0) dX7_takeOver_244 rfl (by decide) ?_
        obtain ⟨h_76, hF⟩ := zg_some hF
        obtain ⟨I_77, e_78, hF⟩ := zlet_ob hF
        refine z_iastK (n := 246) v1_54.toNatClampNeg rfl dX7_takeOver_245 rfl (mK_32 hM) (by decide) (zin_ok h_76) e_78 ?_
        obtain ⟨v1_79, e_80, hF⟩ := zlet_ob hF
        refine z_iincE (n := 249) (w := 1) (v := v1_79) (lv' := [(1, .int v1_79), (0, .ref 1860)]) dX7_takeOver_246 rfl 1 rfl (by decide) e_80 (by decide) rfl ?_
        refine z_goto (t := 167) dX7_takeOver_249 (by decide) ?_
        refine z_sub [1, 0] rfl ?_
        have hF := Option.some.inj hF; subst hF
        exact kl _ _ rfl
      clear e_65
      refine z_icmp_ge (n := 214) (t := 223) dX7_takeOver_211 rfl (by decide) (fun hc => ?_) (fun hc => ?_)
      · replace hF := (if_pos hc).symm.trans hF
        refine z_iconst (n := 224) (v := 0) dX7_takeOver_223 rfl (by decide) ?_
        exact H_66 _ hF
      · replace hF := (if_neg hc).symm.trans hF
        refine z_aload_n (n := 215) dX7_takeOver_214 rfl 0 rfl rfl ?_
        refine z_getRS (n := 218) dX7_takeOver_215 rfl zok6 fX7_53 rfl hM.1 (Or.inl (by decide)) (mF_10 hM) ?_
        refine z_iload_n (n := 219) dX7_takeOver_218 rfl 1 rfl rfl ?_
        obtain ⟨h_81, hF⟩ := zg_some hF
        refine z_ialdK (n := 220) v1_54.toNatClampNeg rfl dX7_takeOver_219 rfl (mK_10 hM) (zin_ok h_81) ?_
        refine z_goto (t := 224) dX7_takeOver_220 (by decide) ?_
        exact H_66 _ hF
    clear e_58
    refine z_icmp_ge (n := 188) (t := 197) dX7_takeOver_185 rfl (by decide) (fun hc => ?_) (fun hc => ?_)
    · replace hF := (if_pos hc).symm.trans hF
      refine z_iconst (n := 198) (v := (-1)) dX7_takeOver_197 rfl (by decide) ?_
      exact H_59 _ hF
    · replace hF := (if_neg hc).symm.trans hF
      refine z_aload_n (n := 189) dX7_takeOver_188 rfl 0 rfl rfl ?_
      refine z_getRS (n := 192) dX7_takeOver_189 rfl zok6 fX7_50 rfl hM.1 (Or.inl (by decide)) (mF_9 hM) ?_
      refine z_iload_n (n := 193) dX7_takeOver_192 rfl 1 rfl rfl ?_
      obtain ⟨h_82, hF⟩ := zg_some hF
      refine z_ialdK (n := 194) v1_54.toNatClampNeg rfl dX7_takeOver_193 rfl (mK_9 hM) (zin_ok h_82) ?_
      refine z_goto (t := 198) dX7_takeOver_194 (by decide) ?_
      exact H_59 _ hF
set_option maxHeartbeats 1000000 in
theorem C_X7_takeOver {l : Launch} {G : zGt} (htr : l.stackTraces = false) {K : zKd} {F : zFd} {L : zLd} (hM : zMLay K F) {I : zId} {r : zId} (hF : F_X7_takeOver I = some r) : zMet l G yX7_takeOver (ws_ yX7_takeOver cX7_takeOver 2 none) 1 21 0 0 [.ref 1860] K F I L (zQe (.inl none) K F r L) := by
  refine zMet.of (by decide +kernel) htr (Nat.le_of_ble_eq_true rfl) ?_
  change zW l G MX7_takeOver 1 21 0 0 0 [(0, .ref 1860)] [] K F I L (zQe (.inl none) K F r L)
  unfold F_X7_takeOver at hF
  refine z_aload_n (n := 1) dX7_takeOver_0 rfl 0 rfl rfl ?_
  refine z_getRS (n := 4) dX7_takeOver_1 rfl zok6 fX7_29 rfl hM.1 (Or.inl (by decide)) (mF_2 hM) ?_
  obtain ⟨I_2, c_1, hF⟩ := zb1_some hF
  refine z_cS (n := 7) (st := []) (C_X7_takeHalf htr (mK_2 hM) (by decide) c_1) dX7_takeOver_4 rfl (lw_S q2007 q2008 q131 q2009) hcee_X7_takeHalf rfl (by decide) rfl (Nat.le_of_ble_eq_true rfl) (Nat.le_refl _) (Nat.le_refl _) ?_
  refine z_aload_n (n := 8) dX7_takeOver_7 rfl 0 rfl rfl ?_
  refine z_getRS (n := 11) dX7_takeOver_8 rfl zok6 fX7_33 rfl hM.1 (Or.inl (by decide)) (mF_3 hM) ?_
  obtain ⟨I_4, c_3, hF⟩ := zb1_some hF
  refine z_cS (n := 14) (st := []) (C_X7_takeHalf htr (mK_3 hM) (by decide) c_3) dX7_takeOver_11 rfl (lw_S q2007 q2008 q131 q2009) hcee_X7_takeHalf rfl (by decide) rfl (Nat.le_of_ble_eq_true rfl) (Nat.le_refl _) (Nat.le_refl _) ?_
  refine z_aload_n (n := 15) dX7_takeOver_14 rfl 0 rfl rfl ?_
  refine z_getRS (n := 18) dX7_takeOver_15 rfl zok6 fX7_36 rfl hM.1 (Or.inl (by decide)) (mF_4 hM) ?_
  obtain ⟨I_6, c_5, hF⟩ := zb1_some hF
  refine z_cS (n := 21) (st := []) (C_X7_takeHalf htr (mK_4 hM) (by decide) c_5) dX7_takeOver_18 rfl (lw_S q2007 q2008 q131 q2009) hcee_X7_takeHalf rfl (by decide) rfl (Nat.le_of_ble_eq_true rfl) (Nat.le_refl _) (Nat.le_refl _) ?_
  refine z_aload_n (n := 22) dX7_takeOver_21 rfl 0 rfl rfl ?_
  refine z_getRS (n := 25) dX7_takeOver_22 rfl zok6 fX7_39 rfl hM.1 (Or.inl (by decide)) (mF_5 hM) ?_
  obtain ⟨I_8, c_7, hF⟩ := zb1_some hF
  refine z_cS (n := 28) (st := []) (C_X7_takeHalf htr (mK_5 hM) (by decide) c_7) dX7_takeOver_25 rfl (lw_S q2007 q2008 q131 q2009) hcee_X7_takeHalf rfl (by decide) rfl (Nat.le_of_ble_eq_true rfl) (Nat.le_refl _) (Nat.le_refl _) ?_
  refine z_aload_n (n := 29) dX7_takeOver_28 rfl 0 rfl rfl ?_
  refine z_getRS (n := 32) dX7_takeOver_29 rfl zok6 fX7_42 rfl hM.1 (Or.inl (by decide)) (mF_6 hM) ?_
  obtain ⟨I_10, c_9, hF⟩ := zb1_some hF
  refine z_cS (n := 35) (st := []) (C_X7_takeHalf htr (mK_6 hM) (by decide) c_9) dX7_takeOver_32 rfl (lw_S q2007 q2008 q131 q2009) hcee_X7_takeHalf rfl (by decide) rfl (Nat.le_of_ble_eq_true rfl) (Nat.le_refl _) (Nat.le_refl _) ?_
  refine z_aload_n (n := 36) dX7_takeOver_35 rfl 0 rfl rfl ?_
  refine z_getRS (n := 39) dX7_takeOver_36 rfl zok6 fX7_45 rfl hM.1 (Or.inl (by decide)) (mF_7 hM) ?_
  obtain ⟨I_12, c_11, hF⟩ := zb1_some hF
  refine z_cS (n := 42) (st := []) (C_X7_takeHalf htr (mK_7 hM) (by decide) c_11) dX7_takeOver_39 rfl (lw_S q2007 q2008 q131 q2009) hcee_X7_takeHalf rfl (by decide) rfl (Nat.le_of_ble_eq_true rfl) (Nat.le_refl _) (Nat.le_refl _) ?_
  refine z_aload_n (n := 43) dX7_takeOver_42 rfl 0 rfl rfl ?_
  refine z_getRS (n := 46) dX7_takeOver_43 rfl zok6 fX7_48 rfl hM.1 (Or.inl (by decide)) (mF_8 hM) ?_
  obtain ⟨I_14, c_13, hF⟩ := zb1_some hF
  refine z_cS (n := 49) (st := []) (C_X7_takeHalf htr (mK_8 hM) (by decide) c_13) dX7_takeOver_46 rfl (lw_S q2007 q2008 q131 q2009) hcee_X7_takeHalf rfl (by decide) rfl (Nat.le_of_ble_eq_true rfl) (Nat.le_refl _) (Nat.le_refl _) ?_
  refine z_aload_n (n := 50) dX7_takeOver_49 rfl 0 rfl rfl ?_
  refine z_getRS (n := 53) dX7_takeOver_50 rfl zok6 fX7_50 rfl hM.1 (Or.inl (by decide)) (mF_9 hM) ?_
  obtain ⟨I_16, c_15, hF⟩ := zb1_some hF
  refine z_cS (n := 56) (st := []) (C_X7_takeHalf htr (mK_9 hM) (by decide) c_15) dX7_takeOver_53 rfl (lw_S q2007 q2008 q131 q2009) hcee_X7_takeHalf rfl (by decide) rfl (Nat.le_of_ble_eq_true rfl) (Nat.le_refl _) (Nat.le_refl _) ?_
  refine z_aload_n (n := 57) dX7_takeOver_56 rfl 0 rfl rfl ?_
  refine z_getRS (n := 60) dX7_takeOver_57 rfl zok6 fX7_53 rfl hM.1 (Or.inl (by decide)) (mF_10 hM) ?_
  obtain ⟨I_18, c_17, hF⟩ := zb1_some hF
  refine z_cS (n := 63) (st := []) (C_X7_takeHalf htr (mK_10 hM) (by decide) c_17) dX7_takeOver_60 rfl (lw_S q2007 q2008 q131 q2009) hcee_X7_takeHalf rfl (by decide) rfl (Nat.le_of_ble_eq_true rfl) (Nat.le_refl _) (Nat.le_refl _) ?_
  refine z_aload_n (n := 64) dX7_takeOver_63 rfl 0 rfl rfl ?_
  refine z_getRS (n := 67) dX7_takeOver_64 rfl zok6 fX7_56 rfl hM.1 (Or.inl (by decide)) (mF_11 hM) ?_
  obtain ⟨I_20, c_19, hF⟩ := zb1_some hF
  refine z_cS (n := 70) (st := []) (C_X7_takeHalf htr (mK_11 hM) (by decide) c_19) dX7_takeOver_67 rfl (lw_S q2007 q2008 q131 q2009) hcee_X7_takeHalf rfl (by decide) rfl (Nat.le_of_ble_eq_true rfl) (Nat.le_refl _) (Nat.le_refl _) ?_
  refine z_aload_n (n := 71) dX7_takeOver_70 rfl 0 rfl rfl ?_
  refine z_getRS (n := 74) dX7_takeOver_71 rfl zok6 fX7_59 rfl hM.1 (Or.inl (by decide)) (mF_12 hM) ?_
  obtain ⟨I_22, c_21, hF⟩ := zb1_some hF
  refine z_cS (n := 77) (st := []) (C_X7_takeHalf htr (mK_12 hM) (by decide) c_21) dX7_takeOver_74 rfl (lw_S q2007 q2008 q131 q2009) hcee_X7_takeHalf rfl (by decide) rfl (Nat.le_of_ble_eq_true rfl) (Nat.le_refl _) (Nat.le_refl _) ?_
  refine z_aload_n (n := 78) dX7_takeOver_77 rfl 0 rfl rfl ?_
  refine z_iconst (n := 79) (v := 0) dX7_takeOver_78 rfl (by decide) ?_
  obtain ⟨I_23, e_24, hF⟩ := zlet_ob hF
  refine z_putIE (n := 82) dX7_takeOver_79 rfl zok6 fX7_316 (Or.inl ⟨_, rfl, rfl⟩) rfl ⟨rfl, rfl⟩ hM.1 (by decide) e_24 ?_
  refine z_aload_n (n := 83) dX7_takeOver_82 rfl 0 rfl rfl ?_
  refine z_iconst (n := 84) (v := 0) dX7_takeOver_83 rfl (by decide) ?_
  obtain ⟨I_25, e_26, hF⟩ := zlet_ob hF
  refine z_putIE (n := 87) dX7_takeOver_84 rfl zok6 fX7_318 (Or.inl ⟨_, rfl, rfl⟩) rfl ⟨rfl, rfl⟩ hM.1 (by decide) e_26 ?_
  refine z_aload_n (n := 88) dX7_takeOver_87 rfl 0 rfl rfl ?_
  refine z_iconst (n := 89) (v := 0) dX7_takeOver_88 rfl (by decide) ?_
  obtain ⟨I_27, e_28, hF⟩ := zlet_ob hF
  refine z_putIE (n := 92) dX7_takeOver_89 rfl zok6 fX7_321 (Or.inl ⟨_, rfl, rfl⟩) rfl ⟨rfl, rfl⟩ hM.1 (by decide) e_28 ?_
  refine z_iconst (n := 93) (v := 0) dX7_takeOver_92 rfl (by decide) ?_
  refine z_istore_nE (n := 94) (lv' := [(1, .int 0), (0, .ref 1860)]) dX7_takeOver_93 rfl rfl rfl (by decide) rfl ?_
  refine z_sub [1, 0] rfl ?_
  obtain ⟨t_93, e_53, hF⟩ := zb1_some hF
  obtain ⟨I_52, rfl⟩ : ∃ z, z = t_93 := ⟨_, rfl⟩
  have H_94 : zW l G MX7_takeOver 1 21 0 0 165 [(0, .ref 1860)] [] K F I_52 L (zQe (.inl none) K F r L) := by
    refine z_iconst (n := 166) (v := 0) dX7_takeOver_165 rfl (by decide) ?_
    refine z_istore_nE (n := 167) (lv' := [(1, .int 0), (0, .ref 1860)]) dX7_takeOver_166 rfl rfl rfl (by decide) rfl ?_
    refine z_sub [1, 0] rfl ?_
    obtain ⟨t_91, e_84, hF⟩ := zb1_some hF
    obtain ⟨I_83, rfl⟩ : ∃ z, z = t_91 := ⟨_, rfl⟩
    have H_92 : zW l G MX7_takeOver 1 21 0 0 252 [(0, .ref 1860)] [] K F I_83 L (zQe (.inl none) K F r L) := by
      refine z_aload_n (n := 253) dX7_takeOver_252 rfl 0 rfl rfl ?_
      refine z_iconst (n := 254) (v := 0) dX7_takeOver_253 rfl (by decide) ?_
      obtain ⟨I_85, e_86, hF⟩ := zlet_ob hF
      refine z_putIE (n := 257) dX7_takeOver_254 rfl zok6 fX7_324 (Or.inl ⟨_, rfl, rfl⟩) rfl ⟨rfl, rfl⟩ hM.1 (by decide) e_86 ?_
      refine z_aload_n (n := 258) dX7_takeOver_257 rfl 0 rfl rfl ?_
      refine z_iconst (n := 259) (v := 0) dX7_takeOver_258 rfl (by decide) ?_
      obtain ⟨I_87, e_88, hF⟩ := zlet_ob hF
      refine z_putIE (n := 262) dX7_takeOver_259 rfl zok6 fX7_327 (Or.inl ⟨_, rfl, rfl⟩) rfl ⟨rfl, rfl⟩ hM.1 (by decide) e_88 ?_
      refine z_aload_n (n := 263) dX7_takeOver_262 rfl 0 rfl rfl ?_
      refine z_iconst (n := 264) (v := 0) dX7_takeOver_263 rfl (by decide) ?_
      obtain ⟨I_89, e_90, hF⟩ := zlet_ob hF
      refine z_putIE (n := 267) dX7_takeOver_264 rfl zok6 fX7_330 (Or.inl ⟨_, rfl, rfl⟩) rfl ⟨rfl, rfl⟩ hM.1 (by decide) e_90 ?_
      have hF := Option.some.inj hF; subst hF
      exact z_vret dX7_takeOver_267 rfl ⟨rfl, rfl, rfl, rfl, rfl⟩
    refine zloop_ind (P := fun s : Int32 × zId => zW l G MX7_takeOver 1 21 0 0 167 [(0, .ref 1860), (1, .int s.1)] [] K F s.2 L (zQe (.inl none) K F r L)) (fun s r hb kl kr => ?_) e_84
    exact W_X7_takeOver_L167 htr hM hb (fun z0 z1 e => kl _ e) (fun y0 e => by cases kr _ e; exact H_92)
  refine zloop_ind (P := fun s : Int32 × zId => zW l G MX7_takeOver 1 21 0 0 94 [(0, .ref 1860), (1, .int s.1)] [] K F s.2 L (zQe (.inl none) K F r L)) (fun s r hb kl kr => ?_) e_53
  exact W_X7_takeOver_L94 htr hM hb (fun z0 z1 e => kl _ e) (fun y0 e => by cases kr _ e; exact H_94)
theorem fX7_68 : zFld RX7 68 6 24 := ⟨_, rfl, by decide, _, Or.inl q1701, Or.inl rfl⟩
abbrev MX7_fault : zM := (RX7, cX7_fault, 1, (some .int), "fault", [])
noncomputable def F_X7_fault (I : zId) : Option (Int32 × zId) := zlet (zu I 1860 1 0) (fun I_1 => some (I_1 1860 24, I_1))
set_option maxHeartbeats 1000000 in
theorem C_X7_fault {l : Launch} {G : zGt} (htr : l.stackTraces = false) {K : zKd} {F : zFd} {L : zLd} (hM : zMLay K F) {I : zId} {r : Int32 × zId} (hF : F_X7_fault I = some r) : zMet l G yX7_fault (ws_ yX7_fault cX7_fault 1 (some .int)) 0 0 0 0 [.ref 1860] K F I L (zQe (.inl (some (.int r.1))) K F r.2 L) := by
  refine zMet.of (by decide +kernel) htr (Nat.le_of_ble_eq_true rfl) ?_
  change zW l G MX7_fault 0 0 0 0 0 [(0, .ref 1860)] [] K F I L (zQe (.inl (some (.int r.1))) K F r.2 L)
  unfold F_X7_fault at hF
  refine z_aload_n (n := 1) dX7_fault_0 rfl 0 rfl rfl ?_
  refine z_iconst (n := 2) (v := 0) dX7_fault_1 rfl (by decide) ?_
  obtain ⟨I_1, e_2, hF⟩ := zlet_ob hF
  refine z_putIE (n := 5) dX7_fault_2 rfl zok6 fX7_150 (Or.inl ⟨_, rfl, rfl⟩) rfl ⟨rfl, rfl⟩ hM.1 (by decide) e_2 ?_
  refine z_aload_n (n := 6) dX7_fault_5 rfl 0 rfl rfl ?_
  refine z_getI (n := 9) dX7_fault_6 rfl zok6 fX7_68 rfl hM.1 (Or.inl (by decide)) ?_
  have hF := Option.some.inj hF; subst hF
  exact z_iret dX7_fault_9 rfl rfl ⟨rfl, rfl, rfl, rfl, rfl⟩
abbrev MX7_allSables : zM := (RX7, cX7_allSables, 3, (some .int), "allSables", [])
noncomputable def F_X7_allSables_L4 (I : zId) (v1_1 : Int32) (v2_2 : Int32) : Option ((Int32 × Int32) ⊕ (Int32)) := if (I 1862 0) ≤ v2_2 then some (.inr (v1_1)) else zg (zin v2_2 8) (zlet (v1_1 + (I 1875 v2_2.toNatClampNeg)) (fun v1_4 => zlet (v2_2 + 1) (fun v2_6 => some (.inl (v1_4, v2_6)))))
noncomputable def F_X7_allSables (I : zId) : Option (Int32) := zb1 (zloop (fun s : Int32 × Int32 => F_X7_allSables_L4 I s.1 s.2) (0, 0)) (fun v1_8 => some v1_8)
set_option maxHeartbeats 1000000 in
theorem W_X7_allSables_L4 {l : Launch} {G : zGt} (htr : l.stackTraces = false) {K : zKd} {F : zFd} {L : zLd} {Q : zQt} {I : zId} {v1_1 : Int32} {v2_2 : Int32} (hM : zMLay K F) {r : (Int32 × Int32) ⊕ (Int32)} (hF : F_X7_allSables_L4 I v1_1 v2_2 = some r) (kl : ∀ (z0 : Int32) (z1 : Int32), r = .inl (z0, z1) → zW l G MX7_allSables 0 0 0 0 4 [(0, .ref 1860), (1, .int z0), (2, .int z1)] [] K F I L Q) (kx : ∀ (y0 : Int32), r = .inr y0 → zW l G MX7_allSables 0 0 0 0 29 [(1, .int y0)] [] K F I L Q)  : zW l G MX7_allSables 0 0 0 0 4 [(0, .ref 1860), (1, .int v1_1), (2, .int v2_2)] [] K F I L Q := by
  unfold F_X7_allSables_L4 at hF
  refine z_iload_n (n := 5) dX7_allSables_4 rfl 2 rfl rfl ?_
  refine z_aload_n (n := 6) dX7_allSables_5 rfl 0 rfl rfl ?_
  refine z_getRS (n := 9) dX7_allSables_6 rfl zok6 fX7_29 rfl hM.1 (Or.inl (by decide)) (mF_2 hM) ?_
  refine z_iconst (n := 10) (v := 0) dX7_allSables_9 rfl (by decide) ?_
  refine z_ialdK (n := 11) 0 (by decide) dX7_allSables_10 rfl (mK_2 hM) (zin_ok (i := 0) (n := 16) rfl) ?_
  refine z_icmp_ge (n := 14) (t := 29) dX7_allSables_11 rfl (by decide) (fun hc => ?_) (fun hc => ?_)
  · replace hF := (if_pos hc).symm.trans hF
    refine z_sub [1] rfl ?_
    have hF := Option.some.inj hF; subst hF
    exact kx _ rfl
  · replace hF := (if_neg hc).symm.trans hF
    refine z_iload_n (n := 15) dX7_allSables_14 rfl 1 rfl rfl ?_
    refine z_aload_n (n := 16) dX7_allSables_15 rfl 0 rfl rfl ?_
    refine z_getRS (n := 19) dX7_allSables_16 rfl zok6 fX7_72 rfl hM.1 (Or.inl (by decide)) (mF_25 hM) ?_
    refine z_iload_n (n := 20) dX7_allSables_19 rfl 2 rfl rfl ?_
    obtain ⟨h_3, hF⟩ := zg_some hF
    refine z_ialdK (n := 21) v2_2.toNatClampNeg rfl dX7_allSables_20 rfl (mK_25 hM) (zin_ok h_3) ?_
    refine z_iadd (n := 22) dX7_allSables_21 rfl ?_
    obtain ⟨v1_4, e_5, hF⟩ := zlet_ob hF
    refine z_istore_nE (n := 23) (lv' := [(1, .int v1_4), (0, .ref 1860), (2, .int v2_2)]) dX7_allSables_22 rfl e_5 rfl (by decide) rfl ?_
    obtain ⟨v2_6, e_7, hF⟩ := zlet_ob hF
    refine z_iincE (n := 26) (w := 1) (v := v2_6) (lv' := [(2, .int v2_6), (1, .int v1_4), (0, .ref 1860)]) dX7_allSables_23 rfl 2 rfl (by decide) e_7 (by decide) rfl ?_
    refine z_goto (t := 4) dX7_allSables_26 (by decide) ?_
    refine z_sub [2, 1, 0] rfl ?_
    have hF := Option.some.inj hF; subst hF
    exact kl _ _ rfl
set_option maxHeartbeats 1000000 in
theorem C_X7_allSables {l : Launch} {G : zGt} (htr : l.stackTraces = false) {K : zKd} {F : zFd} {L : zLd} (hM : zMLay K F) {I : zId} {r : Int32} (hF : F_X7_allSables I = some r) : zMet l G yX7_allSables (ws_ yX7_allSables cX7_allSables 3 (some .int)) 0 0 0 0 [.ref 1860] K F I L (zQe (.inl (some (.int r))) K F I L) := by
  refine zMet.of (by decide +kernel) htr (Nat.le_of_ble_eq_true rfl) ?_
  change zW l G MX7_allSables 0 0 0 0 0 [(0, .ref 1860)] [] K F I L (zQe (.inl (some (.int r))) K F I L)
  unfold F_X7_allSables at hF
  refine z_iconst (n := 1) (v := 0) dX7_allSables_0 rfl (by decide) ?_
  refine z_istore_nE (n := 2) (lv' := [(1, .int 0), (0, .ref 1860)]) dX7_allSables_1 rfl rfl rfl (by decide) rfl ?_
  refine z_iconst (n := 3) (v := 0) dX7_allSables_2 rfl (by decide) ?_
  refine z_istore_nE (n := 4) (lv' := [(2, .int 0), (1, .int 0), (0, .ref 1860)]) dX7_allSables_3 rfl rfl rfl (by decide) rfl ?_
  refine z_sub [2, 1, 0] rfl ?_
  obtain ⟨t_10, e_9, hF⟩ := zb1_some hF
  obtain ⟨v1_8, rfl⟩ : ∃ z, z = t_10 := ⟨_, rfl⟩
  have H_11 : zW l G MX7_allSables 0 0 0 0 29 [(1, .int v1_8)] [] K F I L (zQe (.inl (some (.int r))) K F I L) := by
    refine z_iload_n (n := 30) dX7_allSables_29 rfl 0 rfl rfl ?_
    have hF := Option.some.inj hF; subst hF
    exact z_iret dX7_allSables_30 rfl rfl ⟨rfl, rfl, rfl, rfl, rfl⟩
  refine zloop_ind (P := fun s : Int32 × Int32 => zW l G MX7_allSables 0 0 0 0 4 [(0, .ref 1860), (1, .int s.1), (2, .int s.2)] [] K F I L (zQe (.inl (some (.int r))) K F I L)) (fun s r hb kl kr => ?_) e_9
  exact W_X7_allSables_L4 htr hM hb (fun z0 z1 e => kl _ e) (fun y0 e => by cases kr _ e; exact H_11)
theorem fX7_62 : zFld RX7 62 6 13 := ⟨_, rfl, by decide, _, Or.inl q1690, Or.inl rfl⟩
theorem hcee_X7_allSables : zCee yX7_allSables RX7 0 := ⟨rfl, by decide +kernel, by decide +kernel, by decide +kernel⟩
theorem hcee_X7_fail : zCee yX7_fail RX7 1 := ⟨rfl, by decide +kernel, by decide +kernel, by decide +kernel⟩
abbrev MX7_count : zM := (RX7, cX7_count, 2, (some .int), "count", [])
noncomputable def F_X7_count (a0 : Int32) (I : zId) : Option (Int32 × zId) := zlet (zu I 1860 1 0) (fun I_1 => if a0 = 0 then zg (zin a0 16) (some (I_1 1862 a0.toNatClampNeg, I_1)) else if a0 = 1 then zg (zin a0 16) (some (I_1 1862 a0.toNatClampNeg, I_1)) else if a0 = 2 then zg (zin a0 16) (some (I_1 1862 a0.toNatClampNeg, I_1)) else if a0 = 3 then zg (zin a0 16) (some (I_1 1862 a0.toNatClampNeg, I_1)) else if a0 = 4 then zg (zin a0 16) (some (I_1 1862 a0.toNatClampNeg, I_1)) else if a0 = 5 then zg (zin a0 16) (some (I_1 1862 a0.toNatClampNeg, I_1)) else if a0 = 6 then zg (zin a0 16) (some (I_1 1862 a0.toNatClampNeg, I_1)) else if a0 = 7 then some (I_1 1860 34, I_1) else if a0 = 8 then zb1 (F_X7_allSables I_1) (fun x_11 => some (x_11, I_1)) else if a0 = 9 then some (I_1 1860 35, I_1) else if a0 = 10 then some (I_1 1860 36, I_1) else if a0 = 11 then some (I_1 1860 37, I_1) else if a0 = 12 then some (I_1 1860 38, I_1) else if a0 = 13 then some (I_1 1860 15, I_1) else if a0 = 14 then zg (zin (a0 - 14) 3) (some (I_1 1873 ((a0 - 14).toNatClampNeg), I_1)) else if a0 = 15 then zg (zin (a0 - 14) 3) (some (I_1 1873 ((a0 - 14).toNatClampNeg), I_1)) else if a0 = 16 then zg (zin (a0 - 14) 3) (some (I_1 1873 ((a0 - 14).toNatClampNeg), I_1)) else zb2 (F_X7_fail 1 I_1) (fun x_16 I_17 => some (x_16, I_17)))
set_option maxHeartbeats 1000000 in
theorem C_X7_count {l : Launch} {G : zGt} (htr : l.stackTraces = false) {K : zKd} {F : zFd} {L : zLd} {a0 : Int32} (hM : zMLay K F) {I : zId} {r : Int32 × zId} (hF : F_X7_count a0 I = some r) : zMet l G yX7_count (ws_ yX7_count cX7_count 2 (some .int)) 1 22 0 0 [.ref 1860, .int a0] K F I L (zQe (.inl (some (.int r.1))) K F r.2 L) := by
  refine zMet.of (by decide +kernel) htr (Nat.le_of_ble_eq_true rfl) ?_
  change zW l G MX7_count 1 22 0 0 0 [(0, .ref 1860), (1, .int a0)] [] K F I L (zQe (.inl (some (.int r.1))) K F r.2 L)
  unfold F_X7_count at hF
  refine z_aload_n (n := 1) dX7_count_0 rfl 0 rfl rfl ?_
  refine z_iconst (n := 2) (v := 0) dX7_count_1 rfl (by decide) ?_
  obtain ⟨I_1, e_2, hF⟩ := zlet_ob hF
  refine z_putIE (n := 5) dX7_count_2 rfl zok6 fX7_150 (Or.inl ⟨_, rfl, rfl⟩) rfl ⟨rfl, rfl⟩ hM.1 (by decide) e_2 ?_
  refine z_iload_n (n := 6) dX7_count_5 rfl 1 rfl rfl ?_
  by_cases ht0 : a0 = 0
  · replace hF := (if_pos ht0).symm.trans hF
    refine z_tableIn (off := 82) (t := 88) dX7_count_6 (by rw [ht0]; decide) (by rw [ht0]; decide) (by rw [ht0]; rfl) (by decide) ?_
    refine z_aload_n (n := 89) dX7_count_88 rfl 0 rfl rfl ?_
    refine z_getRS (n := 92) dX7_count_89 rfl zok6 fX7_29 rfl hM.1 (Or.inl (by decide)) (mF_2 hM) ?_
    refine z_iload_n (n := 93) dX7_count_92 rfl 1 rfl rfl ?_
    obtain ⟨h_3, hF⟩ := zg_some hF
    refine z_ialdK (n := 94) a0.toNatClampNeg rfl dX7_count_93 rfl (mK_2 hM) (zin_ok h_3) ?_
    have hF := Option.some.inj hF; subst hF
    exact z_iret dX7_count_94 rfl rfl ⟨rfl, rfl, rfl, rfl, rfl⟩
  replace hF := (if_neg ht0).symm.trans hF
  by_cases ht1 : a0 = 1
  · replace hF := (if_pos ht1).symm.trans hF
    refine z_tableIn (off := 82) (t := 88) dX7_count_6 (by rw [ht1]; decide) (by rw [ht1]; decide) (by rw [ht1]; rfl) (by decide) ?_
    refine z_aload_n (n := 89) dX7_count_88 rfl 0 rfl rfl ?_
    refine z_getRS (n := 92) dX7_count_89 rfl zok6 fX7_29 rfl hM.1 (Or.inl (by decide)) (mF_2 hM) ?_
    refine z_iload_n (n := 93) dX7_count_92 rfl 1 rfl rfl ?_
    obtain ⟨h_4, hF⟩ := zg_some hF
    refine z_ialdK (n := 94) a0.toNatClampNeg rfl dX7_count_93 rfl (mK_2 hM) (zin_ok h_4) ?_
    have hF := Option.some.inj hF; subst hF
    exact z_iret dX7_count_94 rfl rfl ⟨rfl, rfl, rfl, rfl, rfl⟩
  replace hF := (if_neg ht1).symm.trans hF
  by_cases ht2 : a0 = 2
  · replace hF := (if_pos ht2).symm.trans hF
    refine z_tableIn (off := 82) (t := 88) dX7_count_6 (by rw [ht2]; decide) (by rw [ht2]; decide) (by rw [ht2]; rfl) (by decide) ?_
    refine z_aload_n (n := 89) dX7_count_88 rfl 0 rfl rfl ?_
    refine z_getRS (n := 92) dX7_count_89 rfl zok6 fX7_29 rfl hM.1 (Or.inl (by decide)) (mF_2 hM) ?_
    refine z_iload_n (n := 93) dX7_count_92 rfl 1 rfl rfl ?_
    obtain ⟨h_5, hF⟩ := zg_some hF
    refine z_ialdK (n := 94) a0.toNatClampNeg rfl dX7_count_93 rfl (mK_2 hM) (zin_ok h_5) ?_
    have hF := Option.some.inj hF; subst hF
    exact z_iret dX7_count_94 rfl rfl ⟨rfl, rfl, rfl, rfl, rfl⟩
  replace hF := (if_neg ht2).symm.trans hF
  by_cases ht3 : a0 = 3
  · replace hF := (if_pos ht3).symm.trans hF
    refine z_tableIn (off := 82) (t := 88) dX7_count_6 (by rw [ht3]; decide) (by rw [ht3]; decide) (by rw [ht3]; rfl) (by decide) ?_
    refine z_aload_n (n := 89) dX7_count_88 rfl 0 rfl rfl ?_
    refine z_getRS (n := 92) dX7_count_89 rfl zok6 fX7_29 rfl hM.1 (Or.inl (by decide)) (mF_2 hM) ?_
    refine z_iload_n (n := 93) dX7_count_92 rfl 1 rfl rfl ?_
    obtain ⟨h_6, hF⟩ := zg_some hF
    refine z_ialdK (n := 94) a0.toNatClampNeg rfl dX7_count_93 rfl (mK_2 hM) (zin_ok h_6) ?_
    have hF := Option.some.inj hF; subst hF
    exact z_iret dX7_count_94 rfl rfl ⟨rfl, rfl, rfl, rfl, rfl⟩
  replace hF := (if_neg ht3).symm.trans hF
  by_cases ht4 : a0 = 4
  · replace hF := (if_pos ht4).symm.trans hF
    refine z_tableIn (off := 82) (t := 88) dX7_count_6 (by rw [ht4]; decide) (by rw [ht4]; decide) (by rw [ht4]; rfl) (by decide) ?_
    refine z_aload_n (n := 89) dX7_count_88 rfl 0 rfl rfl ?_
    refine z_getRS (n := 92) dX7_count_89 rfl zok6 fX7_29 rfl hM.1 (Or.inl (by decide)) (mF_2 hM) ?_
    refine z_iload_n (n := 93) dX7_count_92 rfl 1 rfl rfl ?_
    obtain ⟨h_7, hF⟩ := zg_some hF
    refine z_ialdK (n := 94) a0.toNatClampNeg rfl dX7_count_93 rfl (mK_2 hM) (zin_ok h_7) ?_
    have hF := Option.some.inj hF; subst hF
    exact z_iret dX7_count_94 rfl rfl ⟨rfl, rfl, rfl, rfl, rfl⟩
  replace hF := (if_neg ht4).symm.trans hF
  by_cases ht5 : a0 = 5
  · replace hF := (if_pos ht5).symm.trans hF
    refine z_tableIn (off := 82) (t := 88) dX7_count_6 (by rw [ht5]; decide) (by rw [ht5]; decide) (by rw [ht5]; rfl) (by decide) ?_
    refine z_aload_n (n := 89) dX7_count_88 rfl 0 rfl rfl ?_
    refine z_getRS (n := 92) dX7_count_89 rfl zok6 fX7_29 rfl hM.1 (Or.inl (by decide)) (mF_2 hM) ?_
    refine z_iload_n (n := 93) dX7_count_92 rfl 1 rfl rfl ?_
    obtain ⟨h_8, hF⟩ := zg_some hF
    refine z_ialdK (n := 94) a0.toNatClampNeg rfl dX7_count_93 rfl (mK_2 hM) (zin_ok h_8) ?_
    have hF := Option.some.inj hF; subst hF
    exact z_iret dX7_count_94 rfl rfl ⟨rfl, rfl, rfl, rfl, rfl⟩
  replace hF := (if_neg ht5).symm.trans hF
  by_cases ht6 : a0 = 6
  · replace hF := (if_pos ht6).symm.trans hF
    refine z_tableIn (off := 82) (t := 88) dX7_count_6 (by rw [ht6]; decide) (by rw [ht6]; decide) (by rw [ht6]; rfl) (by decide) ?_
    refine z_aload_n (n := 89) dX7_count_88 rfl 0 rfl rfl ?_
    refine z_getRS (n := 92) dX7_count_89 rfl zok6 fX7_29 rfl hM.1 (Or.inl (by decide)) (mF_2 hM) ?_
    refine z_iload_n (n := 93) dX7_count_92 rfl 1 rfl rfl ?_
    obtain ⟨h_9, hF⟩ := zg_some hF
    refine z_ialdK (n := 94) a0.toNatClampNeg rfl dX7_count_93 rfl (mK_2 hM) (zin_ok h_9) ?_
    have hF := Option.some.inj hF; subst hF
    exact z_iret dX7_count_94 rfl rfl ⟨rfl, rfl, rfl, rfl, rfl⟩
  replace hF := (if_neg ht6).symm.trans hF
  by_cases ht7 : a0 = 7
  · replace hF := (if_pos ht7).symm.trans hF
    refine z_tableIn (off := 89) (t := 95) dX7_count_6 (by rw [ht7]; decide) (by rw [ht7]; decide) (by rw [ht7]; rfl) (by decide) ?_
    refine z_aload_n (n := 96) dX7_count_95 rfl 0 rfl rfl ?_
    refine z_getI (n := 99) dX7_count_96 rfl zok6 fX7_316 rfl hM.1 (Or.inl (by decide)) ?_
    have hF := Option.some.inj hF; subst hF
    exact z_iret dX7_count_99 rfl rfl ⟨rfl, rfl, rfl, rfl, rfl⟩
  replace hF := (if_neg ht7).symm.trans hF
  by_cases ht8 : a0 = 8
  · replace hF := (if_pos ht8).symm.trans hF
    refine z_tableIn (off := 94) (t := 100) dX7_count_6 (by rw [ht8]; decide) (by rw [ht8]; decide) (by rw [ht8]; rfl) (by decide) ?_
    refine z_aload_n (n := 101) dX7_count_100 rfl 0 rfl rfl ?_
    obtain ⟨x_11, c_10, hF⟩ := zb1_some hF
    refine z_cV (n := 104) (st := []) (C_X7_allSables htr hM c_10) dX7_count_101 rfl (lw_V q2018 q2020 qs74 q131 q2021) hcee_X7_allSables rfl (by decide) hM.1 rfl rfl rfl (Nat.le_of_ble_eq_true rfl) (Nat.le_refl _) (Nat.le_refl _) ?_
    have hF := Option.some.inj hF; subst hF
    exact z_iret dX7_count_104 rfl rfl ⟨rfl, rfl, rfl, rfl, rfl⟩
  replace hF := (if_neg ht8).symm.trans hF
  by_cases ht9 : a0 = 9
  · replace hF := (if_pos ht9).symm.trans hF
    refine z_tableIn (off := 99) (t := 105) dX7_count_6 (by rw [ht9]; decide) (by rw [ht9]; decide) (by rw [ht9]; rfl) (by decide) ?_
    refine z_aload_n (n := 106) dX7_count_105 rfl 0 rfl rfl ?_
    refine z_getI (n := 109) dX7_count_106 rfl zok6 fX7_318 rfl hM.1 (Or.inl (by decide)) ?_
    have hF := Option.some.inj hF; subst hF
    exact z_iret dX7_count_109 rfl rfl ⟨rfl, rfl, rfl, rfl, rfl⟩
  replace hF := (if_neg ht9).symm.trans hF
  by_cases ht10 : a0 = 10
  · replace hF := (if_pos ht10).symm.trans hF
    refine z_tableIn (off := 104) (t := 110) dX7_count_6 (by rw [ht10]; decide) (by rw [ht10]; decide) (by rw [ht10]; rfl) (by decide) ?_
    refine z_aload_n (n := 111) dX7_count_110 rfl 0 rfl rfl ?_
    refine z_getI (n := 114) dX7_count_111 rfl zok6 fX7_321 rfl hM.1 (Or.inl (by decide)) ?_
    have hF := Option.some.inj hF; subst hF
    exact z_iret dX7_count_114 rfl rfl ⟨rfl, rfl, rfl, rfl, rfl⟩
  replace hF := (if_neg ht10).symm.trans hF
  by_cases ht11 : a0 = 11
  · replace hF := (if_pos ht11).symm.trans hF
    refine z_tableIn (off := 109) (t := 115) dX7_count_6 (by rw [ht11]; decide) (by rw [ht11]; decide) (by rw [ht11]; rfl) (by decide) ?_
    refine z_aload_n (n := 116) dX7_count_115 rfl 0 rfl rfl ?_
    refine z_getI (n := 119) dX7_count_116 rfl zok6 fX7_324 rfl hM.1 (Or.inl (by decide)) ?_
    have hF := Option.some.inj hF; subst hF
    exact z_iret dX7_count_119 rfl rfl ⟨rfl, rfl, rfl, rfl, rfl⟩
  replace hF := (if_neg ht11).symm.trans hF
  by_cases ht12 : a0 = 12
  · replace hF := (if_pos ht12).symm.trans hF
    refine z_tableIn (off := 114) (t := 120) dX7_count_6 (by rw [ht12]; decide) (by rw [ht12]; decide) (by rw [ht12]; rfl) (by decide) ?_
    refine z_aload_n (n := 121) dX7_count_120 rfl 0 rfl rfl ?_
    refine z_getI (n := 124) dX7_count_121 rfl zok6 fX7_327 rfl hM.1 (Or.inl (by decide)) ?_
    have hF := Option.some.inj hF; subst hF
    exact z_iret dX7_count_124 rfl rfl ⟨rfl, rfl, rfl, rfl, rfl⟩
  replace hF := (if_neg ht12).symm.trans hF
  by_cases ht13 : a0 = 13
  · replace hF := (if_pos ht13).symm.trans hF
    refine z_tableIn (off := 119) (t := 125) dX7_count_6 (by rw [ht13]; decide) (by rw [ht13]; decide) (by rw [ht13]; rfl) (by decide) ?_
    refine z_aload_n (n := 126) dX7_count_125 rfl 0 rfl rfl ?_
    refine z_getI (n := 129) dX7_count_126 rfl zok6 fX7_157 rfl hM.1 (Or.inl (by decide)) ?_
    have hF := Option.some.inj hF; subst hF
    exact z_iret dX7_count_129 rfl rfl ⟨rfl, rfl, rfl, rfl, rfl⟩
  replace hF := (if_neg ht13).symm.trans hF
  by_cases ht14 : a0 = 14
  · replace hF := (if_pos ht14).symm.trans hF
    refine z_tableIn (off := 124) (t := 130) dX7_count_6 (by rw [ht14]; decide) (by rw [ht14]; decide) (by rw [ht14]; rfl) (by decide) ?_
    refine z_aload_n (n := 131) dX7_count_130 rfl 0 rfl rfl ?_
    refine z_getRS (n := 134) dX7_count_131 rfl zok6 fX7_62 rfl hM.1 (Or.inl (by decide)) (mF_13 hM) ?_
    refine z_iload_n (n := 135) dX7_count_134 rfl 1 rfl rfl ?_
    refine z_bipush (n := 137) (v := 14) dX7_count_135 rfl (by decide) ?_
    refine z_isub (n := 138) dX7_count_137 rfl ?_
    obtain ⟨h_12, hF⟩ := zg_some hF
    refine z_ialdK (n := 139) ((a0 - 14).toNatClampNeg) rfl dX7_count_138 rfl (mK_13 hM) (zin_ok h_12) ?_
    have hF := Option.some.inj hF; subst hF
    exact z_iret dX7_count_139 rfl rfl ⟨rfl, rfl, rfl, rfl, rfl⟩
  replace hF := (if_neg ht14).symm.trans hF
  by_cases ht15 : a0 = 15
  · replace hF := (if_pos ht15).symm.trans hF
    refine z_tableIn (off := 124) (t := 130) dX7_count_6 (by rw [ht15]; decide) (by rw [ht15]; decide) (by rw [ht15]; rfl) (by decide) ?_
    refine z_aload_n (n := 131) dX7_count_130 rfl 0 rfl rfl ?_
    refine z_getRS (n := 134) dX7_count_131 rfl zok6 fX7_62 rfl hM.1 (Or.inl (by decide)) (mF_13 hM) ?_
    refine z_iload_n (n := 135) dX7_count_134 rfl 1 rfl rfl ?_
    refine z_bipush (n := 137) (v := 14) dX7_count_135 rfl (by decide) ?_
    refine z_isub (n := 138) dX7_count_137 rfl ?_
    obtain ⟨h_13, hF⟩ := zg_some hF
    refine z_ialdK (n := 139) ((a0 - 14).toNatClampNeg) rfl dX7_count_138 rfl (mK_13 hM) (zin_ok h_13) ?_
    have hF := Option.some.inj hF; subst hF
    exact z_iret dX7_count_139 rfl rfl ⟨rfl, rfl, rfl, rfl, rfl⟩
  replace hF := (if_neg ht15).symm.trans hF
  by_cases ht16 : a0 = 16
  · replace hF := (if_pos ht16).symm.trans hF
    refine z_tableIn (off := 124) (t := 130) dX7_count_6 (by rw [ht16]; decide) (by rw [ht16]; decide) (by rw [ht16]; rfl) (by decide) ?_
    refine z_aload_n (n := 131) dX7_count_130 rfl 0 rfl rfl ?_
    refine z_getRS (n := 134) dX7_count_131 rfl zok6 fX7_62 rfl hM.1 (Or.inl (by decide)) (mF_13 hM) ?_
    refine z_iload_n (n := 135) dX7_count_134 rfl 1 rfl rfl ?_
    refine z_bipush (n := 137) (v := 14) dX7_count_135 rfl (by decide) ?_
    refine z_isub (n := 138) dX7_count_137 rfl ?_
    obtain ⟨h_14, hF⟩ := zg_some hF
    refine z_ialdK (n := 139) ((a0 - 14).toNatClampNeg) rfl dX7_count_138 rfl (mK_13 hM) (zin_ok h_14) ?_
    have hF := Option.some.inj hF; subst hF
    exact z_iret dX7_count_139 rfl rfl ⟨rfl, rfl, rfl, rfl, rfl⟩
  replace hF := (if_neg ht16).symm.trans hF
  refine z_tableOut (t := 140) dX7_count_6 (by have := lv_neT (a := 0) ht0 (by decide); have := lv_neT (a := 1) ht1 (by decide); have := lv_neT (a := 2) ht2 (by decide); have := lv_neT (a := 3) ht3 (by decide); have := lv_neT (a := 4) ht4 (by decide); have := lv_neT (a := 5) ht5 (by decide); have := lv_neT (a := 6) ht6 (by decide); have := lv_neT (a := 7) ht7 (by decide); have := lv_neT (a := 8) ht8 (by decide); have := lv_neT (a := 9) ht9 (by decide); have := lv_neT (a := 10) ht10 (by decide); have := lv_neT (a := 11) ht11 (by decide); have := lv_neT (a := 12) ht12 (by decide); have := lv_neT (a := 13) ht13 (by decide); have := lv_neT (a := 14) ht14 (by decide); have := lv_neT (a := 15) ht15 (by decide); have := lv_neT (a := 16) ht16 (by decide); omega) (by decide) ?_
  refine z_aload_n (n := 141) dX7_count_140 rfl 0 rfl rfl ?_
  refine z_iconst (n := 142) (v := 1) dX7_count_141 rfl (by decide) ?_
  obtain ⟨x_16, I_17, c_15, hF⟩ := zb2_some hF
  refine z_cV (n := 145) (st := []) (C_X7_fail htr hM c_15) dX7_count_142 rfl (lw_V q1879 q1881 qs48 q131 q1882) hcee_X7_fail rfl (by decide) hM.1 rfl rfl rfl (Nat.le_of_ble_eq_true rfl) (Nat.le_refl _) (Nat.le_refl _) ?_
  have hF := Option.some.inj hF; subst hF
  exact z_iret dX7_count_145 rfl rfl ⟨rfl, rfl, rfl, rfl, rfl⟩
abbrev MX7_isIn : zM := (RX7, cX7_isIn, 6, (some .boolean), "isIn", [])
noncomputable def F_X7_isIn (a0 : Int64) (a1 : Int64) (a2 : Int64) (I : zId) : Option (Int32) := if (lg_cmp a0 a1) < 0 then some 0 else if 0 < (lg_cmp a0 a2) then some 0 else some 1
set_option maxHeartbeats 1000000 in
theorem C_X7_isIn {l : Launch} {G : zGt} (htr : l.stackTraces = false) {K : zKd} {F : zFd} {L : zLd} {a0 : Int64} {a1 : Int64} {a2 : Int64} {I : zId} {r : Int32} (hF : F_X7_isIn a0 a1 a2 I = some r) : zMet l G yX7_isIn (ws_ yX7_isIn cX7_isIn 6 (some .boolean)) 0 0 0 0 [.long a0, .long a1, .long a2] K F I L (zQe (.inl (some (.int r))) K F I L) := by
  refine zMet.of (by decide +kernel) htr (Nat.le_of_ble_eq_true rfl) ?_
  change zW l G MX7_isIn 0 0 0 0 0 [(0, .long a0), (2, .long a1), (4, .long a2)] [] K F I L (zQe (.inl (some (.int r))) K F I L)
  unfold F_X7_isIn at hF
  refine z_lload_n (n := 1) dX7_isIn_0 rfl 0 rfl rfl ?_
  refine z_lload_n (n := 2) dX7_isIn_1 rfl 1 rfl rfl ?_
  refine z_lcmp (n := 3) dX7_isIn_2 rfl ?_
  refine z_if_lt (n := 6) (t := 17) dX7_isIn_3 rfl (by decide) (fun hc => ?_) (fun hc => ?_)
  · replace hF := (if_pos hc).symm.trans hF
    refine z_iconst (n := 18) (v := 0) dX7_isIn_17 rfl (by decide) ?_
    have hF := Option.some.inj hF; subst hF
    exact z_iret dX7_isIn_18 rfl rfl ⟨rfl, rfl, rfl, rfl, rfl⟩
  · replace hF := (if_neg hc).symm.trans hF
    refine z_lload_n (n := 7) dX7_isIn_6 rfl 0 rfl rfl ?_
    refine z_lload (n := 9) dX7_isIn_7 rfl 2 rfl ?_
    refine z_lcmp (n := 10) dX7_isIn_9 rfl ?_
    refine z_if_gt (n := 13) (t := 17) dX7_isIn_10 rfl (by decide) (fun hc => ?_) (fun hc => ?_)
    · replace hF := (if_pos hc).symm.trans hF
      refine z_iconst (n := 18) (v := 0) dX7_isIn_17 rfl (by decide) ?_
      have hF := Option.some.inj hF; subst hF
      exact z_iret dX7_isIn_18 rfl rfl ⟨rfl, rfl, rfl, rfl, rfl⟩
    · replace hF := (if_neg hc).symm.trans hF
      refine z_iconst (n := 14) (v := 1) dX7_isIn_13 rfl (by decide) ?_
      refine z_goto (t := 18) dX7_isIn_14 (by decide) ?_
      have hF := Option.some.inj hF; subst hF
      exact z_iret dX7_isIn_18 rfl rfl ⟨rfl, rfl, rfl, rfl, rfl⟩
theorem hcee_X7_isIn : zCee yX7_isIn RX7 3 := ⟨rfl, by decide +kernel, by decide +kernel, by decide +kernel⟩
abbrev MX7_isForest : zM := (RX7, cX7_isForest, 2, (some .boolean), "isForest", [])
noncomputable def F_X7_isForest (a0 : Int32) (I : zId) : Option (Int32) := zb1 (F_X7_isIn a0.toInt64 0 (((I 1862 0) - 1).toInt64) I) (fun x_2 => zg (decide (x_2 = 0) || decide (x_2 = 1)) (some x_2))
set_option maxHeartbeats 1000000 in
theorem C_X7_isForest {l : Launch} {G : zGt} (htr : l.stackTraces = false) {K : zKd} {F : zFd} {L : zLd} {a0 : Int32} (hM : zMLay K F) {I : zId} {r : Int32} (hF : F_X7_isForest a0 I = some r) : zMet l G yX7_isForest (ws_ yX7_isForest cX7_isForest 2 (some .boolean)) 1 25 0 0 [.ref 1860, .int a0] K F I L (zQe (.inl (some (.int r))) K F I L) := by
  refine zMet.of (by decide +kernel) htr (Nat.le_of_ble_eq_true rfl) ?_
  change zW l G MX7_isForest 1 25 0 0 0 [(0, .ref 1860), (1, .int a0)] [] K F I L (zQe (.inl (some (.int r))) K F I L)
  unfold F_X7_isForest at hF
  refine z_iload_n (n := 1) dX7_isForest_0 rfl 1 rfl rfl ?_
  refine z_i2l (n := 2) dX7_isForest_1 rfl ?_
  refine z_lconst (n := 3) (v := 0) dX7_isForest_2 rfl (by decide) ?_
  refine z_aload_n (n := 4) dX7_isForest_3 rfl 0 rfl rfl ?_
  refine z_getRS (n := 7) dX7_isForest_4 rfl zok6 fX7_29 rfl hM.1 (Or.inl (by decide)) (mF_2 hM) ?_
  refine z_iconst (n := 8) (v := 0) dX7_isForest_7 rfl (by decide) ?_
  refine z_ialdK (n := 9) 0 (by decide) dX7_isForest_8 rfl (mK_2 hM) (zin_ok (i := 0) (n := 16) rfl) ?_
  refine z_iconst (n := 10) (v := 1) dX7_isForest_9 rfl (by decide) ?_
  refine z_isub (n := 11) dX7_isForest_10 rfl ?_
  refine z_i2l (n := 12) dX7_isForest_11 rfl ?_
  obtain ⟨x_2, c_1, hF⟩ := zb1_some hF
  refine z_cS (n := 15) (st := []) (C_X7_isIn htr c_1) dX7_isForest_12 rfl (lw_S q2030 q2031 q131 q2032) hcee_X7_isIn rfl (by decide) rfl (Nat.le_of_ble_eq_true rfl) (Nat.le_refl _) (Nat.le_refl _) ?_
  obtain ⟨h_3, hF⟩ := zg_some hF
  have hF := Option.some.inj hF; subst hF
  exact z_iret dX7_isForest_15 rfl (zbool_nar h_3) ⟨rfl, rfl, rfl, rfl, rfl⟩
abbrev MX7_bandsIn : zM := (RX7, cX7_bandsIn, 4, (some .int), "bandsIn", [])
noncomputable def F_X7_bandsIn_L4 (a0 : Int32) (I : zId) (v2_1 : Int32) (v3_2 : Int32) : Option ((Int32 × Int32) ⊕ (Int32)) := if (I 1862 2) ≤ v3_2 then some (.inr (v2_1)) else zg (zin v3_2 6) (zlet (fun (w_4 : Int32) => zlet (v2_1 ||| w_4) (fun v2_8 => zlet (v3_2 + 1) (fun v3_10 => some (.inl (v2_8, v3_10))))) (fun k_5 => if ¬ (I 1878 v3_2.toNatClampNeg) = a0 then k_5 0 else k_5 ((1 : Int32) <<< (v3_2 &&& (31 : Int32)))))
noncomputable def F_X7_bandsIn (a0 : Int32) (I : zId) : Option (Int32) := zb1 (zloop (fun s : Int32 × Int32 => F_X7_bandsIn_L4 a0 I s.1 s.2) (0, 0)) (fun v2_12 => some v2_12)
set_option maxHeartbeats 1000000 in
theorem W_X7_bandsIn_L4 {l : Launch} {G : zGt} (htr : l.stackTraces = false) {K : zKd} {F : zFd} {L : zLd} {Q : zQt} {a0 : Int32} {I : zId} {v2_1 : Int32} {v3_2 : Int32} (hM : zMLay K F) {r : (Int32 × Int32) ⊕ (Int32)} (hF : F_X7_bandsIn_L4 a0 I v2_1 v3_2 = some r) (kl : ∀ (z0 : Int32) (z1 : Int32), r = .inl (z0, z1) → zW l G MX7_bandsIn 0 0 0 0 4 [(0, .ref 1860), (1, .int a0), (2, .int z0), (3, .int z1)] [] K F I L Q) (kx : ∀ (y0 : Int32), r = .inr y0 → zW l G MX7_bandsIn 0 0 0 0 40 [(2, .int y0)] [] K F I L Q)  : zW l G MX7_bandsIn 0 0 0 0 4 [(0, .ref 1860), (1, .int a0), (2, .int v2_1), (3, .int v3_2)] [] K F I L Q := by
  unfold F_X7_bandsIn_L4 at hF
  refine z_iload_n (n := 5) dX7_bandsIn_4 rfl 3 rfl rfl ?_
  refine z_aload_n (n := 6) dX7_bandsIn_5 rfl 0 rfl rfl ?_
  refine z_getRS (n := 9) dX7_bandsIn_6 rfl zok6 fX7_29 rfl hM.1 (Or.inl (by decide)) (mF_2 hM) ?_
  refine z_iconst (n := 10) (v := 2) dX7_bandsIn_9 rfl (by decide) ?_
  refine z_ialdK (n := 11) 2 (by decide) dX7_bandsIn_10 rfl (mK_2 hM) (zin_ok (i := 2) (n := 16) rfl) ?_
  refine z_icmp_ge (n := 14) (t := 40) dX7_bandsIn_11 rfl (by decide) (fun hc => ?_) (fun hc => ?_)
  · replace hF := (if_pos hc).symm.trans hF
    refine z_sub [2] rfl ?_
    have hF := Option.some.inj hF; subst hF
    exact kx _ rfl
  · replace hF := (if_neg hc).symm.trans hF
    refine z_iload_n (n := 15) dX7_bandsIn_14 rfl 2 rfl rfl ?_
    refine z_aload_n (n := 16) dX7_bandsIn_15 rfl 0 rfl rfl ?_
    refine z_getRS (n := 19) dX7_bandsIn_16 rfl zok6 fX7_80 rfl hM.1 (Or.inl (by decide)) (mF_28 hM) ?_
    refine z_iload_n (n := 20) dX7_bandsIn_19 rfl 3 rfl rfl ?_
    obtain ⟨h_3, hF⟩ := zg_some hF
    refine z_ialdK (n := 21) v3_2.toNatClampNeg rfl dX7_bandsIn_20 rfl (mK_28 hM) (zin_ok h_3) ?_
    refine z_iload_n (n := 22) dX7_bandsIn_21 rfl 1 rfl rfl ?_
    obtain ⟨k_5, e_6, hF⟩ := zlet_ob hF
    have H_7 : ∀ (w_4 : Int32), k_5 w_4 = some r → zW l G MX7_bandsIn 0 0 0 0 32 [(0, .ref 1860), (1, .int a0), (3, .int v3_2)] [.int w_4, .int v2_1] K F I L Q := by
      intro w_4 hF
      subst e_6
      dsimp only at hF
      refine z_ior (n := 33) dX7_bandsIn_32 rfl ?_
      obtain ⟨v2_8, e_9, hF⟩ := zlet_ob hF
      refine z_istore_nE (n := 34) (lv' := [(2, .int v2_8), (0, .ref 1860), (1, .int a0), (3, .int v3_2)]) dX7_bandsIn_33 rfl e_9 rfl (by decide) rfl ?_
      obtain ⟨v3_10, e_11, hF⟩ := zlet_ob hF
      refine z_iincE (n := 37) (w := 1) (v := v3_10) (lv' := [(3, .int v3_10), (2, .int v2_8), (0, .ref 1860), (1, .int a0)]) dX7_bandsIn_34 rfl 3 rfl (by decide) e_11 (by decide) rfl ?_
      refine z_goto (t := 4) dX7_bandsIn_37 (by decide) ?_
      refine z_sub [2, 3, 1, 0] rfl ?_
      have hF := Option.some.inj hF; subst hF
      exact kl _ _ rfl
    clear e_6
    refine z_icmp_ne (n := 25) (t := 31) dX7_bandsIn_22 rfl (by decide) (fun hc => ?_) (fun hc => ?_)
    · replace hF := (if_pos hc).symm.trans hF
      refine z_iconst (n := 32) (v := 0) dX7_bandsIn_31 rfl (by decide) ?_
      refine z_sub [0, 1, 3] rfl ?_
      exact H_7 _ hF
    · replace hF := (if_neg hc).symm.trans hF
      refine z_iconst (n := 26) (v := 1) dX7_bandsIn_25 rfl (by decide) ?_
      refine z_iload_n (n := 27) dX7_bandsIn_26 rfl 3 rfl rfl ?_
      refine z_ishl (n := 28) dX7_bandsIn_27 rfl ?_
      refine z_goto (t := 32) dX7_bandsIn_28 (by decide) ?_
      refine z_sub [0, 1, 3] rfl ?_
      exact H_7 _ hF
set_option maxHeartbeats 1000000 in
theorem C_X7_bandsIn {l : Launch} {G : zGt} (htr : l.stackTraces = false) {K : zKd} {F : zFd} {L : zLd} {a0 : Int32} (hM : zMLay K F) {I : zId} {r : Int32} (hF : F_X7_bandsIn a0 I = some r) : zMet l G yX7_bandsIn (ws_ yX7_bandsIn cX7_bandsIn 4 (some .int)) 0 0 0 0 [.ref 1860, .int a0] K F I L (zQe (.inl (some (.int r))) K F I L) := by
  refine zMet.of (by decide +kernel) htr (Nat.le_of_ble_eq_true rfl) ?_
  change zW l G MX7_bandsIn 0 0 0 0 0 [(0, .ref 1860), (1, .int a0)] [] K F I L (zQe (.inl (some (.int r))) K F I L)
  unfold F_X7_bandsIn at hF
  refine z_iconst (n := 1) (v := 0) dX7_bandsIn_0 rfl (by decide) ?_
  refine z_istore_nE (n := 2) (lv' := [(2, .int 0), (0, .ref 1860), (1, .int a0)]) dX7_bandsIn_1 rfl rfl rfl (by decide) rfl ?_
  refine z_iconst (n := 3) (v := 0) dX7_bandsIn_2 rfl (by decide) ?_
  refine z_istore_nE (n := 4) (lv' := [(3, .int 0), (2, .int 0), (0, .ref 1860), (1, .int a0)]) dX7_bandsIn_3 rfl rfl rfl (by decide) rfl ?_
  refine z_sub [2, 3, 1, 0] rfl ?_
  obtain ⟨t_14, e_13, hF⟩ := zb1_some hF
  obtain ⟨v2_12, rfl⟩ : ∃ z, z = t_14 := ⟨_, rfl⟩
  have H_15 : zW l G MX7_bandsIn 0 0 0 0 40 [(2, .int v2_12)] [] K F I L (zQe (.inl (some (.int r))) K F I L) := by
    refine z_iload_n (n := 41) dX7_bandsIn_40 rfl 0 rfl rfl ?_
    have hF := Option.some.inj hF; subst hF
    exact z_iret dX7_bandsIn_41 rfl rfl ⟨rfl, rfl, rfl, rfl, rfl⟩
  refine zloop_ind (P := fun s : Int32 × Int32 => zW l G MX7_bandsIn 0 0 0 0 4 [(0, .ref 1860), (1, .int a0), (2, .int s.1), (3, .int s.2)] [] K F I L (zQe (.inl (some (.int r))) K F I L)) (fun s r hb kl kr => ?_) e_13
  exact W_X7_bandsIn_L4 (a0 := a0) htr hM hb (fun z0 z1 e => kl _ e) (fun y0 e => by cases kr _ e; exact H_15)
abbrev MX7_riversOf : zM := (RX7, cX7_riversOf, 4, (some .int), "riversOf", [])
noncomputable def F_X7_riversOf_L4 (a0 : Int32) (I : zId) (v2_1 : Int32) (v3_2 : Int32) : Option ((Int32 × Int32) ⊕ (Int32)) := if (I 1862 0) ≤ v3_2 then some (.inr (v2_1)) else zg (zin (((8 : Int32) * a0) + v3_2) 128) (zlet (fun (w_4 : Int32) => zlet (v2_1 + w_4) (fun v2_8 => zlet (v3_2 + 1) (fun v3_10 => some (.inl (v2_8, v3_10))))) (fun k_5 => if (I 1867 ((((8 : Int32) * a0) + v3_2).toNatClampNeg)) ≤ 0 then k_5 0 else k_5 1))
noncomputable def F_X7_riversOf (a0 : Int32) (I : zId) : Option (Int32) := zb1 (zloop (fun s : Int32 × Int32 => F_X7_riversOf_L4 a0 I s.1 s.2) (0, 0)) (fun v2_12 => some v2_12)
set_option maxHeartbeats 1000000 in
theorem W_X7_riversOf_L4 {l : Launch} {G : zGt} (htr : l.stackTraces = false) {K : zKd} {F : zFd} {L : zLd} {Q : zQt} {a0 : Int32} {I : zId} {v2_1 : Int32} {v3_2 : Int32} (hM : zMLay K F) {r : (Int32 × Int32) ⊕ (Int32)} (hF : F_X7_riversOf_L4 a0 I v2_1 v3_2 = some r) (kl : ∀ (z0 : Int32) (z1 : Int32), r = .inl (z0, z1) → zW l G MX7_riversOf 0 0 0 0 4 [(0, .ref 1860), (1, .int a0), (2, .int z0), (3, .int z1)] [] K F I L Q) (kx : ∀ (y0 : Int32), r = .inr y0 → zW l G MX7_riversOf 0 0 0 0 42 [(2, .int y0)] [] K F I L Q)  : zW l G MX7_riversOf 0 0 0 0 4 [(0, .ref 1860), (1, .int a0), (2, .int v2_1), (3, .int v3_2)] [] K F I L Q := by
  unfold F_X7_riversOf_L4 at hF
  refine z_iload_n (n := 5) dX7_riversOf_4 rfl 3 rfl rfl ?_
  refine z_aload_n (n := 6) dX7_riversOf_5 rfl 0 rfl rfl ?_
  refine z_getRS (n := 9) dX7_riversOf_6 rfl zok6 fX7_29 rfl hM.1 (Or.inl (by decide)) (mF_2 hM) ?_
  refine z_iconst (n := 10) (v := 0) dX7_riversOf_9 rfl (by decide) ?_
  refine z_ialdK (n := 11) 0 (by decide) dX7_riversOf_10 rfl (mK_2 hM) (zin_ok (i := 0) (n := 16) rfl) ?_
  refine z_icmp_ge (n := 14) (t := 42) dX7_riversOf_11 rfl (by decide) (fun hc => ?_) (fun hc => ?_)
  · replace hF := (if_pos hc).symm.trans hF
    refine z_sub [2] rfl ?_
    have hF := Option.some.inj hF; subst hF
    exact kx _ rfl
  · replace hF := (if_neg hc).symm.trans hF
    refine z_iload_n (n := 15) dX7_riversOf_14 rfl 2 rfl rfl ?_
    refine z_aload_n (n := 16) dX7_riversOf_15 rfl 0 rfl rfl ?_
    refine z_getRS (n := 19) dX7_riversOf_16 rfl zok6 fX7_45 rfl hM.1 (Or.inl (by decide)) (mF_7 hM) ?_
    refine z_bipush (n := 21) (v := 8) dX7_riversOf_19 rfl (by decide) ?_
    refine z_iload_n (n := 22) dX7_riversOf_21 rfl 1 rfl rfl ?_
    refine z_imul (n := 23) dX7_riversOf_22 rfl ?_
    refine z_iload_n (n := 24) dX7_riversOf_23 rfl 3 rfl rfl ?_
    refine z_iadd (n := 25) dX7_riversOf_24 rfl ?_
    obtain ⟨h_3, hF⟩ := zg_some hF
    refine z_ialdK (n := 26) ((((8 : Int32) * a0) + v3_2).toNatClampNeg) rfl dX7_riversOf_25 rfl (mK_7 hM) (zin_ok h_3) ?_
    obtain ⟨k_5, e_6, hF⟩ := zlet_ob hF
    have H_7 : ∀ (w_4 : Int32), k_5 w_4 = some r → zW l G MX7_riversOf 0 0 0 0 34 [(0, .ref 1860), (1, .int a0), (3, .int v3_2)] [.int w_4, .int v2_1] K F I L Q := by
      intro w_4 hF
      subst e_6
      dsimp only at hF
      refine z_iadd (n := 35) dX7_riversOf_34 rfl ?_
      obtain ⟨v2_8, e_9, hF⟩ := zlet_ob hF
      refine z_istore_nE (n := 36) (lv' := [(2, .int v2_8), (0, .ref 1860), (1, .int a0), (3, .int v3_2)]) dX7_riversOf_35 rfl e_9 rfl (by decide) rfl ?_
      obtain ⟨v3_10, e_11, hF⟩ := zlet_ob hF
      refine z_iincE (n := 39) (w := 1) (v := v3_10) (lv' := [(3, .int v3_10), (2, .int v2_8), (0, .ref 1860), (1, .int a0)]) dX7_riversOf_36 rfl 3 rfl (by decide) e_11 (by decide) rfl ?_
      refine z_goto (t := 4) dX7_riversOf_39 (by decide) ?_
      refine z_sub [2, 3, 1, 0] rfl ?_
      have hF := Option.some.inj hF; subst hF
      exact kl _ _ rfl
    clear e_6
    refine z_if_le (n := 29) (t := 33) dX7_riversOf_26 rfl (by decide) (fun hc => ?_) (fun hc => ?_)
    · replace hF := (if_pos hc).symm.trans hF
      refine z_iconst (n := 34) (v := 0) dX7_riversOf_33 rfl (by decide) ?_
      refine z_sub [0, 1, 3] rfl ?_
      exact H_7 _ hF
    · replace hF := (if_neg hc).symm.trans hF
      refine z_iconst (n := 30) (v := 1) dX7_riversOf_29 rfl (by decide) ?_
      refine z_goto (t := 34) dX7_riversOf_30 (by decide) ?_
      refine z_sub [0, 1, 3] rfl ?_
      exact H_7 _ hF
set_option maxHeartbeats 1000000 in
theorem C_X7_riversOf {l : Launch} {G : zGt} (htr : l.stackTraces = false) {K : zKd} {F : zFd} {L : zLd} {a0 : Int32} (hM : zMLay K F) {I : zId} {r : Int32} (hF : F_X7_riversOf a0 I = some r) : zMet l G yX7_riversOf (ws_ yX7_riversOf cX7_riversOf 4 (some .int)) 0 0 0 0 [.ref 1860, .int a0] K F I L (zQe (.inl (some (.int r))) K F I L) := by
  refine zMet.of (by decide +kernel) htr (Nat.le_of_ble_eq_true rfl) ?_
  change zW l G MX7_riversOf 0 0 0 0 0 [(0, .ref 1860), (1, .int a0)] [] K F I L (zQe (.inl (some (.int r))) K F I L)
  unfold F_X7_riversOf at hF
  refine z_iconst (n := 1) (v := 0) dX7_riversOf_0 rfl (by decide) ?_
  refine z_istore_nE (n := 2) (lv' := [(2, .int 0), (0, .ref 1860), (1, .int a0)]) dX7_riversOf_1 rfl rfl rfl (by decide) rfl ?_
  refine z_iconst (n := 3) (v := 0) dX7_riversOf_2 rfl (by decide) ?_
  refine z_istore_nE (n := 4) (lv' := [(3, .int 0), (2, .int 0), (0, .ref 1860), (1, .int a0)]) dX7_riversOf_3 rfl rfl rfl (by decide) rfl ?_
  refine z_sub [2, 3, 1, 0] rfl ?_
  obtain ⟨t_14, e_13, hF⟩ := zb1_some hF
  obtain ⟨v2_12, rfl⟩ : ∃ z, z = t_14 := ⟨_, rfl⟩
  have H_15 : zW l G MX7_riversOf 0 0 0 0 42 [(2, .int v2_12)] [] K F I L (zQe (.inl (some (.int r))) K F I L) := by
    refine z_iload_n (n := 43) dX7_riversOf_42 rfl 0 rfl rfl ?_
    have hF := Option.some.inj hF; subst hF
    exact z_iret dX7_riversOf_43 rfl rfl ⟨rfl, rfl, rfl, rfl, rfl⟩
  refine zloop_ind (P := fun s : Int32 × Int32 => zW l G MX7_riversOf 0 0 0 0 4 [(0, .ref 1860), (1, .int a0), (2, .int s.1), (3, .int s.2)] [] K F I L (zQe (.inl (some (.int r))) K F I L)) (fun s r hb kl kr => ?_) e_13
  exact W_X7_riversOf_L4 (a0 := a0) htr hM hb (fun z0 z1 e => kl _ e) (fun y0 e => by cases kr _ e; exact H_15)
theorem hcee_X7_bandsIn : zCee yX7_bandsIn RX7 1 := ⟨rfl, by decide +kernel, by decide +kernel, by decide +kernel⟩
theorem hcee_X7_isForest : zCee yX7_isForest RX7 1 := ⟨rfl, by decide +kernel, by decide +kernel, by decide +kernel⟩
theorem hcee_X7_riversOf : zCee yX7_riversOf RX7 1 := ⟨rfl, by decide +kernel, by decide +kernel, by decide +kernel⟩
abbrev MX7_forest : zM := (RX7, cX7_forest, 3, (some .int), "forest", [])
noncomputable def F_X7_forest (a0 : Int32) (a1 : Int32) (I : zId) : Option (Int32 × zId) := zlet (zu I 1860 1 0) (fun I_1 => zb1 (F_X7_isForest a0 I_1) (fun x_4 => if ¬ x_4 = 0 then if a1 = 0 then zg (zin a0 8) (some (I_1 1875 a0.toNatClampNeg, I_1)) else if a1 = 1 then zg (zin a0 8) (some (I_1 1876 a0.toNatClampNeg, I_1)) else if a1 = 2 then zg (zin a0 16) (some (I_1 1865 a0.toNatClampNeg, I_1)) else if a1 = 3 then zg (zin a0 16) (some (I_1 1866 a0.toNatClampNeg, I_1)) else if a1 = 4 then zg (zin a0 8) (some (I_1 1877 a0.toNatClampNeg, I_1)) else if a1 = 5 then zb1 (F_X7_bandsIn a0 I_1) (fun x_11 => some (x_11, I_1)) else if a1 = 6 then zb1 (F_X7_riversOf a0 I_1) (fun x_13 => some (x_13, I_1)) else zb2 (F_X7_fail 1 I_1) (fun x_15 I_16 => some (x_15, I_16)) else zb2 (F_X7_fail 1 I_1) (fun x_18 I_19 => some (x_18, I_19))))
set_option maxHeartbeats 1000000 in
theorem C_X7_forest {l : Launch} {G : zGt} (htr : l.stackTraces = false) {K : zKd} {F : zFd} {L : zLd} {a0 : Int32} {a1 : Int32} (hM : zMLay K F) {I : zId} {r : Int32 × zId} (hF : F_X7_forest a0 a1 I = some r) : zMet l G yX7_forest (ws_ yX7_forest cX7_forest 3 (some .int)) 2 46 0 0 [.ref 1860, .int a0, .int a1] K F I L (zQe (.inl (some (.int r.1))) K F r.2 L) := by
  refine zMet.of (by decide +kernel) htr (Nat.le_of_ble_eq_true rfl) ?_
  change zW l G MX7_forest 2 46 0 0 0 [(0, .ref 1860), (1, .int a0), (2, .int a1)] [] K F I L (zQe (.inl (some (.int r.1))) K F r.2 L)
  unfold F_X7_forest at hF
  refine z_aload_n (n := 1) dX7_forest_0 rfl 0 rfl rfl ?_
  refine z_iconst (n := 2) (v := 0) dX7_forest_1 rfl (by decide) ?_
  obtain ⟨I_1, e_2, hF⟩ := zlet_ob hF
  refine z_putIE (n := 5) dX7_forest_2 rfl zok6 fX7_150 (Or.inl ⟨_, rfl, rfl⟩) rfl ⟨rfl, rfl⟩ hM.1 (by decide) e_2 ?_
  refine z_aload_n (n := 6) dX7_forest_5 rfl 0 rfl rfl ?_
  refine z_iload_n (n := 7) dX7_forest_6 rfl 1 rfl rfl ?_
  obtain ⟨x_4, c_3, hF⟩ := zb1_some hF
  refine z_cV (n := 10) (st := []) (C_X7_isForest htr hM c_3) dX7_forest_7 rfl (lw_V q2026 q2028 qs75 q131 q2029) hcee_X7_isForest rfl (by decide) hM.1 rfl rfl rfl (Nat.le_of_ble_eq_true rfl) (Nat.le_refl _) (Nat.le_refl _) ?_
  refine z_if_ne (n := 13) (t := 19) dX7_forest_10 rfl (by decide) (fun hc => ?_) (fun hc => ?_)
  · replace hF := (if_pos hc).symm.trans hF
    refine z_iload_n (n := 20) dX7_forest_19 rfl 2 rfl rfl ?_
    by_cases ht0 : a1 = 0
    · replace hF := (if_pos ht0).symm.trans hF
      refine z_tableIn (off := 44) (t := 64) dX7_forest_20 (by rw [ht0]; decide) (by rw [ht0]; decide) (by rw [ht0]; rfl) (by decide) ?_
      refine z_aload_n (n := 65) dX7_forest_64 rfl 0 rfl rfl ?_
      refine z_getRS (n := 68) dX7_forest_65 rfl zok6 fX7_72 rfl hM.1 (Or.inl (by decide)) (mF_25 hM) ?_
      refine z_iload_n (n := 69) dX7_forest_68 rfl 1 rfl rfl ?_
      obtain ⟨h_5, hF⟩ := zg_some hF
      refine z_ialdK (n := 70) a0.toNatClampNeg rfl dX7_forest_69 rfl (mK_25 hM) (zin_ok h_5) ?_
      have hF := Option.some.inj hF; subst hF
      exact z_iret dX7_forest_70 rfl rfl ⟨rfl, rfl, rfl, rfl, rfl⟩
    replace hF := (if_neg ht0).symm.trans hF
    by_cases ht1 : a1 = 1
    · replace hF := (if_pos ht1).symm.trans hF
      refine z_tableIn (off := 51) (t := 71) dX7_forest_20 (by rw [ht1]; decide) (by rw [ht1]; decide) (by rw [ht1]; rfl) (by decide) ?_
      refine z_aload_n (n := 72) dX7_forest_71 rfl 0 rfl rfl ?_
      refine z_getRS (n := 75) dX7_forest_72 rfl zok6 fX7_74 rfl hM.1 (Or.inl (by decide)) (mF_26 hM) ?_
      refine z_iload_n (n := 76) dX7_forest_75 rfl 1 rfl rfl ?_
      obtain ⟨h_6, hF⟩ := zg_some hF
      refine z_ialdK (n := 77) a0.toNatClampNeg rfl dX7_forest_76 rfl (mK_26 hM) (zin_ok h_6) ?_
      have hF := Option.some.inj hF; subst hF
      exact z_iret dX7_forest_77 rfl rfl ⟨rfl, rfl, rfl, rfl, rfl⟩
    replace hF := (if_neg ht1).symm.trans hF
    by_cases ht2 : a1 = 2
    · replace hF := (if_pos ht2).symm.trans hF
      refine z_tableIn (off := 58) (t := 78) dX7_forest_20 (by rw [ht2]; decide) (by rw [ht2]; decide) (by rw [ht2]; rfl) (by decide) ?_
      refine z_aload_n (n := 79) dX7_forest_78 rfl 0 rfl rfl ?_
      refine z_getRS (n := 82) dX7_forest_79 rfl zok6 fX7_39 rfl hM.1 (Or.inl (by decide)) (mF_5 hM) ?_
      refine z_iload_n (n := 83) dX7_forest_82 rfl 1 rfl rfl ?_
      obtain ⟨h_7, hF⟩ := zg_some hF
      refine z_ialdK (n := 84) a0.toNatClampNeg rfl dX7_forest_83 rfl (mK_5 hM) (zin_ok h_7) ?_
      have hF := Option.some.inj hF; subst hF
      exact z_iret dX7_forest_84 rfl rfl ⟨rfl, rfl, rfl, rfl, rfl⟩
    replace hF := (if_neg ht2).symm.trans hF
    by_cases ht3 : a1 = 3
    · replace hF := (if_pos ht3).symm.trans hF
      refine z_tableIn (off := 65) (t := 85) dX7_forest_20 (by rw [ht3]; decide) (by rw [ht3]; decide) (by rw [ht3]; rfl) (by decide) ?_
      refine z_aload_n (n := 86) dX7_forest_85 rfl 0 rfl rfl ?_
      refine z_getRS (n := 89) dX7_forest_86 rfl zok6 fX7_42 rfl hM.1 (Or.inl (by decide)) (mF_6 hM) ?_
      refine z_iload_n (n := 90) dX7_forest_89 rfl 1 rfl rfl ?_
      obtain ⟨h_8, hF⟩ := zg_some hF
      refine z_ialdK (n := 91) a0.toNatClampNeg rfl dX7_forest_90 rfl (mK_6 hM) (zin_ok h_8) ?_
      have hF := Option.some.inj hF; subst hF
      exact z_iret dX7_forest_91 rfl rfl ⟨rfl, rfl, rfl, rfl, rfl⟩
    replace hF := (if_neg ht3).symm.trans hF
    by_cases ht4 : a1 = 4
    · replace hF := (if_pos ht4).symm.trans hF
      refine z_tableIn (off := 72) (t := 92) dX7_forest_20 (by rw [ht4]; decide) (by rw [ht4]; decide) (by rw [ht4]; rfl) (by decide) ?_
      refine z_aload_n (n := 93) dX7_forest_92 rfl 0 rfl rfl ?_
      refine z_getRS (n := 96) dX7_forest_93 rfl zok6 fX7_77 rfl hM.1 (Or.inl (by decide)) (mF_27 hM) ?_
      refine z_iload_n (n := 97) dX7_forest_96 rfl 1 rfl rfl ?_
      obtain ⟨h_9, hF⟩ := zg_some hF
      refine z_ialdK (n := 98) a0.toNatClampNeg rfl dX7_forest_97 rfl (mK_27 hM) (zin_ok h_9) ?_
      have hF := Option.some.inj hF; subst hF
      exact z_iret dX7_forest_98 rfl rfl ⟨rfl, rfl, rfl, rfl, rfl⟩
    replace hF := (if_neg ht4).symm.trans hF
    by_cases ht5 : a1 = 5
    · replace hF := (if_pos ht5).symm.trans hF
      refine z_tableIn (off := 79) (t := 99) dX7_forest_20 (by rw [ht5]; decide) (by rw [ht5]; decide) (by rw [ht5]; rfl) (by decide) ?_
      refine z_aload_n (n := 100) dX7_forest_99 rfl 0 rfl rfl ?_
      refine z_iload_n (n := 101) dX7_forest_100 rfl 1 rfl rfl ?_
      obtain ⟨x_11, c_10, hF⟩ := zb1_some hF
      refine z_cV (n := 104) (st := []) (C_X7_bandsIn htr hM c_10) dX7_forest_101 rfl (lw_V q2033 q2035 qs76 q131 q2036) hcee_X7_bandsIn rfl (by decide) hM.1 rfl rfl rfl (Nat.le_of_ble_eq_true rfl) (Nat.le_refl _) (Nat.le_refl _) ?_
      have hF := Option.some.inj hF; subst hF
      exact z_iret dX7_forest_104 rfl rfl ⟨rfl, rfl, rfl, rfl, rfl⟩
    replace hF := (if_neg ht5).symm.trans hF
    by_cases ht6 : a1 = 6
    · replace hF := (if_pos ht6).symm.trans hF
      refine z_tableIn (off := 85) (t := 105) dX7_forest_20 (by rw [ht6]; decide) (by rw [ht6]; decide) (by rw [ht6]; rfl) (by decide) ?_
      refine z_aload_n (n := 106) dX7_forest_105 rfl 0 rfl rfl ?_
      refine z_iload_n (n := 107) dX7_forest_106 rfl 1 rfl rfl ?_
      obtain ⟨x_13, c_12, hF⟩ := zb1_some hF
      refine z_cV (n := 110) (st := []) (C_X7_riversOf htr hM c_12) dX7_forest_107 rfl (lw_V q2037 q2039 qs77 q131 q2040) hcee_X7_riversOf rfl (by decide) hM.1 rfl rfl rfl (Nat.le_of_ble_eq_true rfl) (Nat.le_refl _) (Nat.le_refl _) ?_
      have hF := Option.some.inj hF; subst hF
      exact z_iret dX7_forest_110 rfl rfl ⟨rfl, rfl, rfl, rfl, rfl⟩
    replace hF := (if_neg ht6).symm.trans hF
    refine z_tableOut (t := 111) dX7_forest_20 (by have := lv_neT (a := 0) ht0 (by decide); have := lv_neT (a := 1) ht1 (by decide); have := lv_neT (a := 2) ht2 (by decide); have := lv_neT (a := 3) ht3 (by decide); have := lv_neT (a := 4) ht4 (by decide); have := lv_neT (a := 5) ht5 (by decide); have := lv_neT (a := 6) ht6 (by decide); omega) (by decide) ?_
    refine z_aload_n (n := 112) dX7_forest_111 rfl 0 rfl rfl ?_
    refine z_iconst (n := 113) (v := 1) dX7_forest_112 rfl (by decide) ?_
    obtain ⟨x_15, I_16, c_14, hF⟩ := zb2_some hF
    refine z_cV (n := 116) (st := []) (C_X7_fail htr hM c_14) dX7_forest_113 rfl (lw_V q1879 q1881 qs48 q131 q1882) hcee_X7_fail rfl (by decide) hM.1 rfl rfl rfl (Nat.le_of_ble_eq_true rfl) (Nat.le_refl _) (Nat.le_refl _) ?_
    have hF := Option.some.inj hF; subst hF
    exact z_iret dX7_forest_116 rfl rfl ⟨rfl, rfl, rfl, rfl, rfl⟩
  · replace hF := (if_neg hc).symm.trans hF
    refine z_aload_n (n := 14) dX7_forest_13 rfl 0 rfl rfl ?_
    refine z_iconst (n := 15) (v := 1) dX7_forest_14 rfl (by decide) ?_
    obtain ⟨x_18, I_19, c_17, hF⟩ := zb2_some hF
    refine z_cV (n := 18) (st := []) (C_X7_fail htr hM c_17) dX7_forest_15 rfl (lw_V q1879 q1881 qs48 q131 q1882) hcee_X7_fail rfl (by decide) hM.1 rfl rfl rfl (Nat.le_of_ble_eq_true rfl) (Nat.le_refl _) (Nat.le_refl _) ?_
    have hF := Option.some.inj hF; subst hF
    exact z_iret dX7_forest_18 rfl rfl ⟨rfl, rfl, rfl, rfl, rfl⟩
