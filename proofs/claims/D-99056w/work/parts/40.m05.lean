abbrev MX7_allDead : zM := (RX7, cX7_allDead, 3, (some .int), "allDead", [])
noncomputable def F_X7_allDead_L4 (I : zId) (v1_1 : Int32) (v2_2 : Int32) : Option ((Int32 × Int32) ⊕ (Int32)) := if (I 1862 2) ≤ v2_2 then some (.inr (v1_1)) else zg (zin v2_2 6) (zlet (v1_1 + (I 1882 v2_2.toNatClampNeg)) (fun v1_4 => zlet (v2_2 + 1) (fun v2_6 => some (.inl (v1_4, v2_6)))))
noncomputable def F_X7_allDead (I : zId) : Option (Int32) := zb1 (zloop (fun s : Int32 × Int32 => F_X7_allDead_L4 I s.1 s.2) (0, 0)) (fun v1_8 => some v1_8)
set_option maxHeartbeats 1000000 in
theorem W_X7_allDead_L4 {l : Launch} {G : zGt} (htr : l.stackTraces = false) {K : zKd} {F : zFd} {L : zLd} {Q : zQt} {I : zId} {v1_1 : Int32} {v2_2 : Int32} (hM : zMLay K F) {r : (Int32 × Int32) ⊕ (Int32)} (hF : F_X7_allDead_L4 I v1_1 v2_2 = some r) (kl : ∀ (z0 : Int32) (z1 : Int32), r = .inl (z0, z1) → zW l G MX7_allDead 0 0 0 0 4 [(0, .ref 1860), (1, .int z0), (2, .int z1)] [] K F I L Q) (kx : ∀ (y0 : Int32), r = .inr y0 → zW l G MX7_allDead 0 0 0 0 29 [(1, .int y0)] [] K F I L Q)  : zW l G MX7_allDead 0 0 0 0 4 [(0, .ref 1860), (1, .int v1_1), (2, .int v2_2)] [] K F I L Q := by
  unfold F_X7_allDead_L4 at hF
  refine z_iload_n (n := 5) dX7_allDead_4 rfl 2 rfl rfl ?_
  refine z_aload_n (n := 6) dX7_allDead_5 rfl 0 rfl rfl ?_
  refine z_getRS (n := 9) dX7_allDead_6 rfl zok6 fX7_29 rfl hM.1 (Or.inl (by decide)) (mF_2 hM) ?_
  refine z_iconst (n := 10) (v := 2) dX7_allDead_9 rfl (by decide) ?_
  refine z_ialdK (n := 11) 2 (by decide) dX7_allDead_10 rfl (mK_2 hM) (zin_ok (i := 2) (n := 16) rfl) ?_
  refine z_icmp_ge (n := 14) (t := 29) dX7_allDead_11 rfl (by decide) (fun hc => ?_) (fun hc => ?_)
  · replace hF := (if_pos hc).symm.trans hF
    refine z_sub [1] rfl ?_
    have hF := Option.some.inj hF; subst hF
    exact kx _ rfl
  · replace hF := (if_neg hc).symm.trans hF
    refine z_iload_n (n := 15) dX7_allDead_14 rfl 1 rfl rfl ?_
    refine z_aload_n (n := 16) dX7_allDead_15 rfl 0 rfl rfl ?_
    refine z_getRS (n := 19) dX7_allDead_16 rfl zok6 fX7_90 rfl hM.1 (Or.inl (by decide)) (mF_32 hM) ?_
    refine z_iload_n (n := 20) dX7_allDead_19 rfl 2 rfl rfl ?_
    obtain ⟨h_3, hF⟩ := zg_some hF
    refine z_ialdK (n := 21) v2_2.toNatClampNeg rfl dX7_allDead_20 rfl (mK_32 hM) (zin_ok h_3) ?_
    refine z_iadd (n := 22) dX7_allDead_21 rfl ?_
    obtain ⟨v1_4, e_5, hF⟩ := zlet_ob hF
    refine z_istore_nE (n := 23) (lv' := [(1, .int v1_4), (0, .ref 1860), (2, .int v2_2)]) dX7_allDead_22 rfl e_5 rfl (by decide) rfl ?_
    obtain ⟨v2_6, e_7, hF⟩ := zlet_ob hF
    refine z_iincE (n := 26) (w := 1) (v := v2_6) (lv' := [(2, .int v2_6), (1, .int v1_4), (0, .ref 1860)]) dX7_allDead_23 rfl 2 rfl (by decide) e_7 (by decide) rfl ?_
    refine z_goto (t := 4) dX7_allDead_26 (by decide) ?_
    refine z_sub [2, 1, 0] rfl ?_
    have hF := Option.some.inj hF; subst hF
    exact kl _ _ rfl
set_option maxHeartbeats 1000000 in
theorem C_X7_allDead {l : Launch} {G : zGt} (htr : l.stackTraces = false) {K : zKd} {F : zFd} {L : zLd} (hM : zMLay K F) {I : zId} {r : Int32} (hF : F_X7_allDead I = some r) : zMet l G yX7_allDead (ws_ yX7_allDead cX7_allDead 3 (some .int)) 0 0 0 0 [.ref 1860] K F I L (zQe (.inl (some (.int r))) K F I L) := by
  refine zMet.of (by decide +kernel) htr (Nat.le_of_ble_eq_true rfl) ?_
  change zW l G MX7_allDead 0 0 0 0 0 [(0, .ref 1860)] [] K F I L (zQe (.inl (some (.int r))) K F I L)
  unfold F_X7_allDead at hF
  refine z_iconst (n := 1) (v := 0) dX7_allDead_0 rfl (by decide) ?_
  refine z_istore_nE (n := 2) (lv' := [(1, .int 0), (0, .ref 1860)]) dX7_allDead_1 rfl rfl rfl (by decide) rfl ?_
  refine z_iconst (n := 3) (v := 0) dX7_allDead_2 rfl (by decide) ?_
  refine z_istore_nE (n := 4) (lv' := [(2, .int 0), (1, .int 0), (0, .ref 1860)]) dX7_allDead_3 rfl rfl rfl (by decide) rfl ?_
  refine z_sub [2, 1, 0] rfl ?_
  obtain ⟨t_10, e_9, hF⟩ := zb1_some hF
  obtain ⟨v1_8, rfl⟩ : ∃ z, z = t_10 := ⟨_, rfl⟩
  have H_11 : zW l G MX7_allDead 0 0 0 0 29 [(1, .int v1_8)] [] K F I L (zQe (.inl (some (.int r))) K F I L) := by
    refine z_iload_n (n := 30) dX7_allDead_29 rfl 0 rfl rfl ?_
    have hF := Option.some.inj hF; subst hF
    exact z_iret dX7_allDead_30 rfl rfl ⟨rfl, rfl, rfl, rfl, rfl⟩
  refine zloop_ind (P := fun s : Int32 × Int32 => zW l G MX7_allDead 0 0 0 0 4 [(0, .ref 1860), (1, .int s.1), (2, .int s.2)] [] K F I L (zQe (.inl (some (.int r))) K F I L)) (fun s r hb kl kr => ?_) e_9
  exact W_X7_allDead_L4 htr hM hb (fun z0 z1 e => kl _ e) (fun y0 e => by cases kr _ e; exact H_11)
theorem hcee_X7_allDead : zCee yX7_allDead RX7 0 := ⟨rfl, by decide +kernel, by decide +kernel, by decide +kernel⟩
abbrev MX7_hostages : zM := (RX7, cX7_hostages, 3, (some .int), "hostages", [])
noncomputable def F_X7_hostages (a0 : Int32) (I : zId) : Option (Int32 × zId) := zlet (zu I 1860 1 0) (fun I_1 => zb1 (F_X7_isIn a0.toInt64 0 50 I_1) (fun x_4 => if ¬ x_4 = 0 then zb1 (F_X7_pack 1886 57 0 I_1) (fun I_6 => zb1 (F_X7_goOn a0 I_6) (fun I_8 => zb1 (F_X7_allDead I_8) (fun x_10 => zb1 (F_X7_unpack 1886 57 0 I_8) (fun I_12 => zb1 (F_X7_allDead I_12) (fun x_14 => some (x_10 - x_14, I_12)))))) else zb2 (F_X7_fail 1 I_1) (fun x_16 I_17 => some (x_16, I_17))))
set_option maxHeartbeats 1000000 in
theorem C_X7_hostages {l : Launch} {G : zGt} (htr : l.stackTraces = false) {K : zKd} {F : zFd} {L : zLd} {a0 : Int32} (hM : zMLay K F) {I : zId} {r : Int32 × zId} (hF : F_X7_hostages a0 I = some r) : zMet l G yX7_hostages (ws_ yX7_hostages cX7_hostages 3 (some .int)) 6 135 0 0 [.ref 1860, .int a0] K F I L (zQe (.inl (some (.int r.1))) K F r.2 L) := by
  refine zMet.of (by decide +kernel) htr (Nat.le_of_ble_eq_true rfl) ?_
  change zW l G MX7_hostages 6 135 0 0 0 [(0, .ref 1860), (1, .int a0)] [] K F I L (zQe (.inl (some (.int r.1))) K F r.2 L)
  unfold F_X7_hostages at hF
  refine z_aload_n (n := 1) dX7_hostages_0 rfl 0 rfl rfl ?_
  refine z_iconst (n := 2) (v := 0) dX7_hostages_1 rfl (by decide) ?_
  obtain ⟨I_1, e_2, hF⟩ := zlet_ob hF
  refine z_putIE (n := 5) dX7_hostages_2 rfl zok6 fX7_150 (Or.inl ⟨_, rfl, rfl⟩) rfl ⟨rfl, rfl⟩ hM.1 (by decide) e_2 ?_
  refine z_iload_n (n := 6) dX7_hostages_5 rfl 1 rfl rfl ?_
  refine z_i2l (n := 7) dX7_hostages_6 rfl ?_
  refine z_lconst (n := 8) (v := 0) dX7_hostages_7 rfl (by decide) ?_
  refine z_ldc2 (n := 11) dX7_hostages_8 rfl q2121 ?_
  obtain ⟨x_4, c_3, hF⟩ := zb1_some hF
  refine z_cS (n := 14) (st := []) (C_X7_isIn htr c_3) dX7_hostages_11 rfl (lw_S q2030 q2031 q131 q2032) hcee_X7_isIn rfl (by decide) rfl (Nat.le_of_ble_eq_true rfl) (Nat.le_refl _) (Nat.le_refl _) ?_
  refine z_if_ne (n := 17) (t := 23) dX7_hostages_14 rfl (by decide) (fun hc => ?_) (fun hc => ?_)
  · replace hF := (if_pos hc).symm.trans hF
    refine z_aload_n (n := 24) dX7_hostages_23 rfl 0 rfl rfl ?_
    refine z_aload_n (n := 25) dX7_hostages_24 rfl 0 rfl rfl ?_
    refine z_getRS (n := 28) dX7_hostages_25 rfl zok6 fX7_102 rfl hM.1 (Or.inl (by decide)) (mF_42 hM) ?_
    refine z_iconst (n := 29) (v := 0) dX7_hostages_28 rfl (by decide) ?_
    obtain ⟨I_6, c_5, hF⟩ := zb1_some hF
    refine z_cV (n := 32) (st := []) (C_X7_pack htr hM (mK_42 hM) (by decide) c_5) dX7_hostages_29 rfl (lw_V q2081 q2083 qs84 q131 q2084) hcee_X7_pack rfl (by decide) hM.1 rfl rfl rfl (Nat.le_of_ble_eq_true rfl) (Nat.le_refl _) (Nat.le_refl _) ?_
    refine z_aload_n (n := 33) dX7_hostages_32 rfl 0 rfl rfl ?_
    refine z_iload_n (n := 34) dX7_hostages_33 rfl 1 rfl rfl ?_
    obtain ⟨I_8, c_7, hF⟩ := zb1_some hF
    refine z_cV (n := 37) (st := []) (C_X7_goOn htr hM c_7) dX7_hostages_34 rfl (lw_V q2085 q2087 qs85 q131 q2088) hcee_X7_goOn rfl (by decide) hM.1 rfl rfl rfl (Nat.le_of_ble_eq_true rfl) (Nat.le_refl _) (Nat.le_refl _) ?_
    refine z_aload_n (n := 38) dX7_hostages_37 rfl 0 rfl rfl ?_
    obtain ⟨x_10, c_9, hF⟩ := zb1_some hF
    refine z_cV (n := 41) (st := []) (C_X7_allDead htr hM c_9) dX7_hostages_38 rfl (lw_V q2155 q2157 qs92 q131 q2158) hcee_X7_allDead rfl (by decide) hM.1 rfl rfl rfl (Nat.le_of_ble_eq_true rfl) (Nat.le_refl _) (Nat.le_refl _) ?_
    refine z_istore_nE (n := 42) (lv' := [(2, .int x_10), (0, .ref 1860), (1, .int a0)]) dX7_hostages_41 rfl rfl rfl (by decide) rfl ?_
    refine z_aload_n (n := 43) dX7_hostages_42 rfl 1 rfl rfl ?_
    refine z_aload_n (n := 44) dX7_hostages_43 rfl 1 rfl rfl ?_
    refine z_getRS (n := 47) dX7_hostages_44 rfl zok6 fX7_102 rfl hM.1 (Or.inl (by decide)) (mF_42 hM) ?_
    refine z_iconst (n := 48) (v := 0) dX7_hostages_47 rfl (by decide) ?_
    obtain ⟨I_12, c_11, hF⟩ := zb1_some hF
    refine z_cV (n := 51) (st := []) (C_X7_unpack htr hM (mK_42 hM) (by decide) c_11) dX7_hostages_48 rfl (lw_V q2135 q2137 qs91 q131 q2138) hcee_X7_unpack rfl (by decide) hM.1 rfl rfl rfl (Nat.le_of_ble_eq_true rfl) (Nat.le_refl _) (Nat.le_refl _) ?_
    refine z_iload_n (n := 52) dX7_hostages_51 rfl 0 rfl rfl ?_
    refine z_aload_n (n := 53) dX7_hostages_52 rfl 1 rfl rfl ?_
    obtain ⟨x_14, c_13, hF⟩ := zb1_some hF
    refine z_cV (n := 56) (st := [.int x_10]) (C_X7_allDead htr hM c_13) dX7_hostages_53 rfl (lw_V q2155 q2157 qs92 q131 q2158) hcee_X7_allDead rfl (by decide) hM.1 rfl rfl rfl (Nat.le_of_ble_eq_true rfl) (Nat.le_refl _) (Nat.le_refl _) ?_
    refine z_isub (n := 57) dX7_hostages_56 rfl ?_
    have hF := Option.some.inj hF; subst hF
    exact z_iret dX7_hostages_57 rfl rfl ⟨rfl, rfl, rfl, rfl, rfl⟩
  · replace hF := (if_neg hc).symm.trans hF
    refine z_aload_n (n := 18) dX7_hostages_17 rfl 0 rfl rfl ?_
    refine z_iconst (n := 19) (v := 1) dX7_hostages_18 rfl (by decide) ?_
    obtain ⟨x_16, I_17, c_15, hF⟩ := zb2_some hF
    refine z_cV (n := 22) (st := []) (C_X7_fail htr hM c_15) dX7_hostages_19 rfl (lw_V q1879 q1881 qs48 q131 q1882) hcee_X7_fail rfl (by decide) hM.1 rfl rfl rfl (Nat.le_of_ble_eq_true rfl) (Nat.le_refl _) (Nat.le_refl _) ?_
    have hF := Option.some.inj hF; subst hF
    exact z_iret dX7_hostages_22 rfl rfl ⟨rfl, rfl, rfl, rfl, rfl⟩
abbrev MX7_owing : zM := (RX7, cX7_owing, 5, (some .int), "owing", [])
noncomputable def F_X7_owing_L44 (I_8 : zId) (v2_9 : Int32) (v3_10 : Int32) (v4_11 : Int32) : Option ((Int32 × Int32 × Int32) ⊕ (Int32)) := if (I_8 1862 2) ≤ v4_11 then some (.inr (v2_9)) else zg (zin v4_11 6) (if v3_10 < (I_8 1881 v4_11.toNatClampNeg) then zg (zin v4_11 6) (zlet (I_8 1881 v4_11.toNatClampNeg) (fun v3_14 => zlet (v4_11 + 1) (fun v4_16 => some (.inl (v4_11, v3_14, v4_16))))) else zlet (v4_11 + 1) (fun v4_18 => some (.inl (v2_9, v3_10, v4_18))))
noncomputable def F_X7_owing (a0 : Int32) (I : zId) : Option (Int32 × zId) := zlet (zu I 1860 1 0) (fun I_1 => zb1 (F_X7_isIn a0.toInt64 0 50 I_1) (fun x_4 => if ¬ x_4 = 0 then zb1 (F_X7_pack 1886 57 0 I_1) (fun I_6 => zb1 (F_X7_goOn a0 I_6) (fun I_8 => zb1 (zloop (fun s : Int32 × Int32 × Int32 => F_X7_owing_L44 I_8 s.1 s.2.1 s.2.2) ((-1), 0, 0)) (fun v2_20 => zb1 (F_X7_unpack 1886 57 0 I_8) (fun I_23 => some (v2_20, I_23))))) else zb2 (F_X7_fail 1 I_1) (fun x_27 I_28 => some (x_27, I_28))))
set_option maxHeartbeats 1000000 in
theorem W_X7_owing_L44 {l : Launch} {G : zGt} (htr : l.stackTraces = false) {K : zKd} {F : zFd} {L : zLd} {Q : zQt} {a0 : Int32} {I_8 : zId} {v2_9 : Int32} {v3_10 : Int32} {v4_11 : Int32} (hM : zMLay K F) {r : (Int32 × Int32 × Int32) ⊕ (Int32)} (hF : F_X7_owing_L44 I_8 v2_9 v3_10 v4_11 = some r) (kl : ∀ (z0 : Int32) (z1 : Int32) (z2 : Int32), r = .inl (z0, z1, z2) → zW l G MX7_owing 6 135 0 0 44 [(0, .ref 1860), (2, .int z0), (3, .int z1), (4, .int z2)] [] K F I_8 L Q) (kx : ∀ (y0 : Int32), r = .inr y0 → zW l G MX7_owing 6 135 0 0 86 [(0, .ref 1860), (2, .int y0)] [] K F I_8 L Q)  : zW l G MX7_owing 6 135 0 0 44 [(0, .ref 1860), (2, .int v2_9), (3, .int v3_10), (4, .int v4_11)] [] K F I_8 L Q := by
  unfold F_X7_owing_L44 at hF
  refine z_iload (n := 46) dX7_owing_44 rfl 3 rfl ?_
  refine z_aload_n (n := 47) dX7_owing_46 rfl 0 rfl rfl ?_
  refine z_getRS (n := 50) dX7_owing_47 rfl zok6 fX7_29 rfl hM.1 (Or.inl (by decide)) (mF_2 hM) ?_
  refine z_iconst (n := 51) (v := 2) dX7_owing_50 rfl (by decide) ?_
  refine z_ialdK (n := 52) 2 (by decide) dX7_owing_51 rfl (mK_2 hM) (zin_ok (i := 2) (n := 16) rfl) ?_
  refine z_icmp_ge (n := 55) (t := 86) dX7_owing_52 rfl (by decide) (fun hc => ?_) (fun hc => ?_)
  · replace hF := (if_pos hc).symm.trans hF
    refine z_sub [0, 1] rfl ?_
    have hF := Option.some.inj hF; subst hF
    exact kx _ rfl
  · replace hF := (if_neg hc).symm.trans hF
    refine z_aload_n (n := 56) dX7_owing_55 rfl 0 rfl rfl ?_
    refine z_getRS (n := 59) dX7_owing_56 rfl zok6 fX7_88 rfl hM.1 (Or.inl (by decide)) (mF_31 hM) ?_
    refine z_iload (n := 61) dX7_owing_59 rfl 3 rfl ?_
    obtain ⟨h_12, hF⟩ := zg_some hF
    refine z_ialdK (n := 62) v4_11.toNatClampNeg rfl dX7_owing_61 rfl (mK_31 hM) (zin_ok h_12) ?_
    refine z_iload_n (n := 63) dX7_owing_62 rfl 2 rfl rfl ?_
    refine z_icmp_gt (n := 66) (t := 69) dX7_owing_63 rfl (by decide) (fun hc => ?_) (fun hc => ?_)
    · replace hF := (if_pos hc).symm.trans hF
      refine z_iload (n := 71) dX7_owing_69 rfl 3 rfl ?_
      refine z_istore_nE (n := 72) (lv' := [(2, .int v4_11), (0, .ref 1860), (3, .int v3_10), (4, .int v4_11)]) dX7_owing_71 rfl rfl rfl (by decide) rfl ?_
      refine z_aload_n (n := 73) dX7_owing_72 rfl 1 rfl rfl ?_
      refine z_getRS (n := 76) dX7_owing_73 rfl zok6 fX7_88 rfl hM.1 (Or.inl (by decide)) (mF_31 hM) ?_
      refine z_iload (n := 78) dX7_owing_76 rfl 3 rfl ?_
      obtain ⟨h_13, hF⟩ := zg_some hF
      refine z_ialdK (n := 79) v4_11.toNatClampNeg rfl dX7_owing_78 rfl (mK_31 hM) (zin_ok h_13) ?_
      obtain ⟨v3_14, e_15, hF⟩ := zlet_ob hF
      refine z_istore_nE (n := 80) (lv' := [(3, .int v3_14), (2, .int v4_11), (0, .ref 1860), (4, .int v4_11)]) dX7_owing_79 rfl e_15 rfl (by decide) rfl ?_
      obtain ⟨v4_16, e_17, hF⟩ := zlet_ob hF
      refine z_iincE (n := 83) (w := 1) (v := v4_16) (lv' := [(4, .int v4_16), (3, .int v3_14), (2, .int v4_11), (0, .ref 1860)]) dX7_owing_80 rfl 3 rfl (by decide) e_17 (by decide) rfl ?_
      refine z_goto (t := 44) dX7_owing_83 (by decide) ?_
      refine z_sub [3, 2, 1, 0] rfl ?_
      have hF := Option.some.inj hF; subst hF
      exact kl _ _ _ rfl
    · replace hF := (if_neg hc).symm.trans hF
      refine z_goto (t := 80) dX7_owing_66 (by decide) ?_
      obtain ⟨v4_18, e_19, hF⟩ := zlet_ob hF
      refine z_iincE (n := 83) (w := 1) (v := v4_18) (lv' := [(4, .int v4_18), (0, .ref 1860), (2, .int v2_9), (3, .int v3_10)]) dX7_owing_80 rfl 3 rfl (by decide) e_19 (by decide) rfl ?_
      refine z_goto (t := 44) dX7_owing_83 (by decide) ?_
      refine z_sub [1, 2, 3, 0] rfl ?_
      have hF := Option.some.inj hF; subst hF
      exact kl _ _ _ rfl
set_option maxHeartbeats 1000000 in
theorem C_X7_owing {l : Launch} {G : zGt} (htr : l.stackTraces = false) {K : zKd} {F : zFd} {L : zLd} {a0 : Int32} (hM : zMLay K F) {I : zId} {r : Int32 × zId} (hF : F_X7_owing a0 I = some r) : zMet l G yX7_owing (ws_ yX7_owing cX7_owing 5 (some .int)) 6 135 0 0 [.ref 1860, .int a0] K F I L (zQe (.inl (some (.int r.1))) K F r.2 L) := by
  refine zMet.of (by decide +kernel) htr (Nat.le_of_ble_eq_true rfl) ?_
  change zW l G MX7_owing 6 135 0 0 0 [(0, .ref 1860), (1, .int a0)] [] K F I L (zQe (.inl (some (.int r.1))) K F r.2 L)
  unfold F_X7_owing at hF
  refine z_aload_n (n := 1) dX7_owing_0 rfl 0 rfl rfl ?_
  refine z_iconst (n := 2) (v := 0) dX7_owing_1 rfl (by decide) ?_
  obtain ⟨I_1, e_2, hF⟩ := zlet_ob hF
  refine z_putIE (n := 5) dX7_owing_2 rfl zok6 fX7_150 (Or.inl ⟨_, rfl, rfl⟩) rfl ⟨rfl, rfl⟩ hM.1 (by decide) e_2 ?_
  refine z_iload_n (n := 6) dX7_owing_5 rfl 1 rfl rfl ?_
  refine z_i2l (n := 7) dX7_owing_6 rfl ?_
  refine z_lconst (n := 8) (v := 0) dX7_owing_7 rfl (by decide) ?_
  refine z_ldc2 (n := 11) dX7_owing_8 rfl q2121 ?_
  obtain ⟨x_4, c_3, hF⟩ := zb1_some hF
  refine z_cS (n := 14) (st := []) (C_X7_isIn htr c_3) dX7_owing_11 rfl (lw_S q2030 q2031 q131 q2032) hcee_X7_isIn rfl (by decide) rfl (Nat.le_of_ble_eq_true rfl) (Nat.le_refl _) (Nat.le_refl _) ?_
  refine z_if_ne (n := 17) (t := 23) dX7_owing_14 rfl (by decide) (fun hc => ?_) (fun hc => ?_)
  · replace hF := (if_pos hc).symm.trans hF
    refine z_aload_n (n := 24) dX7_owing_23 rfl 0 rfl rfl ?_
    refine z_aload_n (n := 25) dX7_owing_24 rfl 0 rfl rfl ?_
    refine z_getRS (n := 28) dX7_owing_25 rfl zok6 fX7_102 rfl hM.1 (Or.inl (by decide)) (mF_42 hM) ?_
    refine z_iconst (n := 29) (v := 0) dX7_owing_28 rfl (by decide) ?_
    obtain ⟨I_6, c_5, hF⟩ := zb1_some hF
    refine z_cV (n := 32) (st := []) (C_X7_pack htr hM (mK_42 hM) (by decide) c_5) dX7_owing_29 rfl (lw_V q2081 q2083 qs84 q131 q2084) hcee_X7_pack rfl (by decide) hM.1 rfl rfl rfl (Nat.le_of_ble_eq_true rfl) (Nat.le_refl _) (Nat.le_refl _) ?_
    refine z_aload_n (n := 33) dX7_owing_32 rfl 0 rfl rfl ?_
    refine z_iload_n (n := 34) dX7_owing_33 rfl 1 rfl rfl ?_
    obtain ⟨I_8, c_7, hF⟩ := zb1_some hF
    refine z_cV (n := 37) (st := []) (C_X7_goOn htr hM c_7) dX7_owing_34 rfl (lw_V q2085 q2087 qs85 q131 q2088) hcee_X7_goOn rfl (by decide) hM.1 rfl rfl rfl (Nat.le_of_ble_eq_true rfl) (Nat.le_refl _) (Nat.le_refl _) ?_
    refine z_iconst (n := 38) (v := (-1)) dX7_owing_37 rfl (by decide) ?_
    refine z_istore_nE (n := 39) (lv' := [(2, .int (-1)), (0, .ref 1860), (1, .int a0)]) dX7_owing_38 rfl rfl rfl (by decide) rfl ?_
    refine z_iconst (n := 40) (v := 0) dX7_owing_39 rfl (by decide) ?_
    refine z_istore_nE (n := 41) (lv' := [(3, .int 0), (2, .int (-1)), (0, .ref 1860), (1, .int a0)]) dX7_owing_40 rfl rfl rfl (by decide) rfl ?_
    refine z_iconst (n := 42) (v := 0) dX7_owing_41 rfl (by decide) ?_
    refine z_istoreE (n := 44) (lv' := [(4, .int 0), (3, .int 0), (2, .int (-1)), (0, .ref 1860), (1, .int a0)]) dX7_owing_42 rfl rfl (by decide) rfl ?_
    refine z_sub [3, 2, 1, 0] rfl ?_
    obtain ⟨t_24, e_21, hF⟩ := zb1_some hF
    obtain ⟨v2_20, rfl⟩ : ∃ z, z = t_24 := ⟨_, rfl⟩
    have H_25 : zW l G MX7_owing 6 135 0 0 86 [(0, .ref 1860), (2, .int v2_20)] [] K F I_8 L (zQe (.inl (some (.int r.1))) K F r.2 L) := by
      refine z_aload_n (n := 87) dX7_owing_86 rfl 0 rfl rfl ?_
      refine z_aload_n (n := 88) dX7_owing_87 rfl 0 rfl rfl ?_
      refine z_getRS (n := 91) dX7_owing_88 rfl zok6 fX7_102 rfl hM.1 (Or.inl (by decide)) (mF_42 hM) ?_
      refine z_iconst (n := 92) (v := 0) dX7_owing_91 rfl (by decide) ?_
      obtain ⟨I_23, c_22, hF⟩ := zb1_some hF
      refine z_cV (n := 95) (st := []) (C_X7_unpack htr hM (mK_42 hM) (by decide) c_22) dX7_owing_92 rfl (lw_V q2135 q2137 qs91 q131 q2138) hcee_X7_unpack rfl (by decide) hM.1 rfl rfl rfl (Nat.le_of_ble_eq_true rfl) (Nat.le_refl _) (Nat.le_refl _) ?_
      refine z_iload_n (n := 96) dX7_owing_95 rfl 1 rfl rfl ?_
      have hF := Option.some.inj hF; subst hF
      exact z_iret dX7_owing_96 rfl rfl ⟨rfl, rfl, rfl, rfl, rfl⟩
    refine zloop_ind (P := fun s : Int32 × Int32 × Int32 => zW l G MX7_owing 6 135 0 0 44 [(0, .ref 1860), (2, .int s.1), (3, .int s.2.1), (4, .int s.2.2)] [] K F I_8 L (zQe (.inl (some (.int r.1))) K F r.2 L)) (fun s r hb kl kr => ?_) e_21
    exact W_X7_owing_L44 (a0 := a0) htr hM hb (fun z0 z1 z2 e => kl _ e) (fun y0 e => by cases kr _ e; exact H_25)
  · replace hF := (if_neg hc).symm.trans hF
    refine z_aload_n (n := 18) dX7_owing_17 rfl 0 rfl rfl ?_
    refine z_iconst (n := 19) (v := 1) dX7_owing_18 rfl (by decide) ?_
    obtain ⟨x_27, I_28, c_26, hF⟩ := zb2_some hF
    refine z_cV (n := 22) (st := []) (C_X7_fail htr hM c_26) dX7_owing_19 rfl (lw_V q1879 q1881 qs48 q131 q1882) hcee_X7_fail rfl (by decide) hM.1 rfl rfl rfl (Nat.le_of_ble_eq_true rfl) (Nat.le_refl _) (Nat.le_refl _) ?_
    have hF := Option.some.inj hF; subst hF
    exact z_iret dX7_owing_22 rfl rfl ⟨rfl, rfl, rfl, rfl, rfl⟩
abbrev MX7_blackest : zM := (RX7, cX7_blackest, 4, (some .int), "blackest", [])
noncomputable def F_X7_blackest_L11 (I_1 : zId) (v1_3 : Int32) (v2_4 : Int32) (v3_5 : Int32) : Option ((Int32 × Int32 × Int32) ⊕ (Int32)) := if (I_1 1862 0) ≤ v3_5 then some (.inr (v1_3)) else zg (zin v3_5 8) (if v2_4 < (I_1 1876 v3_5.toNatClampNeg) then zg (zin v3_5 8) (zlet (I_1 1876 v3_5.toNatClampNeg) (fun v2_8 => zlet (v3_5 + 1) (fun v3_10 => some (.inl (v3_5, v2_8, v3_10))))) else zlet (v3_5 + 1) (fun v3_12 => some (.inl (v1_3, v2_4, v3_12))))
noncomputable def F_X7_blackest (I : zId) : Option (Int32 × zId) := zlet (zu I 1860 1 0) (fun I_1 => zb1 (zloop (fun s : Int32 × Int32 × Int32 => F_X7_blackest_L11 I_1 s.1 s.2.1 s.2.2) ((-1), 0, 0)) (fun v1_14 => some (v1_14, I_1)))
set_option maxHeartbeats 1000000 in
theorem W_X7_blackest_L11 {l : Launch} {G : zGt} (htr : l.stackTraces = false) {K : zKd} {F : zFd} {L : zLd} {Q : zQt} {I_1 : zId} {v1_3 : Int32} {v2_4 : Int32} {v3_5 : Int32} (hM : zMLay K F) {r : (Int32 × Int32 × Int32) ⊕ (Int32)} (hF : F_X7_blackest_L11 I_1 v1_3 v2_4 v3_5 = some r) (kl : ∀ (z0 : Int32) (z1 : Int32) (z2 : Int32), r = .inl (z0, z1, z2) → zW l G MX7_blackest 0 0 0 0 11 [(0, .ref 1860), (1, .int z0), (2, .int z1), (3, .int z2)] [] K F I_1 L Q) (kx : ∀ (y0 : Int32), r = .inr y0 → zW l G MX7_blackest 0 0 0 0 49 [(1, .int y0)] [] K F I_1 L Q)  : zW l G MX7_blackest 0 0 0 0 11 [(0, .ref 1860), (1, .int v1_3), (2, .int v2_4), (3, .int v3_5)] [] K F I_1 L Q := by
  unfold F_X7_blackest_L11 at hF
  refine z_iload_n (n := 12) dX7_blackest_11 rfl 3 rfl rfl ?_
  refine z_aload_n (n := 13) dX7_blackest_12 rfl 0 rfl rfl ?_
  refine z_getRS (n := 16) dX7_blackest_13 rfl zok6 fX7_29 rfl hM.1 (Or.inl (by decide)) (mF_2 hM) ?_
  refine z_iconst (n := 17) (v := 0) dX7_blackest_16 rfl (by decide) ?_
  refine z_ialdK (n := 18) 0 (by decide) dX7_blackest_17 rfl (mK_2 hM) (zin_ok (i := 0) (n := 16) rfl) ?_
  refine z_icmp_ge (n := 21) (t := 49) dX7_blackest_18 rfl (by decide) (fun hc => ?_) (fun hc => ?_)
  · replace hF := (if_pos hc).symm.trans hF
    refine z_sub [1] rfl ?_
    have hF := Option.some.inj hF; subst hF
    exact kx _ rfl
  · replace hF := (if_neg hc).symm.trans hF
    refine z_aload_n (n := 22) dX7_blackest_21 rfl 0 rfl rfl ?_
    refine z_getRS (n := 25) dX7_blackest_22 rfl zok6 fX7_74 rfl hM.1 (Or.inl (by decide)) (mF_26 hM) ?_
    refine z_iload_n (n := 26) dX7_blackest_25 rfl 3 rfl rfl ?_
    obtain ⟨h_6, hF⟩ := zg_some hF
    refine z_ialdK (n := 27) v3_5.toNatClampNeg rfl dX7_blackest_26 rfl (mK_26 hM) (zin_ok h_6) ?_
    refine z_iload_n (n := 28) dX7_blackest_27 rfl 2 rfl rfl ?_
    refine z_icmp_gt (n := 31) (t := 34) dX7_blackest_28 rfl (by decide) (fun hc => ?_) (fun hc => ?_)
    · replace hF := (if_pos hc).symm.trans hF
      refine z_iload_n (n := 35) dX7_blackest_34 rfl 3 rfl rfl ?_
      refine z_istore_nE (n := 36) (lv' := [(1, .int v3_5), (0, .ref 1860), (2, .int v2_4), (3, .int v3_5)]) dX7_blackest_35 rfl rfl rfl (by decide) rfl ?_
      refine z_aload_n (n := 37) dX7_blackest_36 rfl 1 rfl rfl ?_
      refine z_getRS (n := 40) dX7_blackest_37 rfl zok6 fX7_74 rfl hM.1 (Or.inl (by decide)) (mF_26 hM) ?_
      refine z_iload_n (n := 41) dX7_blackest_40 rfl 3 rfl rfl ?_
      obtain ⟨h_7, hF⟩ := zg_some hF
      refine z_ialdK (n := 42) v3_5.toNatClampNeg rfl dX7_blackest_41 rfl (mK_26 hM) (zin_ok h_7) ?_
      obtain ⟨v2_8, e_9, hF⟩ := zlet_ob hF
      refine z_istore_nE (n := 43) (lv' := [(2, .int v2_8), (1, .int v3_5), (0, .ref 1860), (3, .int v3_5)]) dX7_blackest_42 rfl e_9 rfl (by decide) rfl ?_
      obtain ⟨v3_10, e_11, hF⟩ := zlet_ob hF
      refine z_iincE (n := 46) (w := 1) (v := v3_10) (lv' := [(3, .int v3_10), (2, .int v2_8), (1, .int v3_5), (0, .ref 1860)]) dX7_blackest_43 rfl 3 rfl (by decide) e_11 (by decide) rfl ?_
      refine z_goto (t := 11) dX7_blackest_46 (by decide) ?_
      refine z_sub [3, 2, 1, 0] rfl ?_
      have hF := Option.some.inj hF; subst hF
      exact kl _ _ _ rfl
    · replace hF := (if_neg hc).symm.trans hF
      refine z_goto (t := 43) dX7_blackest_31 (by decide) ?_
      obtain ⟨v3_12, e_13, hF⟩ := zlet_ob hF
      refine z_iincE (n := 46) (w := 1) (v := v3_12) (lv' := [(3, .int v3_12), (0, .ref 1860), (1, .int v1_3), (2, .int v2_4)]) dX7_blackest_43 rfl 3 rfl (by decide) e_13 (by decide) rfl ?_
      refine z_goto (t := 11) dX7_blackest_46 (by decide) ?_
      refine z_sub [1, 2, 3, 0] rfl ?_
      have hF := Option.some.inj hF; subst hF
      exact kl _ _ _ rfl
set_option maxHeartbeats 1000000 in
theorem C_X7_blackest {l : Launch} {G : zGt} (htr : l.stackTraces = false) {K : zKd} {F : zFd} {L : zLd} (hM : zMLay K F) {I : zId} {r : Int32 × zId} (hF : F_X7_blackest I = some r) : zMet l G yX7_blackest (ws_ yX7_blackest cX7_blackest 4 (some .int)) 0 0 0 0 [.ref 1860] K F I L (zQe (.inl (some (.int r.1))) K F r.2 L) := by
  refine zMet.of (by decide +kernel) htr (Nat.le_of_ble_eq_true rfl) ?_
  change zW l G MX7_blackest 0 0 0 0 0 [(0, .ref 1860)] [] K F I L (zQe (.inl (some (.int r.1))) K F r.2 L)
  unfold F_X7_blackest at hF
  refine z_aload_n (n := 1) dX7_blackest_0 rfl 0 rfl rfl ?_
  refine z_iconst (n := 2) (v := 0) dX7_blackest_1 rfl (by decide) ?_
  obtain ⟨I_1, e_2, hF⟩ := zlet_ob hF
  refine z_putIE (n := 5) dX7_blackest_2 rfl zok6 fX7_150 (Or.inl ⟨_, rfl, rfl⟩) rfl ⟨rfl, rfl⟩ hM.1 (by decide) e_2 ?_
  refine z_iconst (n := 6) (v := (-1)) dX7_blackest_5 rfl (by decide) ?_
  refine z_istore_nE (n := 7) (lv' := [(1, .int (-1)), (0, .ref 1860)]) dX7_blackest_6 rfl rfl rfl (by decide) rfl ?_
  refine z_iconst (n := 8) (v := 0) dX7_blackest_7 rfl (by decide) ?_
  refine z_istore_nE (n := 9) (lv' := [(2, .int 0), (1, .int (-1)), (0, .ref 1860)]) dX7_blackest_8 rfl rfl rfl (by decide) rfl ?_
  refine z_iconst (n := 10) (v := 0) dX7_blackest_9 rfl (by decide) ?_
  refine z_istore_nE (n := 11) (lv' := [(3, .int 0), (2, .int 0), (1, .int (-1)), (0, .ref 1860)]) dX7_blackest_10 rfl rfl rfl (by decide) rfl ?_
  refine z_sub [3, 2, 1, 0] rfl ?_
  obtain ⟨t_16, e_15, hF⟩ := zb1_some hF
  obtain ⟨v1_14, rfl⟩ : ∃ z, z = t_16 := ⟨_, rfl⟩
  have H_17 : zW l G MX7_blackest 0 0 0 0 49 [(1, .int v1_14)] [] K F I_1 L (zQe (.inl (some (.int r.1))) K F r.2 L) := by
    refine z_iload_n (n := 50) dX7_blackest_49 rfl 0 rfl rfl ?_
    have hF := Option.some.inj hF; subst hF
    exact z_iret dX7_blackest_50 rfl rfl ⟨rfl, rfl, rfl, rfl, rfl⟩
  refine zloop_ind (P := fun s : Int32 × Int32 × Int32 => zW l G MX7_blackest 0 0 0 0 11 [(0, .ref 1860), (1, .int s.1), (2, .int s.2.1), (3, .int s.2.2)] [] K F I_1 L (zQe (.inl (some (.int r.1))) K F r.2 L)) (fun s r hb kl kr => ?_) e_15
  exact W_X7_blackest_L11 htr hM hb (fun z0 z1 z2 e => kl _ e) (fun y0 e => by cases kr _ e; exact H_17)
abbrev MX7_lastBlack : zM := (RX7, cX7_lastBlack, 5, (some .int), "lastBlack", [])
noncomputable def F_X7_lastBlack_L36 (v2_8 : Int32) (v3_9 : Int32) (v4_10 : Int32) (I_11 : zId) : Option ((Int32 × Int32 × Int32 × zId) ⊕ (Int32 × Int32 × zId)) := if 50 < v4_10 then some (.inr ((v2_8, v3_9, I_11))) else zb1 (F_X7_aYear I_11) (fun I_13 => if ¬ (I_13 1860 41) = (-1) then zlet (I_13 1860 41) (fun v3_14 => zlet (v4_10 + 1) (fun v4_16 => some (.inl (v4_10, v3_14, v4_16, I_13)))) else zlet (v4_10 + 1) (fun v4_18 => some (.inl (v2_8, v3_9, v4_18, I_13))))
noncomputable def F_X7_lastBlack (a0 : Int32) (I : zId) : Option (Int32 × zId) := zlet (zu I 1860 1 0) (fun I_1 => if a0 < 0 then zb2 (F_X7_fail 1 I_1) (fun x_4 I_5 => some (x_4, I_5)) else if a0 ≤ 1 then zb1 (F_X7_pack 1886 57 0 I_1) (fun I_7 => zb1 (zloop (fun s : Int32 × Int32 × Int32 × zId => F_X7_lastBlack_L36 s.1 s.2.1 s.2.2.1 s.2.2.2) ((-1), (-1), 1, I_7)) (zn3 (fun v2_20 v3_21 I_22 => zb1 (F_X7_unpack 1886 57 0 I_22) (fun I_25 => if ¬ a0 = 0 then some (v3_21, I_25) else some (v2_20, I_25))))) else zb2 (F_X7_fail 1 I_1) (fun x_29 I_30 => some (x_29, I_30)))
set_option maxHeartbeats 1000000 in
theorem W_X7_lastBlack_L36 {l : Launch} {G : zGt} (htr : l.stackTraces = false) {K : zKd} {F : zFd} {L : zLd} {Q : zQt} {a0 : Int32} {v2_8 : Int32} {v3_9 : Int32} {v4_10 : Int32} {I_11 : zId} (hM : zMLay K F) {r : (Int32 × Int32 × Int32 × zId) ⊕ (Int32 × Int32 × zId)} (hF : F_X7_lastBlack_L36 v2_8 v3_9 v4_10 I_11 = some r) (kl : ∀ (z0 : Int32) (z1 : Int32) (z2 : Int32) (z3 : zId), r = .inl (z0, z1, z2, z3) → zW l G MX7_lastBlack 5 113 0 0 36 [(0, .ref 1860), (1, .int a0), (2, .int z0), (3, .int z1), (4, .int z2)] [] K F z3 L Q) (kx : ∀ (y0 : Int32) (y1 : Int32) (y2 : zId), r = .inr (y0, y1, y2) → zW l G MX7_lastBlack 5 113 0 0 72 [(0, .ref 1860), (1, .int a0), (2, .int y0), (3, .int y1)] [] K F y2 L Q)  : zW l G MX7_lastBlack 5 113 0 0 36 [(0, .ref 1860), (1, .int a0), (2, .int v2_8), (3, .int v3_9), (4, .int v4_10)] [] K F I_11 L Q := by
  unfold F_X7_lastBlack_L36 at hF
  refine z_iload (n := 38) dX7_lastBlack_36 rfl 4 rfl ?_
  refine z_bipush (n := 40) (v := 50) dX7_lastBlack_38 rfl (by decide) ?_
  refine z_icmp_gt (n := 43) (t := 72) dX7_lastBlack_40 rfl (by decide) (fun hc => ?_) (fun hc => ?_)
  · replace hF := (if_pos hc).symm.trans hF
    refine z_sub [0, 1, 2, 3] rfl ?_
    have hF := Option.some.inj hF; subst hF
    exact kx _ _ _ rfl
  · replace hF := (if_neg hc).symm.trans hF
    refine z_aload_n (n := 44) dX7_lastBlack_43 rfl 0 rfl rfl ?_
    obtain ⟨I_13, c_12, hF⟩ := zb1_some hF
    refine z_cV (n := 47) (st := []) (C_X7_aYear htr hM c_12) dX7_lastBlack_44 rfl (lw_V q2089 q2091 qs86 q131 q2092) hcee_X7_aYear rfl (by decide) hM.1 rfl rfl rfl (Nat.le_of_ble_eq_true rfl) (Nat.le_refl _) (Nat.le_refl _) ?_
    refine z_aload_n (n := 48) dX7_lastBlack_47 rfl 0 rfl rfl ?_
    refine z_getI (n := 51) dX7_lastBlack_48 rfl zok6 fX7_355 rfl hM.1 (Or.inl (by decide)) ?_
    refine z_iconst (n := 52) (v := (-1)) dX7_lastBlack_51 rfl (by decide) ?_
    refine z_icmp_ne (n := 55) (t := 58) dX7_lastBlack_52 rfl (by decide) (fun hc => ?_) (fun hc => ?_)
    · replace hF := (if_pos hc).symm.trans hF
      refine z_iload (n := 60) dX7_lastBlack_58 rfl 4 rfl ?_
      refine z_istore_nE (n := 61) (lv' := [(2, .int v4_10), (0, .ref 1860), (1, .int a0), (3, .int v3_9), (4, .int v4_10)]) dX7_lastBlack_60 rfl rfl rfl (by decide) rfl ?_
      refine z_aload_n (n := 62) dX7_lastBlack_61 rfl 1 rfl rfl ?_
      refine z_getI (n := 65) dX7_lastBlack_62 rfl zok6 fX7_355 rfl hM.1 (Or.inl (by decide)) ?_
      obtain ⟨v3_14, e_15, hF⟩ := zlet_ob hF
      refine z_istore_nE (n := 66) (lv' := [(3, .int v3_14), (2, .int v4_10), (0, .ref 1860), (1, .int a0), (4, .int v4_10)]) dX7_lastBlack_65 rfl e_15 rfl (by decide) rfl ?_
      obtain ⟨v4_16, e_17, hF⟩ := zlet_ob hF
      refine z_iincE (n := 69) (w := 1) (v := v4_16) (lv' := [(4, .int v4_16), (3, .int v3_14), (2, .int v4_10), (0, .ref 1860), (1, .int a0)]) dX7_lastBlack_66 rfl 4 rfl (by decide) e_17 (by decide) rfl ?_
      refine z_goto (t := 36) dX7_lastBlack_69 (by decide) ?_
      refine z_sub [3, 4, 2, 1, 0] rfl ?_
      have hF := Option.some.inj hF; subst hF
      exact kl _ _ _ _ rfl
    · replace hF := (if_neg hc).symm.trans hF
      refine z_goto (t := 66) dX7_lastBlack_55 (by decide) ?_
      obtain ⟨v4_18, e_19, hF⟩ := zlet_ob hF
      refine z_iincE (n := 69) (w := 1) (v := v4_18) (lv' := [(4, .int v4_18), (0, .ref 1860), (1, .int a0), (2, .int v2_8), (3, .int v3_9)]) dX7_lastBlack_66 rfl 4 rfl (by decide) e_19 (by decide) rfl ?_
      refine z_goto (t := 36) dX7_lastBlack_69 (by decide) ?_
      refine z_sub [1, 2, 3, 4, 0] rfl ?_
      have hF := Option.some.inj hF; subst hF
      exact kl _ _ _ _ rfl
set_option maxHeartbeats 1000000 in
theorem C_X7_lastBlack {l : Launch} {G : zGt} (htr : l.stackTraces = false) {K : zKd} {F : zFd} {L : zLd} {a0 : Int32} (hM : zMLay K F) {I : zId} {r : Int32 × zId} (hF : F_X7_lastBlack a0 I = some r) : zMet l G yX7_lastBlack (ws_ yX7_lastBlack cX7_lastBlack 5 (some .int)) 5 113 0 0 [.ref 1860, .int a0] K F I L (zQe (.inl (some (.int r.1))) K F r.2 L) := by
  refine zMet.of (by decide +kernel) htr (Nat.le_of_ble_eq_true rfl) ?_
  change zW l G MX7_lastBlack 5 113 0 0 0 [(0, .ref 1860), (1, .int a0)] [] K F I L (zQe (.inl (some (.int r.1))) K F r.2 L)
  unfold F_X7_lastBlack at hF
  refine z_aload_n (n := 1) dX7_lastBlack_0 rfl 0 rfl rfl ?_
  refine z_iconst (n := 2) (v := 0) dX7_lastBlack_1 rfl (by decide) ?_
  obtain ⟨I_1, e_2, hF⟩ := zlet_ob hF
  refine z_putIE (n := 5) dX7_lastBlack_2 rfl zok6 fX7_150 (Or.inl ⟨_, rfl, rfl⟩) rfl ⟨rfl, rfl⟩ hM.1 (by decide) e_2 ?_
  refine z_iload_n (n := 6) dX7_lastBlack_5 rfl 1 rfl rfl ?_
  refine z_if_lt (n := 9) (t := 14) dX7_lastBlack_6 rfl (by decide) (fun hc => ?_) (fun hc => ?_)
  · replace hF := (if_pos hc).symm.trans hF
    refine z_aload_n (n := 15) dX7_lastBlack_14 rfl 0 rfl rfl ?_
    refine z_iconst (n := 16) (v := 1) dX7_lastBlack_15 rfl (by decide) ?_
    obtain ⟨x_4, I_5, c_3, hF⟩ := zb2_some hF
    refine z_cV (n := 19) (st := []) (C_X7_fail htr hM c_3) dX7_lastBlack_16 rfl (lw_V q1879 q1881 qs48 q131 q1882) hcee_X7_fail rfl (by decide) hM.1 rfl rfl rfl (Nat.le_of_ble_eq_true rfl) (Nat.le_refl _) (Nat.le_refl _) ?_
    have hF := Option.some.inj hF; subst hF
    exact z_iret dX7_lastBlack_19 rfl rfl ⟨rfl, rfl, rfl, rfl, rfl⟩
  · replace hF := (if_neg hc).symm.trans hF
    refine z_iload_n (n := 10) dX7_lastBlack_9 rfl 1 rfl rfl ?_
    refine z_iconst (n := 11) (v := 1) dX7_lastBlack_10 rfl (by decide) ?_
    refine z_icmp_le (n := 14) (t := 20) dX7_lastBlack_11 rfl (by decide) (fun hc => ?_) (fun hc => ?_)
    · replace hF := (if_pos hc).symm.trans hF
      refine z_aload_n (n := 21) dX7_lastBlack_20 rfl 0 rfl rfl ?_
      refine z_aload_n (n := 22) dX7_lastBlack_21 rfl 0 rfl rfl ?_
      refine z_getRS (n := 25) dX7_lastBlack_22 rfl zok6 fX7_102 rfl hM.1 (Or.inl (by decide)) (mF_42 hM) ?_
      refine z_iconst (n := 26) (v := 0) dX7_lastBlack_25 rfl (by decide) ?_
      obtain ⟨I_7, c_6, hF⟩ := zb1_some hF
      refine z_cV (n := 29) (st := []) (C_X7_pack htr hM (mK_42 hM) (by decide) c_6) dX7_lastBlack_26 rfl (lw_V q2081 q2083 qs84 q131 q2084) hcee_X7_pack rfl (by decide) hM.1 rfl rfl rfl (Nat.le_of_ble_eq_true rfl) (Nat.le_refl _) (Nat.le_refl _) ?_
      refine z_iconst (n := 30) (v := (-1)) dX7_lastBlack_29 rfl (by decide) ?_
      refine z_istore_nE (n := 31) (lv' := [(2, .int (-1)), (0, .ref 1860), (1, .int a0)]) dX7_lastBlack_30 rfl rfl rfl (by decide) rfl ?_
      refine z_iconst (n := 32) (v := (-1)) dX7_lastBlack_31 rfl (by decide) ?_
      refine z_istore_nE (n := 33) (lv' := [(3, .int (-1)), (2, .int (-1)), (0, .ref 1860), (1, .int a0)]) dX7_lastBlack_32 rfl rfl rfl (by decide) rfl ?_
      refine z_iconst (n := 34) (v := 1) dX7_lastBlack_33 rfl (by decide) ?_
      refine z_istoreE (n := 36) (lv' := [(4, .int 1), (3, .int (-1)), (2, .int (-1)), (0, .ref 1860), (1, .int a0)]) dX7_lastBlack_34 rfl rfl (by decide) rfl ?_
      refine z_sub [3, 4, 2, 1, 0] rfl ?_
      obtain ⟨t_26, e_23, hF⟩ := zb1_some hF
      obtain ⟨v2_20, v3_21, I_22⟩ := t_26
      dsimp only [zn3] at hF
      have H_27 : zW l G MX7_lastBlack 5 113 0 0 72 [(0, .ref 1860), (1, .int a0), (2, .int v2_20), (3, .int v3_21)] [] K F I_22 L (zQe (.inl (some (.int r.1))) K F r.2 L) := by
        refine z_aload_n (n := 73) dX7_lastBlack_72 rfl 0 rfl rfl ?_
        refine z_aload_n (n := 74) dX7_lastBlack_73 rfl 0 rfl rfl ?_
        refine z_getRS (n := 77) dX7_lastBlack_74 rfl zok6 fX7_102 rfl hM.1 (Or.inl (by decide)) (mF_42 hM) ?_
        refine z_iconst (n := 78) (v := 0) dX7_lastBlack_77 rfl (by decide) ?_
        obtain ⟨I_25, c_24, hF⟩ := zb1_some hF
        refine z_cV (n := 81) (st := []) (C_X7_unpack htr hM (mK_42 hM) (by decide) c_24) dX7_lastBlack_78 rfl (lw_V q2135 q2137 qs91 q131 q2138) hcee_X7_unpack rfl (by decide) hM.1 rfl rfl rfl (Nat.le_of_ble_eq_true rfl) (Nat.le_refl _) (Nat.le_refl _) ?_
        refine z_iload_n (n := 82) dX7_lastBlack_81 rfl 1 rfl rfl ?_
        refine z_if_ne (n := 85) (t := 89) dX7_lastBlack_82 rfl (by decide) (fun hc => ?_) (fun hc => ?_)
        · replace hF := (if_pos hc).symm.trans hF
          refine z_iload_n (n := 90) dX7_lastBlack_89 rfl 3 rfl rfl ?_
          have hF := Option.some.inj hF; subst hF
          exact z_iret dX7_lastBlack_90 rfl rfl ⟨rfl, rfl, rfl, rfl, rfl⟩
        · replace hF := (if_neg hc).symm.trans hF
          refine z_iload_n (n := 86) dX7_lastBlack_85 rfl 2 rfl rfl ?_
          refine z_goto (t := 90) dX7_lastBlack_86 (by decide) ?_
          have hF := Option.some.inj hF; subst hF
          exact z_iret dX7_lastBlack_90 rfl rfl ⟨rfl, rfl, rfl, rfl, rfl⟩
      refine zloop_ind (P := fun s : Int32 × Int32 × Int32 × zId => zW l G MX7_lastBlack 5 113 0 0 36 [(0, .ref 1860), (1, .int a0), (2, .int s.1), (3, .int s.2.1), (4, .int s.2.2.1)] [] K F s.2.2.2 L (zQe (.inl (some (.int r.1))) K F r.2 L)) (fun s r hb kl kr => ?_) e_23
      exact W_X7_lastBlack_L36 (a0 := a0) htr hM hb (fun z0 z1 z2 z3 e => kl _ e) (fun y0 y1 y2 e => by cases kr _ e; exact H_27)
    · replace hF := (if_neg hc).symm.trans hF
      refine z_aload_n (n := 15) dX7_lastBlack_14 rfl 0 rfl rfl ?_
      refine z_iconst (n := 16) (v := 1) dX7_lastBlack_15 rfl (by decide) ?_
      obtain ⟨x_29, I_30, c_28, hF⟩ := zb2_some hF
      refine z_cV (n := 19) (st := []) (C_X7_fail htr hM c_28) dX7_lastBlack_16 rfl (lw_V q1879 q1881 qs48 q131 q1882) hcee_X7_fail rfl (by decide) hM.1 rfl rfl rfl (Nat.le_of_ble_eq_true rfl) (Nat.le_refl _) (Nat.le_refl _) ?_
      have hF := Option.some.inj hF; subst hF
      exact z_iret dX7_lastBlack_19 rfl rfl ⟨rfl, rfl, rfl, rfl, rfl⟩
abbrev MX7_bears : zM := (RX7, cX7_bears, 5, (some .boolean), "bears", [])
noncomputable def F_X7_bears_L10 (a0 : Int32) (a1 : Int32) (I : zId) (v3_4 : Int32) (v4_5 : Int32) : Option ((Int32 × Int32) ⊕ ((Unit) ⊕ (Int32))) := if 30 ≤ v4_5 then some (.inr (.inl ())) else if a1 ≤ v3_4 then zb1 (F_X7_grown a0 (v3_4 - a1) I) (fun x_7 => zlet (v4_5 + 1) (fun v4_8 => some (.inl (x_7, v4_8)))) else some (.inr (.inr 0))
noncomputable def F_X7_bears (a0 : Int32) (a1 : Int32) (I : zId) : Option (Int32) := zg (zin a0 8) (zlet (I 1875 a0.toNatClampNeg) (fun v3_2 => zs1 (zloop (fun s : Int32 × Int32 => F_X7_bears_L10 a0 a1 I s.1 s.2) (v3_2, 0)) (fun u_10 => some 1) (fun z_12 => some z_12)))
set_option maxHeartbeats 1000000 in
theorem W_X7_bears_L10 {l : Launch} {G : zGt} (htr : l.stackTraces = false) {K : zKd} {F : zFd} {L : zLd} {Q : zQt} {a0 : Int32} {a1 : Int32} {I : zId} {v3_4 : Int32} {v4_5 : Int32} (hM : zMLay K F) {r : (Int32 × Int32) ⊕ ((Unit) ⊕ (Int32))} (hF : F_X7_bears_L10 a0 a1 I v3_4 v4_5 = some r) (kl : ∀ (z0 : Int32) (z1 : Int32), r = .inl (z0, z1) → zW l G MX7_bears 2 46 0 0 10 [(0, .ref 1860), (1, .int a0), (2, .int a1), (3, .int z0), (4, .int z1)] [] K F I L Q) (kx : ∀ (y0 : Unit), r = .inr (.inl y0) → zW l G MX7_bears 2 46 0 0 39 [] [] K F I L Q) (kq : ∀ z : Int32, r = .inr (.inr z) → Q (.inl (some (.int z))) K F I L) : zW l G MX7_bears 2 46 0 0 10 [(0, .ref 1860), (1, .int a0), (2, .int a1), (3, .int v3_4), (4, .int v4_5)] [] K F I L Q := by
  unfold F_X7_bears_L10 at hF
  refine z_iload (n := 12) dX7_bears_10 rfl 4 rfl ?_
  refine z_bipush (n := 14) (v := 30) dX7_bears_12 rfl (by decide) ?_
  refine z_icmp_ge (n := 17) (t := 39) dX7_bears_14 rfl (by decide) (fun hc => ?_) (fun hc => ?_)
  · replace hF := (if_pos hc).symm.trans hF
    refine z_sub [] rfl ?_
    have hF := Option.some.inj hF; subst hF
    exact kx _ rfl
  · replace hF := (if_neg hc).symm.trans hF
    refine z_iload_n (n := 18) dX7_bears_17 rfl 3 rfl rfl ?_
    refine z_iload_n (n := 19) dX7_bears_18 rfl 2 rfl rfl ?_
    refine z_icmp_ge (n := 22) (t := 24) dX7_bears_19 rfl (by decide) (fun hc => ?_) (fun hc => ?_)
    · replace hF := (if_pos hc).symm.trans hF
      refine z_aload_n (n := 25) dX7_bears_24 rfl 0 rfl rfl ?_
      refine z_iload_n (n := 26) dX7_bears_25 rfl 1 rfl rfl ?_
      refine z_iload_n (n := 27) dX7_bears_26 rfl 3 rfl rfl ?_
      refine z_iload_n (n := 28) dX7_bears_27 rfl 2 rfl rfl ?_
      refine z_isub (n := 29) dX7_bears_28 rfl ?_
      obtain ⟨x_7, c_6, hF⟩ := zb1_some hF
      refine z_cV (n := 32) (st := []) (C_X7_grown htr hM c_6) dX7_bears_29 rfl (lw_V q2105 q2107 qs90 q131 q2108) hcee_X7_grown rfl (by decide) hM.1 rfl rfl rfl (Nat.le_of_ble_eq_true rfl) (Nat.le_refl _) (Nat.le_refl _) ?_
      refine z_istore_nE (n := 33) (lv' := [(3, .int x_7), (0, .ref 1860), (1, .int a0), (2, .int a1), (4, .int v4_5)]) dX7_bears_32 rfl rfl rfl (by decide) rfl ?_
      obtain ⟨v4_8, e_9, hF⟩ := zlet_ob hF
      refine z_iincE (n := 36) (w := 1) (v := v4_8) (lv' := [(4, .int v4_8), (3, .int x_7), (0, .ref 1860), (1, .int a0), (2, .int a1)]) dX7_bears_33 rfl 4 rfl (by decide) e_9 (by decide) rfl ?_
      refine z_goto (t := 10) dX7_bears_36 (by decide) ?_
      refine z_sub [2, 3, 4, 1, 0] rfl ?_
      have hF := Option.some.inj hF; subst hF
      exact kl _ _ rfl
    · replace hF := (if_neg hc).symm.trans hF
      refine z_iconst (n := 23) (v := 0) dX7_bears_22 rfl (by decide) ?_
      have hF := Option.some.inj hF; subst hF
      exact z_iret dX7_bears_23 rfl rfl (kq _ rfl)
set_option maxHeartbeats 1000000 in
theorem C_X7_bears {l : Launch} {G : zGt} (htr : l.stackTraces = false) {K : zKd} {F : zFd} {L : zLd} {a0 : Int32} {a1 : Int32} (hM : zMLay K F) {I : zId} {r : Int32} (hF : F_X7_bears a0 a1 I = some r) : zMet l G yX7_bears (ws_ yX7_bears cX7_bears 5 (some .boolean)) 2 46 0 0 [.ref 1860, .int a0, .int a1] K F I L (zQe (.inl (some (.int r))) K F I L) := by
  refine zMet.of (by decide +kernel) htr (Nat.le_of_ble_eq_true rfl) ?_
  change zW l G MX7_bears 2 46 0 0 0 [(0, .ref 1860), (1, .int a0), (2, .int a1)] [] K F I L (zQe (.inl (some (.int r))) K F I L)
  unfold F_X7_bears at hF
  refine z_aload_n (n := 1) dX7_bears_0 rfl 0 rfl rfl ?_
  refine z_getRS (n := 4) dX7_bears_1 rfl zok6 fX7_72 rfl hM.1 (Or.inl (by decide)) (mF_25 hM) ?_
  refine z_iload_n (n := 5) dX7_bears_4 rfl 1 rfl rfl ?_
  obtain ⟨h_1, hF⟩ := zg_some hF
  refine z_ialdK (n := 6) a0.toNatClampNeg rfl dX7_bears_5 rfl (mK_25 hM) (zin_ok h_1) ?_
  obtain ⟨v3_2, e_3, hF⟩ := zlet_ob hF
  refine z_istore_nE (n := 7) (lv' := [(3, .int v3_2), (0, .ref 1860), (1, .int a0), (2, .int a1)]) dX7_bears_6 rfl e_3 rfl (by decide) rfl ?_
  refine z_iconst (n := 8) (v := 0) dX7_bears_7 rfl (by decide) ?_
  refine z_istoreE (n := 10) (lv' := [(4, .int 0), (3, .int v3_2), (0, .ref 1860), (1, .int a0), (2, .int a1)]) dX7_bears_8 rfl rfl (by decide) rfl ?_
  refine z_sub [2, 3, 4, 1, 0] rfl ?_
  rcases zs1_some hF with ⟨t_13, e_11, hF⟩ | ⟨t_13, e_11, hF⟩
  · skip
    obtain ⟨u_10, rfl⟩ : ∃ z, z = t_13 := ⟨_, rfl⟩
    have H_14 : zW l G MX7_bears 2 46 0 0 39 [] [] K F I L (zQe (.inl (some (.int r))) K F I L) := by
      refine z_iconst (n := 40) (v := 1) dX7_bears_39 rfl (by decide) ?_
      have hF := Option.some.inj hF; subst hF
      exact z_iret dX7_bears_40 rfl rfl ⟨rfl, rfl, rfl, rfl, rfl⟩
    refine zloop_ind (P := fun s : Int32 × Int32 => zW l G MX7_bears 2 46 0 0 10 [(0, .ref 1860), (1, .int a0), (2, .int a1), (3, .int s.1), (4, .int s.2)] [] K F I L (zQe (.inl (some (.int r))) K F I L)) (fun s r hb kl kr => ?_) e_11
    exact W_X7_bears_L10 (a0 := a0) (a1 := a1) htr hM hb (fun z0 z1 e => kl _ e) (fun y0 e => by cases kr _ e; exact H_14) (fun z e => by cases kr _ e)
  · skip
    refine zloop_ind (P := fun s : Int32 × Int32 => zW l G MX7_bears 2 46 0 0 10 [(0, .ref 1860), (1, .int a0), (2, .int a1), (3, .int s.1), (4, .int s.2)] [] K F I L (zQe (.inl (some (.int r))) K F I L)) (fun s r hb kl kr => ?_) e_11
    have hF := Option.some.inj hF; subst hF
    exact W_X7_bears_L10 (a0 := a0) (a1 := a1) htr hM hb (fun z0 z1 e => kl _ e) (fun y0 e => by cases kr _ e) (fun z e => by cases kr _ e; exact ⟨rfl, rfl, rfl, rfl, rfl⟩)
theorem hcee_X7_bears : zCee yX7_bears RX7 2 := ⟨rfl, by decide +kernel, by decide +kernel, by decide +kernel⟩
abbrev MX7_forEver : zM := (RX7, cX7_forEver, 3, (some .int), "forEver", [])
noncomputable def F_X7_forEver_L32 (a0 : Int32) (I_1 : zId) (v2_8 : Int32) : Option ((Int32) ⊕ (Int32)) := zb1 (F_X7_bears a0 v2_8 I_1) (fun x_10 => if ¬ x_10 = 0 then some (.inr (v2_8)) else zlet (v2_8 + (-1)) (fun v2_11 => some (.inl v2_11)))
noncomputable def F_X7_forEver (a0 : Int32) (I : zId) : Option (Int32 × zId) := zlet (zu I 1860 1 0) (fun I_1 => zb1 (F_X7_isForest a0 I_1) (fun x_4 => if ¬ x_4 = 0 then zg (zin a0 8) (zlet (zmin 999 (I_1 1875 a0.toNatClampNeg)) (fun v2_6 => zb1 (zloop (fun s : Int32 => F_X7_forEver_L32 a0 I_1 s) v2_6) (fun v2_13 => some (v2_13, I_1)))) else zb2 (F_X7_fail 1 I_1) (fun x_18 I_19 => some (x_18, I_19))))
set_option maxHeartbeats 1000000 in
theorem W_X7_forEver_L32 {l : Launch} {G : zGt} (htr : l.stackTraces = false) {K : zKd} {F : zFd} {L : zLd} {Q : zQt} {a0 : Int32} {I_1 : zId} {v2_8 : Int32} (hM : zMLay K F) {r : (Int32) ⊕ (Int32)} (hF : F_X7_forEver_L32 a0 I_1 v2_8 = some r) (kl : ∀ (z0 : Int32), r = .inl z0 → zW l G MX7_forEver 3 70 0 0 32 [(0, .ref 1860), (1, .int a0), (2, .int z0)] [] K F I_1 L Q) (kx : ∀ (y0 : Int32), r = .inr y0 → zW l G MX7_forEver 3 70 0 0 47 [(2, .int y0)] [] K F I_1 L Q)  : zW l G MX7_forEver 3 70 0 0 32 [(0, .ref 1860), (1, .int a0), (2, .int v2_8)] [] K F I_1 L Q := by
  unfold F_X7_forEver_L32 at hF
  refine z_aload_n (n := 33) dX7_forEver_32 rfl 0 rfl rfl ?_
  refine z_iload_n (n := 34) dX7_forEver_33 rfl 1 rfl rfl ?_
  refine z_iload_n (n := 35) dX7_forEver_34 rfl 2 rfl rfl ?_
  obtain ⟨x_10, c_9, hF⟩ := zb1_some hF
  refine z_cV (n := 38) (st := []) (C_X7_bears htr hM c_9) dX7_forEver_35 rfl (lw_V q2175 q2177 qs93 q131 q2178) hcee_X7_bears rfl (by decide) hM.1 rfl rfl rfl (Nat.le_of_ble_eq_true rfl) (Nat.le_refl _) (Nat.le_refl _) ?_
  refine z_if_ne (n := 41) (t := 47) dX7_forEver_38 rfl (by decide) (fun hc => ?_) (fun hc => ?_)
  · replace hF := (if_pos hc).symm.trans hF
    refine z_sub [2] rfl ?_
    have hF := Option.some.inj hF; subst hF
    exact kx _ rfl
  · replace hF := (if_neg hc).symm.trans hF
    obtain ⟨v2_11, e_12, hF⟩ := zlet_ob hF
    refine z_iincE (n := 44) (w := (-1)) (v := v2_11) (lv' := [(2, .int v2_11), (0, .ref 1860), (1, .int a0)]) dX7_forEver_41 rfl 2 rfl (by decide) e_12 (by decide) rfl ?_
    refine z_goto (t := 32) dX7_forEver_44 (by decide) ?_
    refine z_sub [1, 2, 0] rfl ?_
    have hF := Option.some.inj hF; subst hF
    exact kl _ rfl
set_option maxHeartbeats 1000000 in
theorem C_X7_forEver {l : Launch} {G : zGt} (htr : l.stackTraces = false) {K : zKd} {F : zFd} {L : zLd} {a0 : Int32} (hM : zMLay K F) {I : zId} {r : Int32 × zId} (hF : F_X7_forEver a0 I = some r) : zMet l G yX7_forEver (ws_ yX7_forEver cX7_forEver 3 (some .int)) 3 70 0 0 [.ref 1860, .int a0] K F I L (zQe (.inl (some (.int r.1))) K F r.2 L) := by
  refine zMet.of (by decide +kernel) htr (Nat.le_of_ble_eq_true rfl) ?_
  change zW l G MX7_forEver 3 70 0 0 0 [(0, .ref 1860), (1, .int a0)] [] K F I L (zQe (.inl (some (.int r.1))) K F r.2 L)
  unfold F_X7_forEver at hF
  refine z_aload_n (n := 1) dX7_forEver_0 rfl 0 rfl rfl ?_
  refine z_iconst (n := 2) (v := 0) dX7_forEver_1 rfl (by decide) ?_
  obtain ⟨I_1, e_2, hF⟩ := zlet_ob hF
  refine z_putIE (n := 5) dX7_forEver_2 rfl zok6 fX7_150 (Or.inl ⟨_, rfl, rfl⟩) rfl ⟨rfl, rfl⟩ hM.1 (by decide) e_2 ?_
  refine z_aload_n (n := 6) dX7_forEver_5 rfl 0 rfl rfl ?_
  refine z_iload_n (n := 7) dX7_forEver_6 rfl 1 rfl rfl ?_
  obtain ⟨x_4, c_3, hF⟩ := zb1_some hF
  refine z_cV (n := 10) (st := []) (C_X7_isForest htr hM c_3) dX7_forEver_7 rfl (lw_V q2026 q2028 qs75 q131 q2029) hcee_X7_isForest rfl (by decide) hM.1 rfl rfl rfl (Nat.le_of_ble_eq_true rfl) (Nat.le_refl _) (Nat.le_refl _) ?_
  refine z_if_ne (n := 13) (t := 19) dX7_forEver_10 rfl (by decide) (fun hc => ?_) (fun hc => ?_)
  · replace hF := (if_pos hc).symm.trans hF
    refine z_sipush (n := 22) (v := 999) dX7_forEver_19 rfl (by decide) ?_
    refine z_aload_n (n := 23) dX7_forEver_22 rfl 0 rfl rfl ?_
    refine z_getRS (n := 26) dX7_forEver_23 rfl zok6 fX7_72 rfl hM.1 (Or.inl (by decide)) (mF_25 hM) ?_
    refine z_iload_n (n := 27) dX7_forEver_26 rfl 1 rfl rfl ?_
    obtain ⟨h_5, hF⟩ := zg_some hF
    refine z_ialdK (n := 28) a0.toNatClampNeg rfl dX7_forEver_27 rfl (mK_25 hM) (zin_ok h_5) ?_
    refine z_min (n := 31) dX7_forEver_28 rfl q1898 q290 q119 q291 (by decide) (Nat.le_of_ble_eq_true rfl) ?_
    obtain ⟨v2_6, e_7, hF⟩ := zlet_ob hF
    refine z_istore_nE (n := 32) (lv' := [(2, .int v2_6), (0, .ref 1860), (1, .int a0)]) dX7_forEver_31 rfl e_7 rfl (by decide) rfl ?_
    refine z_sub [1, 2, 0] rfl ?_
    obtain ⟨t_15, e_14, hF⟩ := zb1_some hF
    obtain ⟨v2_13, rfl⟩ : ∃ z, z = t_15 := ⟨_, rfl⟩
    have H_16 : zW l G MX7_forEver 3 70 0 0 47 [(2, .int v2_13)] [] K F I_1 L (zQe (.inl (some (.int r.1))) K F r.2 L) := by
      refine z_iload_n (n := 48) dX7_forEver_47 rfl 0 rfl rfl ?_
      have hF := Option.some.inj hF; subst hF
      exact z_iret dX7_forEver_48 rfl rfl ⟨rfl, rfl, rfl, rfl, rfl⟩
    refine zloop_ind (P := fun s : Int32 => zW l G MX7_forEver 3 70 0 0 32 [(0, .ref 1860), (1, .int a0), (2, .int s)] [] K F I_1 L (zQe (.inl (some (.int r.1))) K F r.2 L)) (fun s r hb kl kr => ?_) e_14
    exact W_X7_forEver_L32 (a0 := a0) htr hM hb (fun z0 e => kl _ e) (fun y0 e => by cases kr _ e; exact H_16)
  · replace hF := (if_neg hc).symm.trans hF
    refine z_aload_n (n := 14) dX7_forEver_13 rfl 0 rfl rfl ?_
    refine z_iconst (n := 15) (v := 1) dX7_forEver_14 rfl (by decide) ?_
    obtain ⟨x_18, I_19, c_17, hF⟩ := zb2_some hF
    refine z_cV (n := 18) (st := []) (C_X7_fail htr hM c_17) dX7_forEver_15 rfl (lw_V q1879 q1881 qs48 q131 q1882) hcee_X7_fail rfl (by decide) hM.1 rfl rfl rfl (Nat.le_of_ble_eq_true rfl) (Nat.le_refl _) (Nat.le_refl _) ?_
    have hF := Option.some.inj hF; subst hF
    exact z_iret dX7_forEver_18 rfl rfl ⟨rfl, rfl, rfl, rfl, rfl⟩
abbrev MX7_resting : zM := (RX7, cX7_resting, 5, (some .int), "resting", [])
noncomputable def F_X7_resting_L47 (a0 : Int32) (a1 : Int32) (I_1 : zId) (v3_10 : Int32) (v4_11 : Int32) : Option ((Int32 × Int32) ⊕ ((Unit) ⊕ (Int32 × zId))) := if 50 < v4_11 then some (.inr (.inl ())) else if v3_10 < a1 then zb1 (F_X7_grown a0 v3_10 I_1) (fun x_13 => zlet (v4_11 + 1) (fun v4_14 => some (.inl (x_13, v4_14)))) else some (.inr (.inr (v4_11, I_1)))
noncomputable def F_X7_resting (a0 : Int32) (a1 : Int32) (I : zId) : Option (Int32 × zId) := zlet (zu I 1860 1 0) (fun I_1 => zb1 (F_X7_isForest a0 I_1) (fun x_4 => if ¬ x_4 = 0 then zb1 (F_X7_isIn a1.toInt64 0 999 I_1) (fun x_6 => if ¬ x_6 = 0 then zg (zin a0 8) (zlet (I_1 1875 a0.toNatClampNeg) (fun v3_8 => zs1 (zloop (fun s : Int32 × Int32 => F_X7_resting_L47 a0 a1 I_1 s.1 s.2) (v3_8, 0)) (fun u_16 => some ((-1), I_1)) (fun z_18 => some z_18))) else zb2 (F_X7_fail 2 I_1) (fun x_22 I_23 => some (x_22, I_23))) else zb2 (F_X7_fail 1 I_1) (fun x_25 I_26 => some (x_25, I_26))))
set_option maxHeartbeats 1000000 in
theorem W_X7_resting_L47 {l : Launch} {G : zGt} (htr : l.stackTraces = false) {K : zKd} {F : zFd} {L : zLd} {Q : zQt} {a0 : Int32} {a1 : Int32} {I_1 : zId} {v3_10 : Int32} {v4_11 : Int32} (hM : zMLay K F) {r : (Int32 × Int32) ⊕ ((Unit) ⊕ (Int32 × zId))} (hF : F_X7_resting_L47 a0 a1 I_1 v3_10 v4_11 = some r) (kl : ∀ (z0 : Int32) (z1 : Int32), r = .inl (z0, z1) → zW l G MX7_resting 2 46 0 0 47 [(0, .ref 1860), (1, .int a0), (2, .int a1), (3, .int z0), (4, .int z1)] [] K F I_1 L Q) (kx : ∀ (y0 : Unit), r = .inr (.inl y0) → zW l G MX7_resting 2 46 0 0 75 [] [] K F I_1 L Q) (kq : ∀ z : Int32 × zId, r = .inr (.inr z) → Q (.inl (some (.int z.1))) K F z.2 L) : zW l G MX7_resting 2 46 0 0 47 [(0, .ref 1860), (1, .int a0), (2, .int a1), (3, .int v3_10), (4, .int v4_11)] [] K F I_1 L Q := by
  unfold F_X7_resting_L47 at hF
  refine z_iload (n := 49) dX7_resting_47 rfl 4 rfl ?_
  refine z_bipush (n := 51) (v := 50) dX7_resting_49 rfl (by decide) ?_
  refine z_icmp_gt (n := 54) (t := 75) dX7_resting_51 rfl (by decide) (fun hc => ?_) (fun hc => ?_)
  · replace hF := (if_pos hc).symm.trans hF
    refine z_sub [] rfl ?_
    have hF := Option.some.inj hF; subst hF
    exact kx _ rfl
  · replace hF := (if_neg hc).symm.trans hF
    refine z_iload_n (n := 55) dX7_resting_54 rfl 3 rfl rfl ?_
    refine z_iload_n (n := 56) dX7_resting_55 rfl 2 rfl rfl ?_
    refine z_icmp_lt (n := 59) (t := 62) dX7_resting_56 rfl (by decide) (fun hc => ?_) (fun hc => ?_)
    · replace hF := (if_pos hc).symm.trans hF
      refine z_aload_n (n := 63) dX7_resting_62 rfl 0 rfl rfl ?_
      refine z_iload_n (n := 64) dX7_resting_63 rfl 1 rfl rfl ?_
      refine z_iload_n (n := 65) dX7_resting_64 rfl 3 rfl rfl ?_
      obtain ⟨x_13, c_12, hF⟩ := zb1_some hF
      refine z_cV (n := 68) (st := []) (C_X7_grown htr hM c_12) dX7_resting_65 rfl (lw_V q2105 q2107 qs90 q131 q2108) hcee_X7_grown rfl (by decide) hM.1 rfl rfl rfl (Nat.le_of_ble_eq_true rfl) (Nat.le_refl _) (Nat.le_refl _) ?_
      refine z_istore_nE (n := 69) (lv' := [(3, .int x_13), (0, .ref 1860), (1, .int a0), (2, .int a1), (4, .int v4_11)]) dX7_resting_68 rfl rfl rfl (by decide) rfl ?_
      obtain ⟨v4_14, e_15, hF⟩ := zlet_ob hF
      refine z_iincE (n := 72) (w := 1) (v := v4_14) (lv' := [(4, .int v4_14), (3, .int x_13), (0, .ref 1860), (1, .int a0), (2, .int a1)]) dX7_resting_69 rfl 4 rfl (by decide) e_15 (by decide) rfl ?_
      refine z_goto (t := 47) dX7_resting_72 (by decide) ?_
      refine z_sub [2, 3, 4, 1, 0] rfl ?_
      have hF := Option.some.inj hF; subst hF
      exact kl _ _ rfl
    · replace hF := (if_neg hc).symm.trans hF
      refine z_iload (n := 61) dX7_resting_59 rfl 4 rfl ?_
      have hF := Option.some.inj hF; subst hF
      exact z_iret dX7_resting_61 rfl rfl (kq _ rfl)
set_option maxHeartbeats 1000000 in
theorem C_X7_resting {l : Launch} {G : zGt} (htr : l.stackTraces = false) {K : zKd} {F : zFd} {L : zLd} {a0 : Int32} {a1 : Int32} (hM : zMLay K F) {I : zId} {r : Int32 × zId} (hF : F_X7_resting a0 a1 I = some r) : zMet l G yX7_resting (ws_ yX7_resting cX7_resting 5 (some .int)) 2 46 0 0 [.ref 1860, .int a0, .int a1] K F I L (zQe (.inl (some (.int r.1))) K F r.2 L) := by
  refine zMet.of (by decide +kernel) htr (Nat.le_of_ble_eq_true rfl) ?_
  change zW l G MX7_resting 2 46 0 0 0 [(0, .ref 1860), (1, .int a0), (2, .int a1)] [] K F I L (zQe (.inl (some (.int r.1))) K F r.2 L)
  unfold F_X7_resting at hF
  refine z_aload_n (n := 1) dX7_resting_0 rfl 0 rfl rfl ?_
  refine z_iconst (n := 2) (v := 0) dX7_resting_1 rfl (by decide) ?_
  obtain ⟨I_1, e_2, hF⟩ := zlet_ob hF
  refine z_putIE (n := 5) dX7_resting_2 rfl zok6 fX7_150 (Or.inl ⟨_, rfl, rfl⟩) rfl ⟨rfl, rfl⟩ hM.1 (by decide) e_2 ?_
  refine z_aload_n (n := 6) dX7_resting_5 rfl 0 rfl rfl ?_
  refine z_iload_n (n := 7) dX7_resting_6 rfl 1 rfl rfl ?_
  obtain ⟨x_4, c_3, hF⟩ := zb1_some hF
  refine z_cV (n := 10) (st := []) (C_X7_isForest htr hM c_3) dX7_resting_7 rfl (lw_V q2026 q2028 qs75 q131 q2029) hcee_X7_isForest rfl (by decide) hM.1 rfl rfl rfl (Nat.le_of_ble_eq_true rfl) (Nat.le_refl _) (Nat.le_refl _) ?_
  refine z_if_ne (n := 13) (t := 19) dX7_resting_10 rfl (by decide) (fun hc => ?_) (fun hc => ?_)
  · replace hF := (if_pos hc).symm.trans hF
    refine z_iload_n (n := 20) dX7_resting_19 rfl 2 rfl rfl ?_
    refine z_i2l (n := 21) dX7_resting_20 rfl ?_
    refine z_lconst (n := 22) (v := 0) dX7_resting_21 rfl (by decide) ?_
    refine z_ldc2 (n := 25) dX7_resting_22 rfl q2183 ?_
    obtain ⟨x_6, c_5, hF⟩ := zb1_some hF
    refine z_cS (n := 28) (st := []) (C_X7_isIn htr c_5) dX7_resting_25 rfl (lw_S q2030 q2031 q131 q2032) hcee_X7_isIn rfl (by decide) rfl (Nat.le_of_ble_eq_true rfl) (Nat.le_refl _) (Nat.le_refl _) ?_
    refine z_if_ne (n := 31) (t := 37) dX7_resting_28 rfl (by decide) (fun hc => ?_) (fun hc => ?_)
    · replace hF := (if_pos hc).symm.trans hF
      refine z_aload_n (n := 38) dX7_resting_37 rfl 0 rfl rfl ?_
      refine z_getRS (n := 41) dX7_resting_38 rfl zok6 fX7_72 rfl hM.1 (Or.inl (by decide)) (mF_25 hM) ?_
      refine z_iload_n (n := 42) dX7_resting_41 rfl 1 rfl rfl ?_
      obtain ⟨h_7, hF⟩ := zg_some hF
      refine z_ialdK (n := 43) a0.toNatClampNeg rfl dX7_resting_42 rfl (mK_25 hM) (zin_ok h_7) ?_
      obtain ⟨v3_8, e_9, hF⟩ := zlet_ob hF
      refine z_istore_nE (n := 44) (lv' := [(3, .int v3_8), (0, .ref 1860), (1, .int a0), (2, .int a1)]) dX7_resting_43 rfl e_9 rfl (by decide) rfl ?_
      refine z_iconst (n := 45) (v := 0) dX7_resting_44 rfl (by decide) ?_
      refine z_istoreE (n := 47) (lv' := [(4, .int 0), (3, .int v3_8), (0, .ref 1860), (1, .int a0), (2, .int a1)]) dX7_resting_45 rfl rfl (by decide) rfl ?_
      refine z_sub [2, 3, 4, 1, 0] rfl ?_
      rcases zs1_some hF with ⟨t_19, e_17, hF⟩ | ⟨t_19, e_17, hF⟩
      · skip
        obtain ⟨u_16, rfl⟩ : ∃ z, z = t_19 := ⟨_, rfl⟩
        have H_20 : zW l G MX7_resting 2 46 0 0 75 [] [] K F I_1 L (zQe (.inl (some (.int r.1))) K F r.2 L) := by
          refine z_iconst (n := 76) (v := (-1)) dX7_resting_75 rfl (by decide) ?_
          have hF := Option.some.inj hF; subst hF
          exact z_iret dX7_resting_76 rfl rfl ⟨rfl, rfl, rfl, rfl, rfl⟩
        refine zloop_ind (P := fun s : Int32 × Int32 => zW l G MX7_resting 2 46 0 0 47 [(0, .ref 1860), (1, .int a0), (2, .int a1), (3, .int s.1), (4, .int s.2)] [] K F I_1 L (zQe (.inl (some (.int r.1))) K F r.2 L)) (fun s r hb kl kr => ?_) e_17
        exact W_X7_resting_L47 (a0 := a0) (a1 := a1) htr hM hb (fun z0 z1 e => kl _ e) (fun y0 e => by cases kr _ e; exact H_20) (fun z e => by cases kr _ e)
      · skip
        refine zloop_ind (P := fun s : Int32 × Int32 => zW l G MX7_resting 2 46 0 0 47 [(0, .ref 1860), (1, .int a0), (2, .int a1), (3, .int s.1), (4, .int s.2)] [] K F I_1 L (zQe (.inl (some (.int r.1))) K F r.2 L)) (fun s r hb kl kr => ?_) e_17
        have hF := Option.some.inj hF; subst hF
        exact W_X7_resting_L47 (a0 := a0) (a1 := a1) htr hM hb (fun z0 z1 e => kl _ e) (fun y0 e => by cases kr _ e) (fun z e => by cases kr _ e; exact ⟨rfl, rfl, rfl, rfl, rfl⟩)
    · replace hF := (if_neg hc).symm.trans hF
      refine z_aload_n (n := 32) dX7_resting_31 rfl 0 rfl rfl ?_
      refine z_iconst (n := 33) (v := 2) dX7_resting_32 rfl (by decide) ?_
      obtain ⟨x_22, I_23, c_21, hF⟩ := zb2_some hF
      refine z_cV (n := 36) (st := []) (C_X7_fail htr hM c_21) dX7_resting_33 rfl (lw_V q1879 q1881 qs48 q131 q1882) hcee_X7_fail rfl (by decide) hM.1 rfl rfl rfl (Nat.le_of_ble_eq_true rfl) (Nat.le_refl _) (Nat.le_refl _) ?_
      have hF := Option.some.inj hF; subst hF
      exact z_iret dX7_resting_36 rfl rfl ⟨rfl, rfl, rfl, rfl, rfl⟩
  · replace hF := (if_neg hc).symm.trans hF
    refine z_aload_n (n := 14) dX7_resting_13 rfl 0 rfl rfl ?_
    refine z_iconst (n := 15) (v := 1) dX7_resting_14 rfl (by decide) ?_
    obtain ⟨x_25, I_26, c_24, hF⟩ := zb2_some hF
    refine z_cV (n := 18) (st := []) (C_X7_fail htr hM c_24) dX7_resting_15 rfl (lw_V q1879 q1881 qs48 q131 q1882) hcee_X7_fail rfl (by decide) hM.1 rfl rfl rfl (Nat.le_of_ble_eq_true rfl) (Nat.le_refl _) (Nat.le_refl _) ?_
    have hF := Option.some.inj hF; subst hF
    exact z_iret dX7_resting_18 rfl rfl ⟨rfl, rfl, rfl, rfl, rfl⟩
theorem fX7_105 : zFld RX7 105 6 43 := ⟨_, rfl, by decide, _, Or.inl q1720, Or.inl rfl⟩
abbrev MX7_tellDays : zM := (RX7, cX7_tellDays, 5, none, "tellDays", [])
noncomputable def F_X7_tellDays_L2 (a0 : Int32) (v2_1 : Int32) (I_2 : zId) : Option ((Int32 × zId) ⊕ (zId)) := if 8 ≤ v2_1 then some (.inr (I_2)) else if ¬ v2_1 = a0 then zg (zin v2_1 8) (zlet (zu I_2 1887 v2_1.toNatClampNeg 100000) (fun I_4 => zlet (v2_1 + 1) (fun v2_6 => some (.inl (v2_6, I_4))))) else zg (zin v2_1 8) (zlet (zu I_2 1887 v2_1.toNatClampNeg 0) (fun I_9 => zlet (v2_1 + 1) (fun v2_11 => some (.inl (v2_11, I_9)))))
noncomputable def F_X7_tellDays_L58 (v3_17 : Int32) (v4_19 : Int32) (I_20 : zId) : Option ((Int32 × zId) ⊕ (zId)) := if (I_20 1862 0) ≤ v4_19 then some (.inr (I_20)) else zg (zin (((8 : Int32) * v3_17) + v4_19) 128) (if (I_20 1867 ((((8 : Int32) * v3_17) + v4_19).toNatClampNeg)) ≤ 0 then zlet (v4_19 + 1) (fun v4_22 => some (.inl (v4_22, I_20))) else zg (zin v4_19 8) (zg (zin v3_17 8) (zg (zin (((8 : Int32) * v3_17) + v4_19) 128) (zg (zin v4_19 8) (zlet (zu I_20 1887 v4_19.toNatClampNeg (zmin (I_20 1887 v4_19.toNatClampNeg) ((I_20 1887 v3_17.toNatClampNeg) + (I_20 1867 ((((8 : Int32) * v3_17) + v4_19).toNatClampNeg))))) (fun I_28 => zlet (v4_19 + 1) (fun v4_30 => some (.inl (v4_30, I_28)))))))))
noncomputable def F_X7_tellDays_L45 (v3_17 : Int32) (I_18 : zId) : Option ((Int32 × zId) ⊕ (zId)) := if (I_18 1862 0) ≤ v3_17 then some (.inr (I_18)) else zb1 (zloop (fun s : Int32 × zId => F_X7_tellDays_L58 v3_17 s.1 s.2) (0, I_18)) (fun I_32 => zlet (v3_17 + 1) (fun v3_34 => some (.inl (v3_34, I_32))))
noncomputable def F_X7_tellDays_L33 (v2_15 : Int32) (I_16 : zId) : Option ((Int32 × zId) ⊕ (zId)) := if (I_16 1862 0) ≤ v2_15 then some (.inr (I_16)) else zb1 (zloop (fun s : Int32 × zId => F_X7_tellDays_L45 s.1 s.2) (0, I_16)) (fun I_38 => zlet (v2_15 + 1) (fun v2_40 => some (.inl (v2_40, I_38))))
noncomputable def F_X7_tellDays (a0 : Int32) (I : zId) : Option (zId) := zb1 (zloop (fun s : Int32 × zId => F_X7_tellDays_L2 a0 s.1 s.2) (0, I)) (fun I_13 => zb1 (zloop (fun s : Int32 × zId => F_X7_tellDays_L33 s.1 s.2) (0, I_13)) (fun I_44 => some I_44))
set_option maxHeartbeats 1000000 in
theorem W_X7_tellDays_L2 {l : Launch} {G : zGt} (htr : l.stackTraces = false) {K : zKd} {F : zFd} {L : zLd} {Q : zQt} {a0 : Int32} {v2_1 : Int32} {I_2 : zId} (hM : zMLay K F) {r : (Int32 × zId) ⊕ (zId)} (hF : F_X7_tellDays_L2 a0 v2_1 I_2 = some r) (kl : ∀ (z0 : Int32) (z1 : zId), r = .inl (z0, z1) → zW l G MX7_tellDays 1 24 0 0 2 [(0, .ref 1860), (1, .int a0), (2, .int z0)] [] K F z1 L Q) (kx : ∀ (y0 : zId), r = .inr y0 → zW l G MX7_tellDays 1 24 0 0 31 [(0, .ref 1860)] [] K F y0 L Q)  : zW l G MX7_tellDays 1 24 0 0 2 [(0, .ref 1860), (1, .int a0), (2, .int v2_1)] [] K F I_2 L Q := by
  unfold F_X7_tellDays_L2 at hF
  refine z_iload_n (n := 3) dX7_tellDays_2 rfl 2 rfl rfl ?_
  refine z_bipush (n := 5) (v := 8) dX7_tellDays_3 rfl (by decide) ?_
  refine z_icmp_ge (n := 8) (t := 31) dX7_tellDays_5 rfl (by decide) (fun hc => ?_) (fun hc => ?_)
  · replace hF := (if_pos hc).symm.trans hF
    refine z_sub [0] rfl ?_
    have hF := Option.some.inj hF; subst hF
    exact kx _ rfl
  · replace hF := (if_neg hc).symm.trans hF
    refine z_aload_n (n := 9) dX7_tellDays_8 rfl 0 rfl rfl ?_
    refine z_getRS (n := 12) dX7_tellDays_9 rfl zok6 fX7_105 rfl hM.1 (Or.inl (by decide)) (mF_43 hM) ?_
    refine z_iload_n (n := 13) dX7_tellDays_12 rfl 2 rfl rfl ?_
    refine z_iload_n (n := 14) dX7_tellDays_13 rfl 2 rfl rfl ?_
    refine z_iload_n (n := 15) dX7_tellDays_14 rfl 1 rfl rfl ?_
    refine z_icmp_ne (n := 18) (t := 22) dX7_tellDays_15 rfl (by decide) (fun hc => ?_) (fun hc => ?_)
    · replace hF := (if_pos hc).symm.trans hF
      refine z_ldc (n := 24) dX7_tellDays_22 rfl q1897 ?_
      obtain ⟨h_3, hF⟩ := zg_some hF
      obtain ⟨I_4, e_5, hF⟩ := zlet_ob hF
      refine z_iastK (n := 25) v2_1.toNatClampNeg rfl dX7_tellDays_24 rfl (mK_43 hM) (by decide) (zin_ok h_3) e_5 ?_
      obtain ⟨v2_6, e_7, hF⟩ := zlet_ob hF
      refine z_iincE (n := 28) (w := 1) (v := v2_6) (lv' := [(2, .int v2_6), (0, .ref 1860), (1, .int a0)]) dX7_tellDays_25 rfl 2 rfl (by decide) e_7 (by decide) rfl ?_
      refine z_goto (t := 2) dX7_tellDays_28 (by decide) ?_
      refine z_sub [1, 2, 0] rfl ?_
      have hF := Option.some.inj hF; subst hF
      exact kl _ _ rfl
    · replace hF := (if_neg hc).symm.trans hF
      refine z_iconst (n := 19) (v := 0) dX7_tellDays_18 rfl (by decide) ?_
      refine z_goto (t := 24) dX7_tellDays_19 (by decide) ?_
      obtain ⟨h_8, hF⟩ := zg_some hF
      obtain ⟨I_9, e_10, hF⟩ := zlet_ob hF
      refine z_iastK (n := 25) v2_1.toNatClampNeg rfl dX7_tellDays_24 rfl (mK_43 hM) (by decide) (zin_ok h_8) e_10 ?_
      obtain ⟨v2_11, e_12, hF⟩ := zlet_ob hF
      refine z_iincE (n := 28) (w := 1) (v := v2_11) (lv' := [(2, .int v2_11), (0, .ref 1860), (1, .int a0)]) dX7_tellDays_25 rfl 2 rfl (by decide) e_12 (by decide) rfl ?_
      refine z_goto (t := 2) dX7_tellDays_28 (by decide) ?_
      refine z_sub [1, 2, 0] rfl ?_
      have hF := Option.some.inj hF; subst hF
      exact kl _ _ rfl
set_option maxHeartbeats 1000000 in
theorem W_X7_tellDays_L58 {l : Launch} {G : zGt} (htr : l.stackTraces = false) {K : zKd} {F : zFd} {L : zLd} {Q : zQt} {a0 : Int32} {v2_15 : Int32} {v3_17 : Int32} {v4_19 : Int32} {I_20 : zId} (hM : zMLay K F) {r : (Int32 × zId) ⊕ (zId)} (hF : F_X7_tellDays_L58 v3_17 v4_19 I_20 = some r) (kl : ∀ (z0 : Int32) (z1 : zId), r = .inl (z0, z1) → zW l G MX7_tellDays 1 24 0 0 58 [(0, .ref 1860), (2, .int v2_15), (3, .int v3_17), (4, .int z0)] [] K F z1 L Q) (kx : ∀ (y0 : zId), r = .inr y0 → zW l G MX7_tellDays 1 24 0 0 126 [(0, .ref 1860), (2, .int v2_15), (3, .int v3_17)] [] K F y0 L Q)  : zW l G MX7_tellDays 1 24 0 0 58 [(0, .ref 1860), (2, .int v2_15), (3, .int v3_17), (4, .int v4_19)] [] K F I_20 L Q := by
  unfold F_X7_tellDays_L58 at hF
  refine z_iload (n := 60) dX7_tellDays_58 rfl 3 rfl ?_
  refine z_aload_n (n := 61) dX7_tellDays_60 rfl 0 rfl rfl ?_
  refine z_getRS (n := 64) dX7_tellDays_61 rfl zok6 fX7_29 rfl hM.1 (Or.inl (by decide)) (mF_2 hM) ?_
  refine z_iconst (n := 65) (v := 0) dX7_tellDays_64 rfl (by decide) ?_
  refine z_ialdK (n := 66) 0 (by decide) dX7_tellDays_65 rfl (mK_2 hM) (zin_ok (i := 0) (n := 16) rfl) ?_
  refine z_icmp_ge (n := 69) (t := 126) dX7_tellDays_66 rfl (by decide) (fun hc => ?_) (fun hc => ?_)
  · replace hF := (if_pos hc).symm.trans hF
    refine z_sub [0, 1, 2] rfl ?_
    have hF := Option.some.inj hF; subst hF
    exact kx _ rfl
  · replace hF := (if_neg hc).symm.trans hF
    refine z_aload_n (n := 70) dX7_tellDays_69 rfl 0 rfl rfl ?_
    refine z_getRS (n := 73) dX7_tellDays_70 rfl zok6 fX7_45 rfl hM.1 (Or.inl (by decide)) (mF_7 hM) ?_
    refine z_bipush (n := 75) (v := 8) dX7_tellDays_73 rfl (by decide) ?_
    refine z_iload_n (n := 76) dX7_tellDays_75 rfl 2 rfl rfl ?_
    refine z_imul (n := 77) dX7_tellDays_76 rfl ?_
    refine z_iload (n := 79) dX7_tellDays_77 rfl 3 rfl ?_
    refine z_iadd (n := 80) dX7_tellDays_79 rfl ?_
    obtain ⟨h_21, hF⟩ := zg_some hF
    refine z_ialdK (n := 81) ((((8 : Int32) * v3_17) + v4_19).toNatClampNeg) rfl dX7_tellDays_80 rfl (mK_7 hM) (zin_ok h_21) ?_
    refine z_if_le (n := 84) (t := 120) dX7_tellDays_81 rfl (by decide) (fun hc => ?_) (fun hc => ?_)
    · replace hF := (if_pos hc).symm.trans hF
      obtain ⟨v4_22, e_23, hF⟩ := zlet_ob hF
      refine z_iincE (n := 123) (w := 1) (v := v4_22) (lv' := [(4, .int v4_22), (0, .ref 1860), (2, .int v2_15), (3, .int v3_17)]) dX7_tellDays_120 rfl 3 rfl (by decide) e_23 (by decide) rfl ?_
      refine z_goto (t := 58) dX7_tellDays_123 (by decide) ?_
      refine z_sub [1, 2, 3, 0] rfl ?_
      have hF := Option.some.inj hF; subst hF
      exact kl _ _ rfl
    · replace hF := (if_neg hc).symm.trans hF
      refine z_aload_n (n := 85) dX7_tellDays_84 rfl 0 rfl rfl ?_
      refine z_getRS (n := 88) dX7_tellDays_85 rfl zok6 fX7_105 rfl hM.1 (Or.inl (by decide)) (mF_43 hM) ?_
      refine z_iload (n := 90) dX7_tellDays_88 rfl 3 rfl ?_
      refine z_aload_n (n := 91) dX7_tellDays_90 rfl 0 rfl rfl ?_
      refine z_getRS (n := 94) dX7_tellDays_91 rfl zok6 fX7_105 rfl hM.1 (Or.inl (by decide)) (mF_43 hM) ?_
      refine z_iload (n := 96) dX7_tellDays_94 rfl 3 rfl ?_
      obtain ⟨h_24, hF⟩ := zg_some hF
      refine z_ialdK (n := 97) v4_19.toNatClampNeg rfl dX7_tellDays_96 rfl (mK_43 hM) (zin_ok h_24) ?_
      refine z_aload_n (n := 98) dX7_tellDays_97 rfl 0 rfl rfl ?_
      refine z_getRS (n := 101) dX7_tellDays_98 rfl zok6 fX7_105 rfl hM.1 (Or.inl (by decide)) (mF_43 hM) ?_
      refine z_iload_n (n := 102) dX7_tellDays_101 rfl 2 rfl rfl ?_
      obtain ⟨h_25, hF⟩ := zg_some hF
      refine z_ialdK (n := 103) v3_17.toNatClampNeg rfl dX7_tellDays_102 rfl (mK_43 hM) (zin_ok h_25) ?_
      refine z_aload_n (n := 104) dX7_tellDays_103 rfl 0 rfl rfl ?_
      refine z_getRS (n := 107) dX7_tellDays_104 rfl zok6 fX7_45 rfl hM.1 (Or.inl (by decide)) (mF_7 hM) ?_
      refine z_bipush (n := 109) (v := 8) dX7_tellDays_107 rfl (by decide) ?_
      refine z_iload_n (n := 110) dX7_tellDays_109 rfl 2 rfl rfl ?_
      refine z_imul (n := 111) dX7_tellDays_110 rfl ?_
      refine z_iload (n := 113) dX7_tellDays_111 rfl 3 rfl ?_
      refine z_iadd (n := 114) dX7_tellDays_113 rfl ?_
      obtain ⟨h_26, hF⟩ := zg_some hF
      refine z_ialdK (n := 115) ((((8 : Int32) * v3_17) + v4_19).toNatClampNeg) rfl dX7_tellDays_114 rfl (mK_7 hM) (zin_ok h_26) ?_
      refine z_iadd (n := 116) dX7_tellDays_115 rfl ?_
      refine z_min (n := 119) dX7_tellDays_116 rfl q1898 q290 q119 q291 (by decide) (Nat.le_of_ble_eq_true rfl) ?_
      obtain ⟨h_27, hF⟩ := zg_some hF
      obtain ⟨I_28, e_29, hF⟩ := zlet_ob hF
      refine z_iastK (n := 120) v4_19.toNatClampNeg rfl dX7_tellDays_119 rfl (mK_43 hM) (by decide) (zin_ok h_27) e_29 ?_
      obtain ⟨v4_30, e_31, hF⟩ := zlet_ob hF
      refine z_iincE (n := 123) (w := 1) (v := v4_30) (lv' := [(4, .int v4_30), (0, .ref 1860), (2, .int v2_15), (3, .int v3_17)]) dX7_tellDays_120 rfl 3 rfl (by decide) e_31 (by decide) rfl ?_
      refine z_goto (t := 58) dX7_tellDays_123 (by decide) ?_
      refine z_sub [1, 2, 3, 0] rfl ?_
      have hF := Option.some.inj hF; subst hF
      exact kl _ _ rfl
set_option maxHeartbeats 1000000 in
theorem W_X7_tellDays_L45 {l : Launch} {G : zGt} (htr : l.stackTraces = false) {K : zKd} {F : zFd} {L : zLd} {Q : zQt} {a0 : Int32} {v2_15 : Int32} {v3_17 : Int32} {I_18 : zId} (hM : zMLay K F) {r : (Int32 × zId) ⊕ (zId)} (hF : F_X7_tellDays_L45 v3_17 I_18 = some r) (kl : ∀ (z0 : Int32) (z1 : zId), r = .inl (z0, z1) → zW l G MX7_tellDays 1 24 0 0 45 [(0, .ref 1860), (2, .int v2_15), (3, .int z0)] [] K F z1 L Q) (kx : ∀ (y0 : zId), r = .inr y0 → zW l G MX7_tellDays 1 24 0 0 132 [(0, .ref 1860), (2, .int v2_15)] [] K F y0 L Q)  : zW l G MX7_tellDays 1 24 0 0 45 [(0, .ref 1860), (2, .int v2_15), (3, .int v3_17)] [] K F I_18 L Q := by
  unfold F_X7_tellDays_L45 at hF
  refine z_iload_n (n := 46) dX7_tellDays_45 rfl 2 rfl rfl ?_
  refine z_aload_n (n := 47) dX7_tellDays_46 rfl 0 rfl rfl ?_
  refine z_getRS (n := 50) dX7_tellDays_47 rfl zok6 fX7_29 rfl hM.1 (Or.inl (by decide)) (mF_2 hM) ?_
  refine z_iconst (n := 51) (v := 0) dX7_tellDays_50 rfl (by decide) ?_
  refine z_ialdK (n := 52) 0 (by decide) dX7_tellDays_51 rfl (mK_2 hM) (zin_ok (i := 0) (n := 16) rfl) ?_
  refine z_icmp_ge (n := 55) (t := 132) dX7_tellDays_52 rfl (by decide) (fun hc => ?_) (fun hc => ?_)
  · replace hF := (if_pos hc).symm.trans hF
    refine z_sub [0, 1] rfl ?_
    have hF := Option.some.inj hF; subst hF
    exact kx _ rfl
  · replace hF := (if_neg hc).symm.trans hF
    refine z_iconst (n := 56) (v := 0) dX7_tellDays_55 rfl (by decide) ?_
    refine z_istoreE (n := 58) (lv' := [(4, .int 0), (0, .ref 1860), (2, .int v2_15), (3, .int v3_17)]) dX7_tellDays_56 rfl rfl (by decide) rfl ?_
    refine z_sub [1, 2, 3, 0] rfl ?_
    obtain ⟨t_36, e_33, hF⟩ := zb1_some hF
    obtain ⟨I_32, rfl⟩ : ∃ z, z = t_36 := ⟨_, rfl⟩
    have H_37 : zW l G MX7_tellDays 1 24 0 0 126 [(0, .ref 1860), (2, .int v2_15), (3, .int v3_17)] [] K F I_32 L Q := by
      obtain ⟨v3_34, e_35, hF⟩ := zlet_ob hF
      refine z_iincE (n := 129) (w := 1) (v := v3_34) (lv' := [(3, .int v3_34), (0, .ref 1860), (2, .int v2_15)]) dX7_tellDays_126 rfl 2 rfl (by decide) e_35 (by decide) rfl ?_
      refine z_goto (t := 45) dX7_tellDays_129 (by decide) ?_
      refine z_sub [1, 2, 0] rfl ?_
      have hF := Option.some.inj hF; subst hF
      exact kl _ _ rfl
    refine zloop_ind (P := fun s : Int32 × zId => zW l G MX7_tellDays 1 24 0 0 58 [(0, .ref 1860), (2, .int v2_15), (3, .int v3_17), (4, .int s.1)] [] K F s.2 L Q) (fun s r hb kl kr => ?_) e_33
    exact W_X7_tellDays_L58 (a0 := a0) htr hM hb (fun z0 z1 e => kl _ e) (fun y0 e => by cases kr _ e; exact H_37)
set_option maxHeartbeats 1000000 in
theorem W_X7_tellDays_L33 {l : Launch} {G : zGt} (htr : l.stackTraces = false) {K : zKd} {F : zFd} {L : zLd} {Q : zQt} {a0 : Int32} {v2_15 : Int32} {I_16 : zId} (hM : zMLay K F) {r : (Int32 × zId) ⊕ (zId)} (hF : F_X7_tellDays_L33 v2_15 I_16 = some r) (kl : ∀ (z0 : Int32) (z1 : zId), r = .inl (z0, z1) → zW l G MX7_tellDays 1 24 0 0 33 [(0, .ref 1860), (2, .int z0)] [] K F z1 L Q) (kx : ∀ (y0 : zId), r = .inr y0 → zW l G MX7_tellDays 1 24 0 0 138 [] [] K F y0 L Q)  : zW l G MX7_tellDays 1 24 0 0 33 [(0, .ref 1860), (2, .int v2_15)] [] K F I_16 L Q := by
  unfold F_X7_tellDays_L33 at hF
  refine z_iload_n (n := 34) dX7_tellDays_33 rfl 1 rfl rfl ?_
  refine z_aload_n (n := 35) dX7_tellDays_34 rfl 0 rfl rfl ?_
  refine z_getRS (n := 38) dX7_tellDays_35 rfl zok6 fX7_29 rfl hM.1 (Or.inl (by decide)) (mF_2 hM) ?_
  refine z_iconst (n := 39) (v := 0) dX7_tellDays_38 rfl (by decide) ?_
  refine z_ialdK (n := 40) 0 (by decide) dX7_tellDays_39 rfl (mK_2 hM) (zin_ok (i := 0) (n := 16) rfl) ?_
  refine z_icmp_ge (n := 43) (t := 138) dX7_tellDays_40 rfl (by decide) (fun hc => ?_) (fun hc => ?_)
  · replace hF := (if_pos hc).symm.trans hF
    refine z_sub [] rfl ?_
    have hF := Option.some.inj hF; subst hF
    exact kx _ rfl
  · replace hF := (if_neg hc).symm.trans hF
    refine z_iconst (n := 44) (v := 0) dX7_tellDays_43 rfl (by decide) ?_
    refine z_istore_nE (n := 45) (lv' := [(3, .int 0), (0, .ref 1860), (2, .int v2_15)]) dX7_tellDays_44 rfl rfl rfl (by decide) rfl ?_
    refine z_sub [1, 2, 0] rfl ?_
    obtain ⟨t_42, e_39, hF⟩ := zb1_some hF
    obtain ⟨I_38, rfl⟩ : ∃ z, z = t_42 := ⟨_, rfl⟩
    have H_43 : zW l G MX7_tellDays 1 24 0 0 132 [(0, .ref 1860), (2, .int v2_15)] [] K F I_38 L Q := by
      obtain ⟨v2_40, e_41, hF⟩ := zlet_ob hF
      refine z_iincE (n := 135) (w := 1) (v := v2_40) (lv' := [(2, .int v2_40), (0, .ref 1860)]) dX7_tellDays_132 rfl 1 rfl (by decide) e_41 (by decide) rfl ?_
      refine z_goto (t := 33) dX7_tellDays_135 (by decide) ?_
      refine z_sub [1, 0] rfl ?_
      have hF := Option.some.inj hF; subst hF
      exact kl _ _ rfl
    refine zloop_ind (P := fun s : Int32 × zId => zW l G MX7_tellDays 1 24 0 0 45 [(0, .ref 1860), (2, .int v2_15), (3, .int s.1)] [] K F s.2 L Q) (fun s r hb kl kr => ?_) e_39
    exact W_X7_tellDays_L45 (a0 := a0) htr hM hb (fun z0 z1 e => kl _ e) (fun y0 e => by cases kr _ e; exact H_43)
set_option maxHeartbeats 1000000 in
theorem C_X7_tellDays {l : Launch} {G : zGt} (htr : l.stackTraces = false) {K : zKd} {F : zFd} {L : zLd} {a0 : Int32} (hM : zMLay K F) {I : zId} {r : zId} (hF : F_X7_tellDays a0 I = some r) : zMet l G yX7_tellDays (ws_ yX7_tellDays cX7_tellDays 5 none) 1 24 0 0 [.ref 1860, .int a0] K F I L (zQe (.inl none) K F r L) := by
  refine zMet.of (by decide +kernel) htr (Nat.le_of_ble_eq_true rfl) ?_
  change zW l G MX7_tellDays 1 24 0 0 0 [(0, .ref 1860), (1, .int a0)] [] K F I L (zQe (.inl none) K F r L)
  unfold F_X7_tellDays at hF
  refine z_iconst (n := 1) (v := 0) dX7_tellDays_0 rfl (by decide) ?_
  refine z_istore_nE (n := 2) (lv' := [(2, .int 0), (0, .ref 1860), (1, .int a0)]) dX7_tellDays_1 rfl rfl rfl (by decide) rfl ?_
  refine z_sub [1, 2, 0] rfl ?_
  obtain ⟨t_48, e_14, hF⟩ := zb1_some hF
  obtain ⟨I_13, rfl⟩ : ∃ z, z = t_48 := ⟨_, rfl⟩
  have H_49 : zW l G MX7_tellDays 1 24 0 0 31 [(0, .ref 1860)] [] K F I_13 L (zQe (.inl none) K F r L) := by
    refine z_iconst (n := 32) (v := 0) dX7_tellDays_31 rfl (by decide) ?_
    refine z_istore_nE (n := 33) (lv' := [(2, .int 0), (0, .ref 1860)]) dX7_tellDays_32 rfl rfl rfl (by decide) rfl ?_
    refine z_sub [1, 0] rfl ?_
    obtain ⟨t_46, e_45, hF⟩ := zb1_some hF
    obtain ⟨I_44, rfl⟩ : ∃ z, z = t_46 := ⟨_, rfl⟩
    have H_47 : zW l G MX7_tellDays 1 24 0 0 138 [] [] K F I_44 L (zQe (.inl none) K F r L) := by
      have hF := Option.some.inj hF; subst hF
      exact z_vret dX7_tellDays_138 rfl ⟨rfl, rfl, rfl, rfl, rfl⟩
    refine zloop_ind (P := fun s : Int32 × zId => zW l G MX7_tellDays 1 24 0 0 33 [(0, .ref 1860), (2, .int s.1)] [] K F s.2 L (zQe (.inl none) K F r L)) (fun s r hb kl kr => ?_) e_45
    exact W_X7_tellDays_L33 (a0 := a0) htr hM hb (fun z0 z1 e => kl _ e) (fun y0 e => by cases kr _ e; exact H_47)
  refine zloop_ind (P := fun s : Int32 × zId => zW l G MX7_tellDays 1 24 0 0 2 [(0, .ref 1860), (1, .int a0), (2, .int s.1)] [] K F s.2 L (zQe (.inl none) K F r L)) (fun s r hb kl kr => ?_) e_14
  exact W_X7_tellDays_L2 (a0 := a0) htr hM hb (fun z0 z1 e => kl _ e) (fun y0 e => by cases kr _ e; exact H_49)
theorem hcee_X7_tellDays : zCee yX7_tellDays RX7 1 := ⟨rfl, by decide +kernel, by decide +kernel, by decide +kernel⟩
abbrev MX7_farOf : zM := (RX7, cX7_farOf, 3, (some .int), "farOf", [])
noncomputable def F_X7_farOf (a0 : Int32) (a1 : Int32) (I : zId) : Option (Int32 × zId) := zb1 (F_X7_tellDays a0 I) (fun I_2 => zg (zin a1 8) (some (I_2 1887 a1.toNatClampNeg, I_2)))
set_option maxHeartbeats 1000000 in
theorem C_X7_farOf {l : Launch} {G : zGt} (htr : l.stackTraces = false) {K : zKd} {F : zFd} {L : zLd} {a0 : Int32} {a1 : Int32} (hM : zMLay K F) {I : zId} {r : Int32 × zId} (hF : F_X7_farOf a0 a1 I = some r) : zMet l G yX7_farOf (ws_ yX7_farOf cX7_farOf 3 (some .int)) 2 48 0 0 [.ref 1860, .int a0, .int a1] K F I L (zQe (.inl (some (.int r.1))) K F r.2 L) := by
  refine zMet.of (by decide +kernel) htr (Nat.le_of_ble_eq_true rfl) ?_
  change zW l G MX7_farOf 2 48 0 0 0 [(0, .ref 1860), (1, .int a0), (2, .int a1)] [] K F I L (zQe (.inl (some (.int r.1))) K F r.2 L)
  unfold F_X7_farOf at hF
  refine z_aload_n (n := 1) dX7_farOf_0 rfl 0 rfl rfl ?_
  refine z_iload_n (n := 2) dX7_farOf_1 rfl 1 rfl rfl ?_
  obtain ⟨I_2, c_1, hF⟩ := zb1_some hF
  refine z_cV (n := 5) (st := []) (C_X7_tellDays htr hM c_1) dX7_farOf_2 rfl (lw_V q2192 q2194 qs95 q131 q2195) hcee_X7_tellDays rfl (by decide) hM.1 rfl rfl rfl (Nat.le_of_ble_eq_true rfl) (Nat.le_refl _) (Nat.le_refl _) ?_
  refine z_aload_n (n := 6) dX7_farOf_5 rfl 0 rfl rfl ?_
  refine z_getRS (n := 9) dX7_farOf_6 rfl zok6 fX7_105 rfl hM.1 (Or.inl (by decide)) (mF_43 hM) ?_
  refine z_iload_n (n := 10) dX7_farOf_9 rfl 2 rfl rfl ?_
  obtain ⟨h_3, hF⟩ := zg_some hF
  refine z_ialdK (n := 11) a1.toNatClampNeg rfl dX7_farOf_10 rfl (mK_43 hM) (zin_ok h_3) ?_
  have hF := Option.some.inj hF; subst hF
  exact z_iret dX7_farOf_11 rfl rfl ⟨rfl, rfl, rfl, rfl, rfl⟩
theorem hcee_X7_farOf : zCee yX7_farOf RX7 2 := ⟨rfl, by decide +kernel, by decide +kernel, by decide +kernel⟩
abbrev MX7_far : zM := (RX7, cX7_far, 4, (some .int), "far", [])
noncomputable def F_X7_far (a0 : Int32) (a1 : Int32) (I : zId) : Option (Int32 × zId) := zlet (zu I 1860 1 0) (fun I_1 => zb1 (F_X7_isForest a0 I_1) (fun x_4 => if x_4 = 0 then zb2 (F_X7_fail 1 I_1) (fun x_6 I_7 => some (x_6, I_7)) else zb1 (F_X7_isForest a1 I_1) (fun x_9 => if ¬ x_9 = 0 then zb2 (F_X7_farOf a0 a1 I_1) (fun x_11 I_12 => if x_11 < 100000 then some (x_11, I_12) else some ((-1), I_12)) else zb2 (F_X7_fail 1 I_1) (fun x_14 I_15 => some (x_14, I_15)))))
set_option maxHeartbeats 1000000 in
theorem C_X7_far {l : Launch} {G : zGt} (htr : l.stackTraces = false) {K : zKd} {F : zFd} {L : zLd} {a0 : Int32} {a1 : Int32} (hM : zMLay K F) {I : zId} {r : Int32 × zId} (hF : F_X7_far a0 a1 I = some r) : zMet l G yX7_far (ws_ yX7_far cX7_far 4 (some .int)) 3 70 0 0 [.ref 1860, .int a0, .int a1] K F I L (zQe (.inl (some (.int r.1))) K F r.2 L) := by
  refine zMet.of (by decide +kernel) htr (Nat.le_of_ble_eq_true rfl) ?_
  change zW l G MX7_far 3 70 0 0 0 [(0, .ref 1860), (1, .int a0), (2, .int a1)] [] K F I L (zQe (.inl (some (.int r.1))) K F r.2 L)
  unfold F_X7_far at hF
  refine z_aload_n (n := 1) dX7_far_0 rfl 0 rfl rfl ?_
  refine z_iconst (n := 2) (v := 0) dX7_far_1 rfl (by decide) ?_
  obtain ⟨I_1, e_2, hF⟩ := zlet_ob hF
  refine z_putIE (n := 5) dX7_far_2 rfl zok6 fX7_150 (Or.inl ⟨_, rfl, rfl⟩) rfl ⟨rfl, rfl⟩ hM.1 (by decide) e_2 ?_
  refine z_aload_n (n := 6) dX7_far_5 rfl 0 rfl rfl ?_
  refine z_iload_n (n := 7) dX7_far_6 rfl 1 rfl rfl ?_
  obtain ⟨x_4, c_3, hF⟩ := zb1_some hF
  refine z_cV (n := 10) (st := []) (C_X7_isForest htr hM c_3) dX7_far_7 rfl (lw_V q2026 q2028 qs75 q131 q2029) hcee_X7_isForest rfl (by decide) hM.1 rfl rfl rfl (Nat.le_of_ble_eq_true rfl) (Nat.le_refl _) (Nat.le_refl _) ?_
  refine z_if_eq (n := 13) (t := 21) dX7_far_10 rfl (by decide) (fun hc => ?_) (fun hc => ?_)
  · replace hF := (if_pos hc).symm.trans hF
    refine z_aload_n (n := 22) dX7_far_21 rfl 0 rfl rfl ?_
    refine z_iconst (n := 23) (v := 1) dX7_far_22 rfl (by decide) ?_
    obtain ⟨x_6, I_7, c_5, hF⟩ := zb2_some hF
    refine z_cV (n := 26) (st := []) (C_X7_fail htr hM c_5) dX7_far_23 rfl (lw_V q1879 q1881 qs48 q131 q1882) hcee_X7_fail rfl (by decide) hM.1 rfl rfl rfl (Nat.le_of_ble_eq_true rfl) (Nat.le_refl _) (Nat.le_refl _) ?_
    have hF := Option.some.inj hF; subst hF
    exact z_iret dX7_far_26 rfl rfl ⟨rfl, rfl, rfl, rfl, rfl⟩
  · replace hF := (if_neg hc).symm.trans hF
    refine z_aload_n (n := 14) dX7_far_13 rfl 0 rfl rfl ?_
    refine z_iload_n (n := 15) dX7_far_14 rfl 2 rfl rfl ?_
    obtain ⟨x_9, c_8, hF⟩ := zb1_some hF
    refine z_cV (n := 18) (st := []) (C_X7_isForest htr hM c_8) dX7_far_15 rfl (lw_V q2026 q2028 qs75 q131 q2029) hcee_X7_isForest rfl (by decide) hM.1 rfl rfl rfl (Nat.le_of_ble_eq_true rfl) (Nat.le_refl _) (Nat.le_refl _) ?_
    refine z_if_ne (n := 21) (t := 27) dX7_far_18 rfl (by decide) (fun hc => ?_) (fun hc => ?_)
    · replace hF := (if_pos hc).symm.trans hF
      refine z_aload_n (n := 28) dX7_far_27 rfl 0 rfl rfl ?_
      refine z_iload_n (n := 29) dX7_far_28 rfl 1 rfl rfl ?_
      refine z_iload_n (n := 30) dX7_far_29 rfl 2 rfl rfl ?_
      obtain ⟨x_11, I_12, c_10, hF⟩ := zb2_some hF
      refine z_cV (n := 33) (st := []) (C_X7_farOf htr hM c_10) dX7_far_30 rfl (lw_V q2188 q2190 qs94 q131 q2191) hcee_X7_farOf rfl (by decide) hM.1 rfl rfl rfl (Nat.le_of_ble_eq_true rfl) (Nat.le_refl _) (Nat.le_refl _) ?_
      refine z_istore_nE (n := 34) (lv' := [(3, .int x_11), (0, .ref 1860), (1, .int a0), (2, .int a1)]) dX7_far_33 rfl rfl rfl (by decide) rfl ?_
      refine z_iload_n (n := 35) dX7_far_34 rfl 0 rfl rfl ?_
      refine z_ldc (n := 37) dX7_far_35 rfl q1897 ?_
      refine z_icmp_lt (n := 40) (t := 44) dX7_far_37 rfl (by decide) (fun hc => ?_) (fun hc => ?_)
      · replace hF := (if_pos hc).symm.trans hF
        refine z_iload_n (n := 45) dX7_far_44 rfl 0 rfl rfl ?_
        have hF := Option.some.inj hF; subst hF
        exact z_iret dX7_far_45 rfl rfl ⟨rfl, rfl, rfl, rfl, rfl⟩
      · replace hF := (if_neg hc).symm.trans hF
        refine z_iconst (n := 41) (v := (-1)) dX7_far_40 rfl (by decide) ?_
        refine z_goto (t := 45) dX7_far_41 (by decide) ?_
        have hF := Option.some.inj hF; subst hF
        exact z_iret dX7_far_45 rfl rfl ⟨rfl, rfl, rfl, rfl, rfl⟩
    · replace hF := (if_neg hc).symm.trans hF
      refine z_aload_n (n := 22) dX7_far_21 rfl 0 rfl rfl ?_
      refine z_iconst (n := 23) (v := 1) dX7_far_22 rfl (by decide) ?_
      obtain ⟨x_14, I_15, c_13, hF⟩ := zb2_some hF
      refine z_cV (n := 26) (st := []) (C_X7_fail htr hM c_13) dX7_far_23 rfl (lw_V q1879 q1881 qs48 q131 q1882) hcee_X7_fail rfl (by decide) hM.1 rfl rfl rfl (Nat.le_of_ble_eq_true rfl) (Nat.le_refl _) (Nat.le_refl _) ?_
      have hF := Option.some.inj hF; subst hF
      exact z_iret dX7_far_26 rfl rfl ⟨rfl, rfl, rfl, rfl, rfl⟩
abbrev MX7_isFort : zM := (RX7, cX7_isFort, 2, (some .boolean), "isFort", [])
noncomputable def F_X7_isFort (a0 : Int32) (I : zId) : Option (Int32) := zb1 (F_X7_isIn a0.toInt64 0 (((I 1862 3) - 1).toInt64) I) (fun x_2 => zg (decide (x_2 = 0) || decide (x_2 = 1)) (some x_2))
set_option maxHeartbeats 1000000 in
theorem C_X7_isFort {l : Launch} {G : zGt} (htr : l.stackTraces = false) {K : zKd} {F : zFd} {L : zLd} {a0 : Int32} (hM : zMLay K F) {I : zId} {r : Int32} (hF : F_X7_isFort a0 I = some r) : zMet l G yX7_isFort (ws_ yX7_isFort cX7_isFort 2 (some .boolean)) 1 25 0 0 [.ref 1860, .int a0] K F I L (zQe (.inl (some (.int r))) K F I L) := by
  refine zMet.of (by decide +kernel) htr (Nat.le_of_ble_eq_true rfl) ?_
  change zW l G MX7_isFort 1 25 0 0 0 [(0, .ref 1860), (1, .int a0)] [] K F I L (zQe (.inl (some (.int r))) K F I L)
  unfold F_X7_isFort at hF
  refine z_iload_n (n := 1) dX7_isFort_0 rfl 1 rfl rfl ?_
  refine z_i2l (n := 2) dX7_isFort_1 rfl ?_
  refine z_lconst (n := 3) (v := 0) dX7_isFort_2 rfl (by decide) ?_
  refine z_aload_n (n := 4) dX7_isFort_3 rfl 0 rfl rfl ?_
  refine z_getRS (n := 7) dX7_isFort_4 rfl zok6 fX7_29 rfl hM.1 (Or.inl (by decide)) (mF_2 hM) ?_
  refine z_iconst (n := 8) (v := 3) dX7_isFort_7 rfl (by decide) ?_
  refine z_ialdK (n := 9) 3 (by decide) dX7_isFort_8 rfl (mK_2 hM) (zin_ok (i := 3) (n := 16) rfl) ?_
  refine z_iconst (n := 10) (v := 1) dX7_isFort_9 rfl (by decide) ?_
  refine z_isub (n := 11) dX7_isFort_10 rfl ?_
  refine z_i2l (n := 12) dX7_isFort_11 rfl ?_
  obtain ⟨x_2, c_1, hF⟩ := zb1_some hF
  refine z_cS (n := 15) (st := []) (C_X7_isIn htr c_1) dX7_isFort_12 rfl (lw_S q2030 q2031 q131 q2032) hcee_X7_isIn rfl (by decide) rfl (Nat.le_of_ble_eq_true rfl) (Nat.le_refl _) (Nat.le_refl _) ?_
  obtain ⟨h_3, hF⟩ := zg_some hF
  have hF := Option.some.inj hF; subst hF
  exact z_iret dX7_isFort_15 rfl (zbool_nar h_3) ⟨rfl, rfl, rfl, rfl, rfl⟩
abbrev MX7_isOf : zM := (RX7, cX7_isOf, 2, (some .boolean), "isOf", [])
noncomputable def F_X7_isOf (a0 : Int32) (a1 : Int32) (I : zId) : Option (Int32) := if ¬ ((a0 >>> (a1 &&& (31 : Int32))) &&& (1 : Int32)) = 1 then some 0 else some 1
set_option maxHeartbeats 1000000 in
theorem C_X7_isOf {l : Launch} {G : zGt} (htr : l.stackTraces = false) {K : zKd} {F : zFd} {L : zLd} {a0 : Int32} {a1 : Int32} {I : zId} {r : Int32} (hF : F_X7_isOf a0 a1 I = some r) : zMet l G yX7_isOf (ws_ yX7_isOf cX7_isOf 2 (some .boolean)) 0 0 0 0 [.int a0, .int a1] K F I L (zQe (.inl (some (.int r))) K F I L) := by
  refine zMet.of (by decide +kernel) htr (Nat.le_of_ble_eq_true rfl) ?_
  change zW l G MX7_isOf 0 0 0 0 0 [(0, .int a0), (1, .int a1)] [] K F I L (zQe (.inl (some (.int r))) K F I L)
  unfold F_X7_isOf at hF
  refine z_iload_n (n := 1) dX7_isOf_0 rfl 0 rfl rfl ?_
  refine z_iload_n (n := 2) dX7_isOf_1 rfl 1 rfl rfl ?_
  refine z_ishr (n := 3) dX7_isOf_2 rfl ?_
  refine z_iconst (n := 4) (v := 1) dX7_isOf_3 rfl (by decide) ?_
  refine z_iand (n := 5) dX7_isOf_4 rfl ?_
  refine z_iconst (n := 6) (v := 1) dX7_isOf_5 rfl (by decide) ?_
  refine z_icmp_ne (n := 9) (t := 13) dX7_isOf_6 rfl (by decide) (fun hc => ?_) (fun hc => ?_)
  · replace hF := (if_pos hc).symm.trans hF
    refine z_iconst (n := 14) (v := 0) dX7_isOf_13 rfl (by decide) ?_
    have hF := Option.some.inj hF; subst hF
    exact z_iret dX7_isOf_14 rfl rfl ⟨rfl, rfl, rfl, rfl, rfl⟩
  · replace hF := (if_neg hc).symm.trans hF
    refine z_iconst (n := 10) (v := 1) dX7_isOf_9 rfl (by decide) ?_
    refine z_goto (t := 14) dX7_isOf_10 (by decide) ?_
    have hF := Option.some.inj hF; subst hF
    exact z_iret dX7_isOf_14 rfl rfl ⟨rfl, rfl, rfl, rfl, rfl⟩
theorem fX7_108 : zFld RX7 108 6 44 := ⟨_, rfl, by decide, _, Or.inl q1721, Or.inl rfl⟩
theorem fX7_111 : zFld RX7 111 6 45 := ⟨_, rfl, by decide, _, Or.inl q1722, Or.inl rfl⟩
theorem hcee_X7_isFort : zCee yX7_isFort RX7 1 := ⟨rfl, by decide +kernel, by decide +kernel, by decide +kernel⟩
theorem hcee_X7_isOf : zCee yX7_isOf RX7 2 := ⟨rfl, by decide +kernel, by decide +kernel, by decide +kernel⟩
abbrev MX7_round : zM := (RX7, cX7_round, 10, (some .int), "round", [])
noncomputable def F_X7_round_L23 (I_1 : zId) (v2_5 : Int32) (v3_6 : Int32) : Option ((Int32 × Int32) ⊕ (Int32)) := if (I_1 1862 2) ≤ v3_6 then some (.inr (v2_5)) else zg (zin v3_6 6) (zlet (v2_5 ||| ((1 : Int32) <<< ((I_1 1878 v3_6.toNatClampNeg) &&& (31 : Int32)))) (fun v2_8 => zlet (v3_6 + 1) (fun v3_10 => some (.inl (v2_8, v3_10)))))
noncomputable def F_X7_round_L70 (v3_14 : Int32) (v4_18 : Int32) (I_19 : zId) : Option ((Int32 × zId) ⊕ (zId)) := if (I_19 1862 0) ≤ v4_18 then some (.inr (I_19)) else zg (zin v4_18 8) (zg (zin (((8 : Int32) * v3_14) + v4_18) 64) (zlet (zu I_19 1889 ((((8 : Int32) * v3_14) + v4_18).toNatClampNeg) (I_19 1887 v4_18.toNatClampNeg)) (fun I_22 => zlet (v4_18 + 1) (fun v4_24 => some (.inl (v4_24, I_22))))))
noncomputable def F_X7_round_L52 (v3_14 : Int32) (I_15 : zId) : Option ((Int32 × zId) ⊕ (zId)) := if (I_15 1862 0) ≤ v3_14 then some (.inr (I_15)) else zb1 (F_X7_tellDays v3_14 I_15) (fun I_17 => zb1 (zloop (fun s : Int32 × zId => F_X7_round_L70 v3_14 s.1 s.2) (0, I_17)) (fun I_26 => zlet (v3_14 + 1) (fun v3_28 => some (.inl (v3_28, I_26)))))
noncomputable def F_X7_round_L217 (v6_45 : Int32) (I_46 : zId) (v8_63 : Int32) (v7_69 : Int32) (v9_70 : Int32) : Option ((Int32 × Int32) ⊕ (Int32)) := if (I_46 1862 0) ≤ v9_70 then some (.inr (v7_69)) else zb1 (F_X7_isOf v8_63 v9_70 I_46) (fun x_72 => if x_72 = 0 then zlet (v9_70 + 1) (fun v9_73 => some (.inl (v7_69, v9_73))) else zg (zin ((v8_63 <<< ((3 : Int32) &&& (31 : Int32))) + v9_70) 2048) (zg (zin (((8 : Int32) * v9_70) + v6_45) 64) (zlet (zmin v7_69 ((I_46 1888 (((v8_63 <<< ((3 : Int32) &&& (31 : Int32))) + v9_70).toNatClampNeg)) + (I_46 1889 ((((8 : Int32) * v9_70) + v6_45).toNatClampNeg)))) (fun v7_77 => zlet (v9_70 + 1) (fun v9_79 => some (.inl (v7_77, v9_79)))))))
noncomputable def F_X7_round_L143 (v2_12 : Int32) (v3_35 : Int32) (v5_42 : Int32) (v4_44 : Int32) (v6_45 : Int32) (I_46 : zId) : Option ((Int32 × Int32 × zId) ⊕ (Int32 × zId)) := if (I_46 1862 0) ≤ v6_45 then some (.inr ((v4_44, I_46))) else zb1 (F_X7_isOf (v5_42 &&& v2_12) v6_45 I_46) (fun x_48 => zlet (fun (v7_49 : Int32) => zg (zin ((v5_42 <<< ((3 : Int32) &&& (31 : Int32))) + v6_45) 2048) (zlet (zu I_46 1888 (((v5_42 <<< ((3 : Int32) &&& (31 : Int32))) + v6_45).toNatClampNeg) (zmin 100000 v7_49)) (fun I_54 => if ¬ v5_42 = v2_12 then zlet (v6_45 + 1) (fun v6_56 => some (.inl (v4_44, v6_56, I_54))) else zg (zin (((8 : Int32) * v6_45) + v3_35) 64) (zlet (zmin v4_44 (v7_49 + (I_54 1889 ((((8 : Int32) * v6_45) + v3_35).toNatClampNeg)))) (fun v4_59 => zlet (v6_45 + 1) (fun v6_61 => some (.inl (v4_59, v6_61, I_54)))))))) (fun k_50 => if x_48 = 0 then k_50 100000 else if ¬ (v5_42 &&& (v2_12 ^^^ ((-1) : Int32))) = 0 then k_50 100000 else zlet (v5_42 &&& (((1 : Int32) <<< (v6_45 &&& (31 : Int32))) ^^^ ((-1) : Int32))) (fun v8_63 => zlet (fun (w_65 : Int32) => zb1 (zloop (fun s : Int32 × Int32 => F_X7_round_L217 v6_45 I_46 v8_63 s.1 s.2) (w_65, 0)) (fun v7_81 => k_50 v7_81)) (fun k_66 => if ¬ v8_63 = 0 then k_66 100000 else zg (zin (((8 : Int32) * v3_35) + v6_45) 64) (k_66 (I_46 1889 ((((8 : Int32) * v3_35) + v6_45).toNatClampNeg)))))))
noncomputable def F_X7_round_L134 (v2_12 : Int32) (v3_35 : Int32) (v4_41 : Int32) (v5_42 : Int32) (I_43 : zId) : Option ((Int32 × Int32 × zId) ⊕ (Int32 × zId)) := if v2_12 < v5_42 then some (.inr ((v4_41, I_43))) else zb1 (zloop (fun s : Int32 × Int32 × zId => F_X7_round_L143 v2_12 v3_35 v5_42 s.1 s.2.1 s.2.2) (v4_41, 0, I_43)) (zn2 (fun v4_86 I_87 => zlet (v5_42 + 1) (fun v5_89 => some (.inl (v4_86, v5_89, I_87)))))
noncomputable def F_X7_round (a0 : Int32) (I : zId) : Option (Int32 × zId) := zlet (zu I 1860 1 0) (fun I_1 => zb1 (F_X7_isFort a0 I_1) (fun x_4 => if ¬ x_4 = 0 then zb1 (zloop (fun s : Int32 × Int32 => F_X7_round_L23 I_1 s.1 s.2) (0, 0)) (fun v2_12 => zb1 (zloop (fun s : Int32 × zId => F_X7_round_L52 s.1 s.2) (0, I_1)) (fun I_32 => zg (zin a0 6) (zlet (I_32 1871 a0.toNatClampNeg) (fun v3_35 => zlet (fun (w_37 : Int32) => zb1 (zloop (fun s : Int32 × Int32 × zId => F_X7_round_L134 v2_12 v3_35 s.1 s.2.1 s.2.2) (w_37, 1, I_32)) (zn2 (fun v4_93 I_94 => if v4_93 < 100000 then some (v4_93, I_94) else some ((-1), I_94)))) (fun k_38 => if ¬ v2_12 = 0 then k_38 100000 else k_38 0))))) else zb2 (F_X7_fail 1 I_1) (fun x_103 I_104 => some (x_103, I_104))))
set_option maxHeartbeats 1000000 in
theorem W_X7_round_L23 {l : Launch} {G : zGt} (htr : l.stackTraces = false) {K : zKd} {F : zFd} {L : zLd} {Q : zQt} {a0 : Int32} {I_1 : zId} {v2_5 : Int32} {v3_6 : Int32} (hM : zMLay K F) {r : (Int32 × Int32) ⊕ (Int32)} (hF : F_X7_round_L23 I_1 v2_5 v3_6 = some r) (kl : ∀ (z0 : Int32) (z1 : Int32), r = .inl (z0, z1) → zW l G MX7_round 2 48 0 0 23 [(0, .ref 1860), (1, .int a0), (2, .int z0), (3, .int z1)] [] K F I_1 L Q) (kx : ∀ (y0 : Int32), r = .inr y0 → zW l G MX7_round 2 48 0 0 50 [(0, .ref 1860), (1, .int a0), (2, .int y0)] [] K F I_1 L Q)  : zW l G MX7_round 2 48 0 0 23 [(0, .ref 1860), (1, .int a0), (2, .int v2_5), (3, .int v3_6)] [] K F I_1 L Q := by
  unfold F_X7_round_L23 at hF
  refine z_iload_n (n := 24) dX7_round_23 rfl 3 rfl rfl ?_
  refine z_aload_n (n := 25) dX7_round_24 rfl 0 rfl rfl ?_
  refine z_getRS (n := 28) dX7_round_25 rfl zok6 fX7_29 rfl hM.1 (Or.inl (by decide)) (mF_2 hM) ?_
  refine z_iconst (n := 29) (v := 2) dX7_round_28 rfl (by decide) ?_
  refine z_ialdK (n := 30) 2 (by decide) dX7_round_29 rfl (mK_2 hM) (zin_ok (i := 2) (n := 16) rfl) ?_
  refine z_icmp_ge (n := 33) (t := 50) dX7_round_30 rfl (by decide) (fun hc => ?_) (fun hc => ?_)
  · replace hF := (if_pos hc).symm.trans hF
    refine z_sub [0, 1, 2] rfl ?_
    have hF := Option.some.inj hF; subst hF
    exact kx _ rfl
  · replace hF := (if_neg hc).symm.trans hF
    refine z_iload_n (n := 34) dX7_round_33 rfl 2 rfl rfl ?_
    refine z_iconst (n := 35) (v := 1) dX7_round_34 rfl (by decide) ?_
    refine z_aload_n (n := 36) dX7_round_35 rfl 0 rfl rfl ?_
    refine z_getRS (n := 39) dX7_round_36 rfl zok6 fX7_80 rfl hM.1 (Or.inl (by decide)) (mF_28 hM) ?_
    refine z_iload_n (n := 40) dX7_round_39 rfl 3 rfl rfl ?_
    obtain ⟨h_7, hF⟩ := zg_some hF
    refine z_ialdK (n := 41) v3_6.toNatClampNeg rfl dX7_round_40 rfl (mK_28 hM) (zin_ok h_7) ?_
    refine z_ishl (n := 42) dX7_round_41 rfl ?_
    refine z_ior (n := 43) dX7_round_42 rfl ?_
    obtain ⟨v2_8, e_9, hF⟩ := zlet_ob hF
    refine z_istore_nE (n := 44) (lv' := [(2, .int v2_8), (0, .ref 1860), (1, .int a0), (3, .int v3_6)]) dX7_round_43 rfl e_9 rfl (by decide) rfl ?_
    obtain ⟨v3_10, e_11, hF⟩ := zlet_ob hF
    refine z_iincE (n := 47) (w := 1) (v := v3_10) (lv' := [(3, .int v3_10), (2, .int v2_8), (0, .ref 1860), (1, .int a0)]) dX7_round_44 rfl 3 rfl (by decide) e_11 (by decide) rfl ?_
    refine z_goto (t := 23) dX7_round_47 (by decide) ?_
    refine z_sub [2, 3, 1, 0] rfl ?_
    have hF := Option.some.inj hF; subst hF
    exact kl _ _ rfl
set_option maxHeartbeats 1000000 in
theorem W_X7_round_L70 {l : Launch} {G : zGt} (htr : l.stackTraces = false) {K : zKd} {F : zFd} {L : zLd} {Q : zQt} {a0 : Int32} {v2_12 : Int32} {v3_14 : Int32} {v4_18 : Int32} {I_19 : zId} (hM : zMLay K F) {r : (Int32 × zId) ⊕ (zId)} (hF : F_X7_round_L70 v3_14 v4_18 I_19 = some r) (kl : ∀ (z0 : Int32) (z1 : zId), r = .inl (z0, z1) → zW l G MX7_round 2 48 0 0 70 [(0, .ref 1860), (1, .int a0), (2, .int v2_12), (3, .int v3_14), (4, .int z0)] [] K F z1 L Q) (kx : ∀ (y0 : zId), r = .inr y0 → zW l G MX7_round 2 48 0 0 106 [(0, .ref 1860), (1, .int a0), (2, .int v2_12), (3, .int v3_14)] [] K F y0 L Q)  : zW l G MX7_round 2 48 0 0 70 [(0, .ref 1860), (1, .int a0), (2, .int v2_12), (3, .int v3_14), (4, .int v4_18)] [] K F I_19 L Q := by
  unfold F_X7_round_L70 at hF
  refine z_iload (n := 72) dX7_round_70 rfl 4 rfl ?_
  refine z_aload_n (n := 73) dX7_round_72 rfl 0 rfl rfl ?_
  refine z_getRS (n := 76) dX7_round_73 rfl zok6 fX7_29 rfl hM.1 (Or.inl (by decide)) (mF_2 hM) ?_
  refine z_iconst (n := 77) (v := 0) dX7_round_76 rfl (by decide) ?_
  refine z_ialdK (n := 78) 0 (by decide) dX7_round_77 rfl (mK_2 hM) (zin_ok (i := 0) (n := 16) rfl) ?_
  refine z_icmp_ge (n := 81) (t := 106) dX7_round_78 rfl (by decide) (fun hc => ?_) (fun hc => ?_)
  · replace hF := (if_pos hc).symm.trans hF
    refine z_sub [0, 1, 2, 3] rfl ?_
    have hF := Option.some.inj hF; subst hF
    exact kx _ rfl
  · replace hF := (if_neg hc).symm.trans hF
    refine z_aload_n (n := 82) dX7_round_81 rfl 0 rfl rfl ?_
    refine z_getRS (n := 85) dX7_round_82 rfl zok6 fX7_111 rfl hM.1 (Or.inl (by decide)) (mF_45 hM) ?_
    refine z_bipush (n := 87) (v := 8) dX7_round_85 rfl (by decide) ?_
    refine z_iload_n (n := 88) dX7_round_87 rfl 3 rfl rfl ?_
    refine z_imul (n := 89) dX7_round_88 rfl ?_
    refine z_iload (n := 91) dX7_round_89 rfl 4 rfl ?_
    refine z_iadd (n := 92) dX7_round_91 rfl ?_
    refine z_aload_n (n := 93) dX7_round_92 rfl 0 rfl rfl ?_
    refine z_getRS (n := 96) dX7_round_93 rfl zok6 fX7_105 rfl hM.1 (Or.inl (by decide)) (mF_43 hM) ?_
    refine z_iload (n := 98) dX7_round_96 rfl 4 rfl ?_
    obtain ⟨h_20, hF⟩ := zg_some hF
    refine z_ialdK (n := 99) v4_18.toNatClampNeg rfl dX7_round_98 rfl (mK_43 hM) (zin_ok h_20) ?_
    obtain ⟨h_21, hF⟩ := zg_some hF
    obtain ⟨I_22, e_23, hF⟩ := zlet_ob hF
    refine z_iastK (n := 100) ((((8 : Int32) * v3_14) + v4_18).toNatClampNeg) rfl dX7_round_99 rfl (mK_45 hM) (by decide) (zin_ok h_21) e_23 ?_
    obtain ⟨v4_24, e_25, hF⟩ := zlet_ob hF
    refine z_iincE (n := 103) (w := 1) (v := v4_24) (lv' := [(4, .int v4_24), (0, .ref 1860), (1, .int a0), (2, .int v2_12), (3, .int v3_14)]) dX7_round_100 rfl 4 rfl (by decide) e_25 (by decide) rfl ?_
    refine z_goto (t := 70) dX7_round_103 (by decide) ?_
    refine z_sub [1, 2, 3, 4, 0] rfl ?_
    have hF := Option.some.inj hF; subst hF
    exact kl _ _ rfl
set_option maxHeartbeats 1000000 in
theorem W_X7_round_L52 {l : Launch} {G : zGt} (htr : l.stackTraces = false) {K : zKd} {F : zFd} {L : zLd} {Q : zQt} {a0 : Int32} {v2_12 : Int32} {v3_14 : Int32} {I_15 : zId} (hM : zMLay K F) {r : (Int32 × zId) ⊕ (zId)} (hF : F_X7_round_L52 v3_14 I_15 = some r) (kl : ∀ (z0 : Int32) (z1 : zId), r = .inl (z0, z1) → zW l G MX7_round 2 48 0 0 52 [(0, .ref 1860), (1, .int a0), (2, .int v2_12), (3, .int z0)] [] K F z1 L Q) (kx : ∀ (y0 : zId), r = .inr y0 → zW l G MX7_round 2 48 0 0 112 [(0, .ref 1860), (1, .int a0), (2, .int v2_12)] [] K F y0 L Q)  : zW l G MX7_round 2 48 0 0 52 [(0, .ref 1860), (1, .int a0), (2, .int v2_12), (3, .int v3_14)] [] K F I_15 L Q := by
  unfold F_X7_round_L52 at hF
  refine z_iload_n (n := 53) dX7_round_52 rfl 3 rfl rfl ?_
  refine z_aload_n (n := 54) dX7_round_53 rfl 0 rfl rfl ?_
  refine z_getRS (n := 57) dX7_round_54 rfl zok6 fX7_29 rfl hM.1 (Or.inl (by decide)) (mF_2 hM) ?_
  refine z_iconst (n := 58) (v := 0) dX7_round_57 rfl (by decide) ?_
  refine z_ialdK (n := 59) 0 (by decide) dX7_round_58 rfl (mK_2 hM) (zin_ok (i := 0) (n := 16) rfl) ?_
  refine z_icmp_ge (n := 62) (t := 112) dX7_round_59 rfl (by decide) (fun hc => ?_) (fun hc => ?_)
  · replace hF := (if_pos hc).symm.trans hF
    refine z_sub [0, 1, 2] rfl ?_
    have hF := Option.some.inj hF; subst hF
    exact kx _ rfl
  · replace hF := (if_neg hc).symm.trans hF
    refine z_aload_n (n := 63) dX7_round_62 rfl 0 rfl rfl ?_
    refine z_iload_n (n := 64) dX7_round_63 rfl 3 rfl rfl ?_
    obtain ⟨I_17, c_16, hF⟩ := zb1_some hF
    refine z_cV (n := 67) (st := []) (C_X7_tellDays htr hM c_16) dX7_round_64 rfl (lw_V q2192 q2194 qs95 q131 q2195) hcee_X7_tellDays rfl (by decide) hM.1 rfl rfl rfl (Nat.le_of_ble_eq_true rfl) (Nat.le_refl _) (Nat.le_refl _) ?_
    refine z_iconst (n := 68) (v := 0) dX7_round_67 rfl (by decide) ?_
    refine z_istoreE (n := 70) (lv' := [(4, .int 0), (0, .ref 1860), (1, .int a0), (2, .int v2_12), (3, .int v3_14)]) dX7_round_68 rfl rfl (by decide) rfl ?_
    refine z_sub [1, 2, 3, 4, 0] rfl ?_
    obtain ⟨t_30, e_27, hF⟩ := zb1_some hF
    obtain ⟨I_26, rfl⟩ : ∃ z, z = t_30 := ⟨_, rfl⟩
    have H_31 : zW l G MX7_round 2 48 0 0 106 [(0, .ref 1860), (1, .int a0), (2, .int v2_12), (3, .int v3_14)] [] K F I_26 L Q := by
      obtain ⟨v3_28, e_29, hF⟩ := zlet_ob hF
      refine z_iincE (n := 109) (w := 1) (v := v3_28) (lv' := [(3, .int v3_28), (0, .ref 1860), (1, .int a0), (2, .int v2_12)]) dX7_round_106 rfl 3 rfl (by decide) e_29 (by decide) rfl ?_
      refine z_goto (t := 52) dX7_round_109 (by decide) ?_
      refine z_sub [1, 2, 3, 0] rfl ?_
      have hF := Option.some.inj hF; subst hF
      exact kl _ _ rfl
    refine zloop_ind (P := fun s : Int32 × zId => zW l G MX7_round 2 48 0 0 70 [(0, .ref 1860), (1, .int a0), (2, .int v2_12), (3, .int v3_14), (4, .int s.1)] [] K F s.2 L Q) (fun s r hb kl kr => ?_) e_27
    exact W_X7_round_L70 (a0 := a0) htr hM hb (fun z0 z1 e => kl _ e) (fun y0 e => by cases kr _ e; exact H_31)
set_option maxHeartbeats 1000000 in
theorem W_X7_round_L217 {l : Launch} {G : zGt} (htr : l.stackTraces = false) {K : zKd} {F : zFd} {L : zLd} {Q : zQt} {a0 : Int32} {v2_12 : Int32} {v3_35 : Int32} {v5_42 : Int32} {v4_44 : Int32} {v6_45 : Int32} {I_46 : zId} {v8_63 : Int32} {v7_69 : Int32} {v9_70 : Int32} (hM : zMLay K F) {r : (Int32 × Int32) ⊕ (Int32)} (hF : F_X7_round_L217 v6_45 I_46 v8_63 v7_69 v9_70 = some r) (kl : ∀ (z0 : Int32) (z1 : Int32), r = .inl (z0, z1) → zW l G MX7_round 2 48 0 0 217 [(0, .ref 1860), (2, .int v2_12), (3, .int v3_35), (4, .int v4_44), (5, .int v5_42), (6, .int v6_45), (7, .int z0), (8, .int v8_63), (9, .int z1)] [] K F I_46 L Q) (kx : ∀ (y0 : Int32), r = .inr y0 → zW l G MX7_round 2 48 0 0 277 [(0, .ref 1860), (2, .int v2_12), (3, .int v3_35), (4, .int v4_44), (5, .int v5_42), (6, .int v6_45), (7, .int y0)] [] K F I_46 L Q)  : zW l G MX7_round 2 48 0 0 217 [(0, .ref 1860), (2, .int v2_12), (3, .int v3_35), (4, .int v4_44), (5, .int v5_42), (6, .int v6_45), (7, .int v7_69), (8, .int v8_63), (9, .int v9_70)] [] K F I_46 L Q := by
  unfold F_X7_round_L217 at hF
  refine z_iload (n := 219) dX7_round_217 rfl 8 rfl ?_
  refine z_aload_n (n := 220) dX7_round_219 rfl 0 rfl rfl ?_
  refine z_getRS (n := 223) dX7_round_220 rfl zok6 fX7_29 rfl hM.1 (Or.inl (by decide)) (mF_2 hM) ?_
  refine z_iconst (n := 224) (v := 0) dX7_round_223 rfl (by decide) ?_
  refine z_ialdK (n := 225) 0 (by decide) dX7_round_224 rfl (mK_2 hM) (zin_ok (i := 0) (n := 16) rfl) ?_
  refine z_icmp_ge (n := 228) (t := 277) dX7_round_225 rfl (by decide) (fun hc => ?_) (fun hc => ?_)
  · replace hF := (if_pos hc).symm.trans hF
    refine z_sub [0, 1, 2, 3, 4, 5, 6] rfl ?_
    have hF := Option.some.inj hF; subst hF
    exact kx _ rfl
  · replace hF := (if_neg hc).symm.trans hF
    refine z_iload (n := 230) dX7_round_228 rfl 7 rfl ?_
    refine z_iload (n := 232) dX7_round_230 rfl 8 rfl ?_
    obtain ⟨x_72, c_71, hF⟩ := zb1_some hF
    refine z_cS (n := 235) (st := []) (C_X7_isOf htr c_71) dX7_round_232 rfl (lw_S q2204 q2205 q131 q2206) hcee_X7_isOf rfl (by decide) rfl (Nat.le_of_ble_eq_true rfl) (Nat.le_refl _) (Nat.le_refl _) ?_
    refine z_if_eq (n := 238) (t := 271) dX7_round_235 rfl (by decide) (fun hc => ?_) (fun hc => ?_)
    · replace hF := (if_pos hc).symm.trans hF
      obtain ⟨v9_73, e_74, hF⟩ := zlet_ob hF
      refine z_iincE (n := 274) (w := 1) (v := v9_73) (lv' := [(9, .int v9_73), (0, .ref 1860), (2, .int v2_12), (3, .int v3_35), (4, .int v4_44), (5, .int v5_42), (6, .int v6_45), (7, .int v7_69), (8, .int v8_63)]) dX7_round_271 rfl 8 rfl (by decide) e_74 (by decide) rfl ?_
      refine z_goto (t := 217) dX7_round_274 (by decide) ?_
      refine z_sub [1, 2, 3, 4, 5, 6, 7, 8, 0] rfl ?_
      have hF := Option.some.inj hF; subst hF
      exact kl _ _ rfl
    · replace hF := (if_neg hc).symm.trans hF
      refine z_iload (n := 240) dX7_round_238 rfl 6 rfl ?_
      refine z_aload_n (n := 241) dX7_round_240 rfl 0 rfl rfl ?_
      refine z_getRS (n := 244) dX7_round_241 rfl zok6 fX7_108 rfl hM.1 (Or.inl (by decide)) (mF_44 hM) ?_
      refine z_iload (n := 246) dX7_round_244 rfl 7 rfl ?_
      refine z_iconst (n := 247) (v := 3) dX7_round_246 rfl (by decide) ?_
      refine z_ishl (n := 248) dX7_round_247 rfl ?_
      refine z_iload (n := 250) dX7_round_248 rfl 8 rfl ?_
      refine z_iadd (n := 251) dX7_round_250 rfl ?_
      obtain ⟨h_75, hF⟩ := zg_some hF
      refine z_ialdK (n := 252) (((v8_63 <<< ((3 : Int32) &&& (31 : Int32))) + v9_70).toNatClampNeg) rfl dX7_round_251 rfl (mK_44 hM) (zin_ok h_75) ?_
      refine z_aload_n (n := 253) dX7_round_252 rfl 0 rfl rfl ?_
      refine z_getRS (n := 256) dX7_round_253 rfl zok6 fX7_111 rfl hM.1 (Or.inl (by decide)) (mF_45 hM) ?_
      refine z_bipush (n := 258) (v := 8) dX7_round_256 rfl (by decide) ?_
      refine z_iload (n := 260) dX7_round_258 rfl 8 rfl ?_
      refine z_imul (n := 261) dX7_round_260 rfl ?_
      refine z_iload (n := 263) dX7_round_261 rfl 5 rfl ?_
      refine z_iadd (n := 264) dX7_round_263 rfl ?_
      obtain ⟨h_76, hF⟩ := zg_some hF
      refine z_ialdK (n := 265) ((((8 : Int32) * v9_70) + v6_45).toNatClampNeg) rfl dX7_round_264 rfl (mK_45 hM) (zin_ok h_76) ?_
      refine z_iadd (n := 266) dX7_round_265 rfl ?_
      refine z_min (n := 269) dX7_round_266 rfl q1898 q290 q119 q291 (by decide) (Nat.le_of_ble_eq_true rfl) ?_
      obtain ⟨v7_77, e_78, hF⟩ := zlet_ob hF
      refine z_istoreE (n := 271) (lv' := [(7, .int v7_77), (0, .ref 1860), (2, .int v2_12), (3, .int v3_35), (4, .int v4_44), (5, .int v5_42), (6, .int v6_45), (8, .int v8_63), (9, .int v9_70)]) dX7_round_269 rfl e_78 (by decide) rfl ?_
      obtain ⟨v9_79, e_80, hF⟩ := zlet_ob hF
      refine z_iincE (n := 274) (w := 1) (v := v9_79) (lv' := [(9, .int v9_79), (7, .int v7_77), (0, .ref 1860), (2, .int v2_12), (3, .int v3_35), (4, .int v4_44), (5, .int v5_42), (6, .int v6_45), (8, .int v8_63)]) dX7_round_271 rfl 8 rfl (by decide) e_80 (by decide) rfl ?_
      refine z_goto (t := 217) dX7_round_274 (by decide) ?_
      refine z_sub [2, 3, 4, 5, 6, 7, 1, 8, 0] rfl ?_
      have hF := Option.some.inj hF; subst hF
      exact kl _ _ rfl
set_option maxHeartbeats 1000000 in
theorem W_X7_round_L143 {l : Launch} {G : zGt} (htr : l.stackTraces = false) {K : zKd} {F : zFd} {L : zLd} {Q : zQt} {a0 : Int32} {v2_12 : Int32} {v3_35 : Int32} {v5_42 : Int32} {v4_44 : Int32} {v6_45 : Int32} {I_46 : zId} (hM : zMLay K F) {r : (Int32 × Int32 × zId) ⊕ (Int32 × zId)} (hF : F_X7_round_L143 v2_12 v3_35 v5_42 v4_44 v6_45 I_46 = some r) (kl : ∀ (z0 : Int32) (z1 : Int32) (z2 : zId), r = .inl (z0, z1, z2) → zW l G MX7_round 2 48 0 0 143 [(0, .ref 1860), (2, .int v2_12), (3, .int v3_35), (4, .int z0), (5, .int v5_42), (6, .int z1)] [] K F z2 L Q) (kx : ∀ (y0 : Int32) (y1 : zId), r = .inr (y0, y1) → zW l G MX7_round 2 48 0 0 330 [(0, .ref 1860), (2, .int v2_12), (3, .int v3_35), (4, .int y0), (5, .int v5_42)] [] K F y1 L Q)  : zW l G MX7_round 2 48 0 0 143 [(0, .ref 1860), (2, .int v2_12), (3, .int v3_35), (4, .int v4_44), (5, .int v5_42), (6, .int v6_45)] [] K F I_46 L Q := by
  unfold F_X7_round_L143 at hF
  refine z_iload (n := 145) dX7_round_143 rfl 5 rfl ?_
  refine z_aload_n (n := 146) dX7_round_145 rfl 0 rfl rfl ?_
  refine z_getRS (n := 149) dX7_round_146 rfl zok6 fX7_29 rfl hM.1 (Or.inl (by decide)) (mF_2 hM) ?_
  refine z_iconst (n := 150) (v := 0) dX7_round_149 rfl (by decide) ?_
  refine z_ialdK (n := 151) 0 (by decide) dX7_round_150 rfl (mK_2 hM) (zin_ok (i := 0) (n := 16) rfl) ?_
  refine z_icmp_ge (n := 154) (t := 330) dX7_round_151 rfl (by decide) (fun hc => ?_) (fun hc => ?_)
  · replace hF := (if_pos hc).symm.trans hF
    refine z_sub [0, 1, 2, 3, 4] rfl ?_
    have hF := Option.some.inj hF; subst hF
    exact kx _ _ rfl
  · replace hF := (if_neg hc).symm.trans hF
    refine z_ldc (n := 156) dX7_round_154 rfl q1897 ?_
    refine z_istoreE (n := 158) (lv' := [(7, .int 100000), (0, .ref 1860), (2, .int v2_12), (3, .int v3_35), (4, .int v4_44), (5, .int v5_42), (6, .int v6_45)]) dX7_round_156 rfl rfl (by decide) rfl ?_
    refine z_iload (n := 160) dX7_round_158 rfl 5 rfl ?_
    refine z_iload_n (n := 161) dX7_round_160 rfl 2 rfl rfl ?_
    refine z_iand (n := 162) dX7_round_161 rfl ?_
    refine z_iload (n := 164) dX7_round_162 rfl 6 rfl ?_
    obtain ⟨x_48, c_47, hF⟩ := zb1_some hF
    refine z_cS (n := 167) (st := []) (C_X7_isOf htr c_47) dX7_round_164 rfl (lw_S q2204 q2205 q131 q2206) hcee_X7_isOf rfl (by decide) rfl (Nat.le_of_ble_eq_true rfl) (Nat.le_refl _) (Nat.le_refl _) ?_
    obtain ⟨k_50, e_51, hF⟩ := zlet_ob hF
    have H_52 : ∀ (v7_49 : Int32), k_50 v7_49 = some r → zW l G MX7_round 2 48 0 0 277 [(0, .ref 1860), (2, .int v2_12), (3, .int v3_35), (4, .int v4_44), (5, .int v5_42), (6, .int v6_45), (7, .int v7_49)] [] K F I_46 L Q := by
      intro v7_49 hF
      subst e_51
      dsimp only at hF
      refine z_aload_n (n := 278) dX7_round_277 rfl 0 rfl rfl ?_
      refine z_getRS (n := 281) dX7_round_278 rfl zok6 fX7_108 rfl hM.1 (Or.inl (by decide)) (mF_44 hM) ?_
      refine z_iload (n := 283) dX7_round_281 rfl 4 rfl ?_
      refine z_iconst (n := 284) (v := 3) dX7_round_283 rfl (by decide) ?_
      refine z_ishl (n := 285) dX7_round_284 rfl ?_
      refine z_iload (n := 287) dX7_round_285 rfl 5 rfl ?_
      refine z_iadd (n := 288) dX7_round_287 rfl ?_
      refine z_ldc (n := 290) dX7_round_288 rfl q1897 ?_
      refine z_iload (n := 292) dX7_round_290 rfl 6 rfl ?_
      refine z_min (n := 295) dX7_round_292 rfl q1898 q290 q119 q291 (by decide) (Nat.le_of_ble_eq_true rfl) ?_
      obtain ⟨h_53, hF⟩ := zg_some hF
      obtain ⟨I_54, e_55, hF⟩ := zlet_ob hF
      refine z_iastK (n := 296) (((v5_42 <<< ((3 : Int32) &&& (31 : Int32))) + v6_45).toNatClampNeg) rfl dX7_round_295 rfl (mK_44 hM) (by decide) (zin_ok h_53) e_55 ?_
      refine z_iload (n := 298) dX7_round_296 rfl 4 rfl ?_
      refine z_iload_n (n := 299) dX7_round_298 rfl 1 rfl rfl ?_
      refine z_icmp_ne (n := 302) (t := 324) dX7_round_299 rfl (by decide) (fun hc => ?_) (fun hc => ?_)
      · replace hF := (if_pos hc).symm.trans hF
        obtain ⟨v6_56, e_57, hF⟩ := zlet_ob hF
        refine z_iincE (n := 327) (w := 1) (v := v6_56) (lv' := [(6, .int v6_56), (0, .ref 1860), (2, .int v2_12), (3, .int v3_35), (4, .int v4_44), (5, .int v5_42), (7, .int v7_49)]) dX7_round_324 rfl 5 rfl (by decide) e_57 (by decide) rfl ?_
        refine z_goto (t := 143) dX7_round_327 (by decide) ?_
        refine z_sub [1, 2, 3, 4, 5, 0] rfl ?_
        have hF := Option.some.inj hF; subst hF
        exact kl _ _ _ rfl
      · replace hF := (if_neg hc).symm.trans hF
        refine z_iload (n := 304) dX7_round_302 rfl 3 rfl ?_
        refine z_iload (n := 306) dX7_round_304 rfl 6 rfl ?_
        refine z_aload_n (n := 307) dX7_round_306 rfl 0 rfl rfl ?_
        refine z_getRS (n := 310) dX7_round_307 rfl zok6 fX7_111 rfl hM.1 (Or.inl (by decide)) (mF_45 hM) ?_
        refine z_bipush (n := 312) (v := 8) dX7_round_310 rfl (by decide) ?_
        refine z_iload (n := 314) dX7_round_312 rfl 5 rfl ?_
        refine z_imul (n := 315) dX7_round_314 rfl ?_
        refine z_iload_n (n := 316) dX7_round_315 rfl 2 rfl rfl ?_
        refine z_iadd (n := 317) dX7_round_316 rfl ?_
        obtain ⟨h_58, hF⟩ := zg_some hF
        refine z_ialdK (n := 318) ((((8 : Int32) * v6_45) + v3_35).toNatClampNeg) rfl dX7_round_317 rfl (mK_45 hM) (zin_ok h_58) ?_
        refine z_iadd (n := 319) dX7_round_318 rfl ?_
        refine z_min (n := 322) dX7_round_319 rfl q1898 q290 q119 q291 (by decide) (Nat.le_of_ble_eq_true rfl) ?_
        obtain ⟨v4_59, e_60, hF⟩ := zlet_ob hF
        refine z_istoreE (n := 324) (lv' := [(4, .int v4_59), (0, .ref 1860), (2, .int v2_12), (3, .int v3_35), (5, .int v5_42), (6, .int v6_45), (7, .int v7_49)]) dX7_round_322 rfl e_60 (by decide) rfl ?_
        obtain ⟨v6_61, e_62, hF⟩ := zlet_ob hF
        refine z_iincE (n := 327) (w := 1) (v := v6_61) (lv' := [(6, .int v6_61), (4, .int v4_59), (0, .ref 1860), (2, .int v2_12), (3, .int v3_35), (5, .int v5_42), (7, .int v7_49)]) dX7_round_324 rfl 5 rfl (by decide) e_62 (by decide) rfl ?_
        refine z_goto (t := 143) dX7_round_327 (by decide) ?_
        refine z_sub [2, 3, 4, 1, 5, 0] rfl ?_
        have hF := Option.some.inj hF; subst hF
        exact kl _ _ _ rfl
    clear e_51
    refine z_if_eq (n := 170) (t := 277) dX7_round_167 rfl (by decide) (fun hc => ?_) (fun hc => ?_)
    · replace hF := (if_pos hc).symm.trans hF
      refine z_sub [1, 2, 3, 4, 5, 6, 0] rfl ?_
      exact H_52 _ hF
    · replace hF := (if_neg hc).symm.trans hF
      refine z_iload (n := 172) dX7_round_170 rfl 5 rfl ?_
      refine z_iload_n (n := 173) dX7_round_172 rfl 2 rfl rfl ?_
      refine z_iconst (n := 174) (v := (-1)) dX7_round_173 rfl (by decide) ?_
      refine z_ixor (n := 175) dX7_round_174 rfl ?_
      refine z_iand (n := 176) dX7_round_175 rfl ?_
      refine z_if_ne (n := 179) (t := 277) dX7_round_176 rfl (by decide) (fun hc => ?_) (fun hc => ?_)
      · replace hF := (if_pos hc).symm.trans hF
        refine z_sub [1, 2, 3, 4, 5, 6, 0] rfl ?_
        exact H_52 _ hF
      · replace hF := (if_neg hc).symm.trans hF
        refine z_iload (n := 181) dX7_round_179 rfl 5 rfl ?_
        refine z_iconst (n := 182) (v := 1) dX7_round_181 rfl (by decide) ?_
        refine z_iload (n := 184) dX7_round_182 rfl 6 rfl ?_
        refine z_ishl (n := 185) dX7_round_184 rfl ?_
        refine z_iconst (n := 186) (v := (-1)) dX7_round_185 rfl (by decide) ?_
        refine z_ixor (n := 187) dX7_round_186 rfl ?_
        refine z_iand (n := 188) dX7_round_187 rfl ?_
        obtain ⟨v8_63, e_64, hF⟩ := zlet_ob hF
        refine z_istoreE (n := 190) (lv' := [(8, .int v8_63), (7, .int 100000), (0, .ref 1860), (2, .int v2_12), (3, .int v3_35), (4, .int v4_44), (5, .int v5_42), (6, .int v6_45)]) dX7_round_188 rfl e_64 (by decide) rfl ?_
        refine z_iload (n := 192) dX7_round_190 rfl 0 rfl ?_
        obtain ⟨k_66, e_67, hF⟩ := zlet_ob hF
        have H_68 : ∀ (w_65 : Int32), k_66 w_65 = some r → zW l G MX7_round 2 48 0 0 212 [(0, .ref 1860), (2, .int v2_12), (3, .int v3_35), (4, .int v4_44), (5, .int v5_42), (6, .int v6_45), (8, .int v8_63)] [.int w_65] K F I_46 L Q := by
          intro w_65 hF
          subst e_67
          dsimp only at hF
          refine z_istoreE (n := 214) (lv' := [(7, .int w_65), (0, .ref 1860), (2, .int v2_12), (3, .int v3_35), (4, .int v4_44), (5, .int v5_42), (6, .int v6_45), (8, .int v8_63)]) dX7_round_212 rfl rfl (by decide) rfl ?_
          refine z_iconst (n := 215) (v := 0) dX7_round_214 rfl (by decide) ?_
          refine z_istoreE (n := 217) (lv' := [(9, .int 0), (7, .int w_65), (0, .ref 1860), (2, .int v2_12), (3, .int v3_35), (4, .int v4_44), (5, .int v5_42), (6, .int v6_45), (8, .int v8_63)]) dX7_round_215 rfl rfl (by decide) rfl ?_
          refine z_sub [2, 3, 4, 5, 6, 7, 1, 8, 0] rfl ?_
          obtain ⟨t_83, e_82, hF⟩ := zb1_some hF
          obtain ⟨v7_81, rfl⟩ : ∃ z, z = t_83 := ⟨_, rfl⟩
          have H_84 : zW l G MX7_round 2 48 0 0 277 [(0, .ref 1860), (2, .int v2_12), (3, .int v3_35), (4, .int v4_44), (5, .int v5_42), (6, .int v6_45), (7, .int v7_81)] [] K F I_46 L Q := by
            exact H_52 _ hF
          refine zloop_ind (P := fun s : Int32 × Int32 => zW l G MX7_round 2 48 0 0 217 [(0, .ref 1860), (2, .int v2_12), (3, .int v3_35), (4, .int v4_44), (5, .int v5_42), (6, .int v6_45), (7, .int s.1), (8, .int v8_63), (9, .int s.2)] [] K F I_46 L Q) (fun s r hb kl kr => ?_) e_82
          exact W_X7_round_L217 (a0 := a0) htr hM hb (fun z0 z1 e => kl _ e) (fun y0 e => by cases kr _ e; exact H_84)
        clear e_67
        refine z_if_ne (n := 195) (t := 210) dX7_round_192 rfl (by decide) (fun hc => ?_) (fun hc => ?_)
        · replace hF := (if_pos hc).symm.trans hF
          refine z_ldc (n := 212) dX7_round_210 rfl q1897 ?_
          refine z_sub [2, 3, 4, 5, 6, 7, 0] rfl ?_
          exact H_68 _ hF
        · replace hF := (if_neg hc).symm.trans hF
          refine z_aload_n (n := 196) dX7_round_195 rfl 2 rfl rfl ?_
          refine z_getRS (n := 199) dX7_round_196 rfl zok6 fX7_111 rfl hM.1 (Or.inl (by decide)) (mF_45 hM) ?_
          refine z_bipush (n := 201) (v := 8) dX7_round_199 rfl (by decide) ?_
          refine z_iload_n (n := 202) dX7_round_201 rfl 4 rfl rfl ?_
          refine z_imul (n := 203) dX7_round_202 rfl ?_
          refine z_iload (n := 205) dX7_round_203 rfl 7 rfl ?_
          refine z_iadd (n := 206) dX7_round_205 rfl ?_
          obtain ⟨h_85, hF⟩ := zg_some hF
          refine z_ialdK (n := 207) ((((8 : Int32) * v3_35) + v6_45).toNatClampNeg) rfl dX7_round_206 rfl (mK_45 hM) (zin_ok h_85) ?_
          refine z_goto (t := 212) dX7_round_207 (by decide) ?_
          refine z_sub [2, 3, 4, 5, 6, 7, 0] rfl ?_
          exact H_68 _ hF
set_option maxHeartbeats 1000000 in
theorem W_X7_round_L134 {l : Launch} {G : zGt} (htr : l.stackTraces = false) {K : zKd} {F : zFd} {L : zLd} {Q : zQt} {a0 : Int32} {v2_12 : Int32} {v3_35 : Int32} {v4_41 : Int32} {v5_42 : Int32} {I_43 : zId} (hM : zMLay K F) {r : (Int32 × Int32 × zId) ⊕ (Int32 × zId)} (hF : F_X7_round_L134 v2_12 v3_35 v4_41 v5_42 I_43 = some r) (kl : ∀ (z0 : Int32) (z1 : Int32) (z2 : zId), r = .inl (z0, z1, z2) → zW l G MX7_round 2 48 0 0 134 [(0, .ref 1860), (2, .int v2_12), (3, .int v3_35), (4, .int z0), (5, .int z1)] [] K F z2 L Q) (kx : ∀ (y0 : Int32) (y1 : zId), r = .inr (y0, y1) → zW l G MX7_round 2 48 0 0 336 [(4, .int y0)] [] K F y1 L Q)  : zW l G MX7_round 2 48 0 0 134 [(0, .ref 1860), (2, .int v2_12), (3, .int v3_35), (4, .int v4_41), (5, .int v5_42)] [] K F I_43 L Q := by
  unfold F_X7_round_L134 at hF
  refine z_iload (n := 136) dX7_round_134 rfl 4 rfl ?_
  refine z_iload_n (n := 137) dX7_round_136 rfl 1 rfl rfl ?_
  refine z_icmp_gt (n := 140) (t := 336) dX7_round_137 rfl (by decide) (fun hc => ?_) (fun hc => ?_)
  · replace hF := (if_pos hc).symm.trans hF
    refine z_sub [3] rfl ?_
    have hF := Option.some.inj hF; subst hF
    exact kx _ _ rfl
  · replace hF := (if_neg hc).symm.trans hF
    refine z_iconst (n := 141) (v := 0) dX7_round_140 rfl (by decide) ?_
    refine z_istoreE (n := 143) (lv' := [(6, .int 0), (0, .ref 1860), (2, .int v2_12), (3, .int v3_35), (4, .int v4_41), (5, .int v5_42)]) dX7_round_141 rfl rfl (by decide) rfl ?_
    refine z_sub [1, 2, 3, 4, 5, 0] rfl ?_
    obtain ⟨t_91, e_88, hF⟩ := zb1_some hF
    obtain ⟨v4_86, I_87⟩ := t_91
    dsimp only [zn2] at hF
    have H_92 : zW l G MX7_round 2 48 0 0 330 [(0, .ref 1860), (2, .int v2_12), (3, .int v3_35), (4, .int v4_86), (5, .int v5_42)] [] K F I_87 L Q := by
      obtain ⟨v5_89, e_90, hF⟩ := zlet_ob hF
      refine z_iincE (n := 333) (w := 1) (v := v5_89) (lv' := [(5, .int v5_89), (0, .ref 1860), (2, .int v2_12), (3, .int v3_35), (4, .int v4_86)]) dX7_round_330 rfl 4 rfl (by decide) e_90 (by decide) rfl ?_
      refine z_goto (t := 134) dX7_round_333 (by decide) ?_
      refine z_sub [1, 2, 3, 4, 0] rfl ?_
      have hF := Option.some.inj hF; subst hF
      exact kl _ _ _ rfl
    refine zloop_ind (P := fun s : Int32 × Int32 × zId => zW l G MX7_round 2 48 0 0 143 [(0, .ref 1860), (2, .int v2_12), (3, .int v3_35), (4, .int s.1), (5, .int v5_42), (6, .int s.2.1)] [] K F s.2.2 L Q) (fun s r hb kl kr => ?_) e_88
    exact W_X7_round_L143 (a0 := a0) htr hM hb (fun z0 z1 z2 e => kl _ e) (fun y0 y1 e => by cases kr _ e; exact H_92)
set_option maxHeartbeats 1000000 in
theorem C_X7_round {l : Launch} {G : zGt} (htr : l.stackTraces = false) {K : zKd} {F : zFd} {L : zLd} {a0 : Int32} (hM : zMLay K F) {I : zId} {r : Int32 × zId} (hF : F_X7_round a0 I = some r) : zMet l G yX7_round (ws_ yX7_round cX7_round 10 (some .int)) 2 48 0 0 [.ref 1860, .int a0] K F I L (zQe (.inl (some (.int r.1))) K F r.2 L) := by
  refine zMet.of (by decide +kernel) htr (Nat.le_of_ble_eq_true rfl) ?_
  change zW l G MX7_round 2 48 0 0 0 [(0, .ref 1860), (1, .int a0)] [] K F I L (zQe (.inl (some (.int r.1))) K F r.2 L)
  unfold F_X7_round at hF
  refine z_aload_n (n := 1) dX7_round_0 rfl 0 rfl rfl ?_
  refine z_iconst (n := 2) (v := 0) dX7_round_1 rfl (by decide) ?_
  obtain ⟨I_1, e_2, hF⟩ := zlet_ob hF
  refine z_putIE (n := 5) dX7_round_2 rfl zok6 fX7_150 (Or.inl ⟨_, rfl, rfl⟩) rfl ⟨rfl, rfl⟩ hM.1 (by decide) e_2 ?_
  refine z_aload_n (n := 6) dX7_round_5 rfl 0 rfl rfl ?_
  refine z_iload_n (n := 7) dX7_round_6 rfl 1 rfl rfl ?_
  obtain ⟨x_4, c_3, hF⟩ := zb1_some hF
  refine z_cV (n := 10) (st := []) (C_X7_isFort htr hM c_3) dX7_round_7 rfl (lw_V q2200 q2202 qs96 q131 q2203) hcee_X7_isFort rfl (by decide) hM.1 rfl rfl rfl (Nat.le_of_ble_eq_true rfl) (Nat.le_refl _) (Nat.le_refl _) ?_
  refine z_if_ne (n := 13) (t := 19) dX7_round_10 rfl (by decide) (fun hc => ?_) (fun hc => ?_)
  · replace hF := (if_pos hc).symm.trans hF
    refine z_iconst (n := 20) (v := 0) dX7_round_19 rfl (by decide) ?_
    refine z_istore_nE (n := 21) (lv' := [(2, .int 0), (0, .ref 1860), (1, .int a0)]) dX7_round_20 rfl rfl rfl (by decide) rfl ?_
    refine z_iconst (n := 22) (v := 0) dX7_round_21 rfl (by decide) ?_
    refine z_istore_nE (n := 23) (lv' := [(3, .int 0), (2, .int 0), (0, .ref 1860), (1, .int a0)]) dX7_round_22 rfl rfl rfl (by decide) rfl ?_
    refine z_sub [2, 3, 1, 0] rfl ?_
    obtain ⟨t_100, e_13, hF⟩ := zb1_some hF
    obtain ⟨v2_12, rfl⟩ : ∃ z, z = t_100 := ⟨_, rfl⟩
    have H_101 : zW l G MX7_round 2 48 0 0 50 [(0, .ref 1860), (1, .int a0), (2, .int v2_12)] [] K F I_1 L (zQe (.inl (some (.int r.1))) K F r.2 L) := by
      refine z_iconst (n := 51) (v := 0) dX7_round_50 rfl (by decide) ?_
      refine z_istore_nE (n := 52) (lv' := [(3, .int 0), (0, .ref 1860), (1, .int a0), (2, .int v2_12)]) dX7_round_51 rfl rfl rfl (by decide) rfl ?_
      refine z_sub [1, 2, 3, 0] rfl ?_
      obtain ⟨t_98, e_33, hF⟩ := zb1_some hF
      obtain ⟨I_32, rfl⟩ : ∃ z, z = t_98 := ⟨_, rfl⟩
      have H_99 : zW l G MX7_round 2 48 0 0 112 [(0, .ref 1860), (1, .int a0), (2, .int v2_12)] [] K F I_32 L (zQe (.inl (some (.int r.1))) K F r.2 L) := by
        refine z_aload_n (n := 113) dX7_round_112 rfl 0 rfl rfl ?_
        refine z_getRS (n := 116) dX7_round_113 rfl zok6 fX7_56 rfl hM.1 (Or.inl (by decide)) (mF_11 hM) ?_
        refine z_iload_n (n := 117) dX7_round_116 rfl 1 rfl rfl ?_
        obtain ⟨h_34, hF⟩ := zg_some hF
        refine z_ialdK (n := 118) a0.toNatClampNeg rfl dX7_round_117 rfl (mK_11 hM) (zin_ok h_34) ?_
        obtain ⟨v3_35, e_36, hF⟩ := zlet_ob hF
        refine z_istore_nE (n := 119) (lv' := [(3, .int v3_35), (0, .ref 1860), (1, .int a0), (2, .int v2_12)]) dX7_round_118 rfl e_36 rfl (by decide) rfl ?_
        refine z_iload_n (n := 120) dX7_round_119 rfl 3 rfl rfl ?_
        obtain ⟨k_38, e_39, hF⟩ := zlet_ob hF
        have H_40 : ∀ (w_37 : Int32), k_38 w_37 = some r → zW l G MX7_round 2 48 0 0 129 [(0, .ref 1860), (2, .int v2_12), (3, .int v3_35)] [.int w_37] K F I_32 L (zQe (.inl (some (.int r.1))) K F r.2 L) := by
          intro w_37 hF
          subst e_39
          dsimp only at hF
          refine z_istoreE (n := 131) (lv' := [(4, .int w_37), (0, .ref 1860), (2, .int v2_12), (3, .int v3_35)]) dX7_round_129 rfl rfl (by decide) rfl ?_
          refine z_iconst (n := 132) (v := 1) dX7_round_131 rfl (by decide) ?_
          refine z_istoreE (n := 134) (lv' := [(5, .int 1), (4, .int w_37), (0, .ref 1860), (2, .int v2_12), (3, .int v3_35)]) dX7_round_132 rfl rfl (by decide) rfl ?_
          refine z_sub [2, 3, 4, 1, 0] rfl ?_
          obtain ⟨t_96, e_95, hF⟩ := zb1_some hF
          obtain ⟨v4_93, I_94⟩ := t_96
          dsimp only [zn2] at hF
          have H_97 : zW l G MX7_round 2 48 0 0 336 [(4, .int v4_93)] [] K F I_94 L (zQe (.inl (some (.int r.1))) K F r.2 L) := by
            refine z_iload (n := 338) dX7_round_336 rfl 0 rfl ?_
            refine z_ldc (n := 340) dX7_round_338 rfl q1897 ?_
            refine z_icmp_lt (n := 343) (t := 347) dX7_round_340 rfl (by decide) (fun hc => ?_) (fun hc => ?_)
            · replace hF := (if_pos hc).symm.trans hF
              refine z_iload (n := 349) dX7_round_347 rfl 0 rfl ?_
              have hF := Option.some.inj hF; subst hF
              exact z_iret dX7_round_349 rfl rfl ⟨rfl, rfl, rfl, rfl, rfl⟩
            · replace hF := (if_neg hc).symm.trans hF
              refine z_iconst (n := 344) (v := (-1)) dX7_round_343 rfl (by decide) ?_
              refine z_goto (t := 349) dX7_round_344 (by decide) ?_
              have hF := Option.some.inj hF; subst hF
              exact z_iret dX7_round_349 rfl rfl ⟨rfl, rfl, rfl, rfl, rfl⟩
          refine zloop_ind (P := fun s : Int32 × Int32 × zId => zW l G MX7_round 2 48 0 0 134 [(0, .ref 1860), (2, .int v2_12), (3, .int v3_35), (4, .int s.1), (5, .int s.2.1)] [] K F s.2.2 L (zQe (.inl (some (.int r.1))) K F r.2 L)) (fun s r hb kl kr => ?_) e_95
          exact W_X7_round_L134 (a0 := a0) htr hM hb (fun z0 z1 z2 e => kl _ e) (fun y0 y1 e => by cases kr _ e; exact H_97)
        clear e_39
        refine z_if_ne (n := 123) (t := 127) dX7_round_120 rfl (by decide) (fun hc => ?_) (fun hc => ?_)
        · replace hF := (if_pos hc).symm.trans hF
          refine z_ldc (n := 129) dX7_round_127 rfl q1897 ?_
          refine z_sub [1, 3, 0] rfl ?_
          exact H_40 _ hF
        · replace hF := (if_neg hc).symm.trans hF
          refine z_iconst (n := 124) (v := 0) dX7_round_123 rfl (by decide) ?_
          refine z_goto (t := 129) dX7_round_124 (by decide) ?_
          refine z_sub [1, 3, 0] rfl ?_
          exact H_40 _ hF
      refine zloop_ind (P := fun s : Int32 × zId => zW l G MX7_round 2 48 0 0 52 [(0, .ref 1860), (1, .int a0), (2, .int v2_12), (3, .int s.1)] [] K F s.2 L (zQe (.inl (some (.int r.1))) K F r.2 L)) (fun s r hb kl kr => ?_) e_33
      exact W_X7_round_L52 (a0 := a0) htr hM hb (fun z0 z1 e => kl _ e) (fun y0 e => by cases kr _ e; exact H_99)
    refine zloop_ind (P := fun s : Int32 × Int32 => zW l G MX7_round 2 48 0 0 23 [(0, .ref 1860), (1, .int a0), (2, .int s.1), (3, .int s.2)] [] K F I_1 L (zQe (.inl (some (.int r.1))) K F r.2 L)) (fun s r hb kl kr => ?_) e_13
    exact W_X7_round_L23 (a0 := a0) htr hM hb (fun z0 z1 e => kl _ e) (fun y0 e => by cases kr _ e; exact H_101)
  · replace hF := (if_neg hc).symm.trans hF
    refine z_aload_n (n := 14) dX7_round_13 rfl 0 rfl rfl ?_
    refine z_iconst (n := 15) (v := 1) dX7_round_14 rfl (by decide) ?_
    obtain ⟨x_103, I_104, c_102, hF⟩ := zb2_some hF
    refine z_cV (n := 18) (st := []) (C_X7_fail htr hM c_102) dX7_round_15 rfl (lw_V q1879 q1881 qs48 q131 q1882) hcee_X7_fail rfl (by decide) hM.1 rfl rfl rfl (Nat.le_of_ble_eq_true rfl) (Nat.le_refl _) (Nat.le_refl _) ?_
    have hF := Option.some.inj hF; subst hF
    exact z_iret dX7_round_18 rfl rfl ⟨rfl, rfl, rfl, rfl, rfl⟩
