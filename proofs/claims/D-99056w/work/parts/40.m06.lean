abbrev MX7_first : zM := (RX7, cX7_first, 6, (some .int), "first", [])
noncomputable def F_X7_first_L27 (a0 : Int32) (v2_5 : Int32) (v3_6 : Int32) (v4_7 : Int32) (I_8 : zId) : Option ((Int32 × Int32 × Int32 × zId) ⊕ (Int32 × zId)) := if (I_8 1862 3) ≤ v4_7 then some (.inr ((v2_5, I_8))) else zg (zin v4_7 6) (zg (zin a0 6) (zb2 (F_X7_farOf (I_8 1871 v4_7.toNatClampNeg) (I_8 1878 a0.toNatClampNeg) I_8) (fun x_12 I_13 => if x_12 < v3_6 then zlet (v4_7 + 1) (fun v4_14 => some (.inl (v4_7, x_12, v4_14, I_13))) else zlet (v4_7 + 1) (fun v4_16 => some (.inl (v2_5, v3_6, v4_16, I_13))))))
noncomputable def F_X7_first (a0 : Int32) (I : zId) : Option (Int32 × zId) := zlet (zu I 1860 1 0) (fun I_1 => zb1 (F_X7_isBand a0 I_1) (fun x_4 => if ¬ x_4 = 0 then zb1 (zloop (fun s : Int32 × Int32 × Int32 × zId => F_X7_first_L27 a0 s.1 s.2.1 s.2.2.1 s.2.2.2) ((-1), 100000, 0, I_1)) (zn2 (fun v2_18 I_19 => some (v2_18, I_19))) else zb2 (F_X7_fail 1 I_1) (fun x_24 I_25 => some (x_24, I_25))))
set_option maxHeartbeats 1000000 in
theorem W_X7_first_L27 {l : Launch} {G : zGt} (htr : l.stackTraces = false) {K : zKd} {F : zFd} {L : zLd} {Q : zQt} {a0 : Int32} {v2_5 : Int32} {v3_6 : Int32} {v4_7 : Int32} {I_8 : zId} (hM : zMLay K F) {r : (Int32 × Int32 × Int32 × zId) ⊕ (Int32 × zId)} (hF : F_X7_first_L27 a0 v2_5 v3_6 v4_7 I_8 = some r) (kl : ∀ (z0 : Int32) (z1 : Int32) (z2 : Int32) (z3 : zId), r = .inl (z0, z1, z2, z3) → zW l G MX7_first 3 70 0 0 27 [(0, .ref 1860), (1, .int a0), (2, .int z0), (3, .int z1), (4, .int z2)] [] K F z3 L Q) (kx : ∀ (y0 : Int32) (y1 : zId), r = .inr (y0, y1) → zW l G MX7_first 3 70 0 0 78 [(2, .int y0)] [] K F y1 L Q)  : zW l G MX7_first 3 70 0 0 27 [(0, .ref 1860), (1, .int a0), (2, .int v2_5), (3, .int v3_6), (4, .int v4_7)] [] K F I_8 L Q := by
  unfold F_X7_first_L27 at hF
  refine z_iload (n := 29) dX7_first_27 rfl 4 rfl ?_
  refine z_aload_n (n := 30) dX7_first_29 rfl 0 rfl rfl ?_
  refine z_getRS (n := 33) dX7_first_30 rfl zok6 fX7_29 rfl hM.1 (Or.inl (by decide)) (mF_2 hM) ?_
  refine z_iconst (n := 34) (v := 3) dX7_first_33 rfl (by decide) ?_
  refine z_ialdK (n := 35) 3 (by decide) dX7_first_34 rfl (mK_2 hM) (zin_ok (i := 3) (n := 16) rfl) ?_
  refine z_icmp_ge (n := 38) (t := 78) dX7_first_35 rfl (by decide) (fun hc => ?_) (fun hc => ?_)
  · replace hF := (if_pos hc).symm.trans hF
    refine z_sub [2] rfl ?_
    have hF := Option.some.inj hF; subst hF
    exact kx _ _ rfl
  · replace hF := (if_neg hc).symm.trans hF
    refine z_aload_n (n := 39) dX7_first_38 rfl 0 rfl rfl ?_
    refine z_aload_n (n := 40) dX7_first_39 rfl 0 rfl rfl ?_
    refine z_getRS (n := 43) dX7_first_40 rfl zok6 fX7_56 rfl hM.1 (Or.inl (by decide)) (mF_11 hM) ?_
    refine z_iload (n := 45) dX7_first_43 rfl 4 rfl ?_
    obtain ⟨h_9, hF⟩ := zg_some hF
    refine z_ialdK (n := 46) v4_7.toNatClampNeg rfl dX7_first_45 rfl (mK_11 hM) (zin_ok h_9) ?_
    refine z_aload_n (n := 47) dX7_first_46 rfl 0 rfl rfl ?_
    refine z_getRS (n := 50) dX7_first_47 rfl zok6 fX7_80 rfl hM.1 (Or.inl (by decide)) (mF_28 hM) ?_
    refine z_iload_n (n := 51) dX7_first_50 rfl 1 rfl rfl ?_
    obtain ⟨h_10, hF⟩ := zg_some hF
    refine z_ialdK (n := 52) a0.toNatClampNeg rfl dX7_first_51 rfl (mK_28 hM) (zin_ok h_10) ?_
    obtain ⟨x_12, I_13, c_11, hF⟩ := zb2_some hF
    refine z_cV (n := 55) (st := []) (C_X7_farOf htr hM c_11) dX7_first_52 rfl (lw_V q2188 q2190 qs94 q131 q2191) hcee_X7_farOf rfl (by decide) hM.1 rfl rfl rfl (Nat.le_of_ble_eq_true rfl) (Nat.le_refl _) (Nat.le_refl _) ?_
    refine z_istoreE (n := 57) (lv' := [(5, .int x_12), (0, .ref 1860), (1, .int a0), (2, .int v2_5), (3, .int v3_6), (4, .int v4_7)]) dX7_first_55 rfl rfl (by decide) rfl ?_
    refine z_iload (n := 59) dX7_first_57 rfl 0 rfl ?_
    refine z_iload_n (n := 60) dX7_first_59 rfl 4 rfl rfl ?_
    refine z_icmp_lt (n := 63) (t := 66) dX7_first_60 rfl (by decide) (fun hc => ?_) (fun hc => ?_)
    · replace hF := (if_pos hc).symm.trans hF
      refine z_iload (n := 68) dX7_first_66 rfl 5 rfl ?_
      refine z_istore_nE (n := 69) (lv' := [(2, .int v4_7), (5, .int x_12), (0, .ref 1860), (1, .int a0), (3, .int v3_6), (4, .int v4_7)]) dX7_first_68 rfl rfl rfl (by decide) rfl ?_
      refine z_iload (n := 71) dX7_first_69 rfl 1 rfl ?_
      refine z_istore_nE (n := 72) (lv' := [(3, .int x_12), (2, .int v4_7), (5, .int x_12), (0, .ref 1860), (1, .int a0), (4, .int v4_7)]) dX7_first_71 rfl rfl rfl (by decide) rfl ?_
      obtain ⟨v4_14, e_15, hF⟩ := zlet_ob hF
      refine z_iincE (n := 75) (w := 1) (v := v4_14) (lv' := [(4, .int v4_14), (3, .int x_12), (2, .int v4_7), (5, .int x_12), (0, .ref 1860), (1, .int a0)]) dX7_first_72 rfl 5 rfl (by decide) e_15 (by decide) rfl ?_
      refine z_goto (t := 27) dX7_first_75 (by decide) ?_
      refine z_sub [4, 5, 2, 1, 0] rfl ?_
      have hF := Option.some.inj hF; subst hF
      exact kl _ _ _ _ rfl
    · replace hF := (if_neg hc).symm.trans hF
      refine z_goto (t := 72) dX7_first_63 (by decide) ?_
      obtain ⟨v4_16, e_17, hF⟩ := zlet_ob hF
      refine z_iincE (n := 75) (w := 1) (v := v4_16) (lv' := [(4, .int v4_16), (5, .int x_12), (0, .ref 1860), (1, .int a0), (2, .int v2_5), (3, .int v3_6)]) dX7_first_72 rfl 5 rfl (by decide) e_17 (by decide) rfl ?_
      refine z_goto (t := 27) dX7_first_75 (by decide) ?_
      refine z_sub [2, 3, 4, 5, 0] rfl ?_
      have hF := Option.some.inj hF; subst hF
      exact kl _ _ _ _ rfl
set_option maxHeartbeats 1000000 in
theorem C_X7_first {l : Launch} {G : zGt} (htr : l.stackTraces = false) {K : zKd} {F : zFd} {L : zLd} {a0 : Int32} (hM : zMLay K F) {I : zId} {r : Int32 × zId} (hF : F_X7_first a0 I = some r) : zMet l G yX7_first (ws_ yX7_first cX7_first 6 (some .int)) 3 70 0 0 [.ref 1860, .int a0] K F I L (zQe (.inl (some (.int r.1))) K F r.2 L) := by
  refine zMet.of (by decide +kernel) htr (Nat.le_of_ble_eq_true rfl) ?_
  change zW l G MX7_first 3 70 0 0 0 [(0, .ref 1860), (1, .int a0)] [] K F I L (zQe (.inl (some (.int r.1))) K F r.2 L)
  unfold F_X7_first at hF
  refine z_aload_n (n := 1) dX7_first_0 rfl 0 rfl rfl ?_
  refine z_iconst (n := 2) (v := 0) dX7_first_1 rfl (by decide) ?_
  obtain ⟨I_1, e_2, hF⟩ := zlet_ob hF
  refine z_putIE (n := 5) dX7_first_2 rfl zok6 fX7_150 (Or.inl ⟨_, rfl, rfl⟩) rfl ⟨rfl, rfl⟩ hM.1 (by decide) e_2 ?_
  refine z_aload_n (n := 6) dX7_first_5 rfl 0 rfl rfl ?_
  refine z_iload_n (n := 7) dX7_first_6 rfl 1 rfl rfl ?_
  obtain ⟨x_4, c_3, hF⟩ := zb1_some hF
  refine z_cV (n := 10) (st := []) (C_X7_isBand htr hM c_3) dX7_first_7 rfl (lw_V q2045 q2047 qs78 q131 q2048) hcee_X7_isBand rfl (by decide) hM.1 rfl rfl rfl (Nat.le_of_ble_eq_true rfl) (Nat.le_refl _) (Nat.le_refl _) ?_
  refine z_if_ne (n := 13) (t := 19) dX7_first_10 rfl (by decide) (fun hc => ?_) (fun hc => ?_)
  · replace hF := (if_pos hc).symm.trans hF
    refine z_iconst (n := 20) (v := (-1)) dX7_first_19 rfl (by decide) ?_
    refine z_istore_nE (n := 21) (lv' := [(2, .int (-1)), (0, .ref 1860), (1, .int a0)]) dX7_first_20 rfl rfl rfl (by decide) rfl ?_
    refine z_ldc (n := 23) dX7_first_21 rfl q1897 ?_
    refine z_istore_nE (n := 24) (lv' := [(3, .int 100000), (2, .int (-1)), (0, .ref 1860), (1, .int a0)]) dX7_first_23 rfl rfl rfl (by decide) rfl ?_
    refine z_iconst (n := 25) (v := 0) dX7_first_24 rfl (by decide) ?_
    refine z_istoreE (n := 27) (lv' := [(4, .int 0), (3, .int 100000), (2, .int (-1)), (0, .ref 1860), (1, .int a0)]) dX7_first_25 rfl rfl (by decide) rfl ?_
    refine z_sub [3, 4, 2, 1, 0] rfl ?_
    obtain ⟨t_21, e_20, hF⟩ := zb1_some hF
    obtain ⟨v2_18, I_19⟩ := t_21
    dsimp only [zn2] at hF
    have H_22 : zW l G MX7_first 3 70 0 0 78 [(2, .int v2_18)] [] K F I_19 L (zQe (.inl (some (.int r.1))) K F r.2 L) := by
      refine z_iload_n (n := 79) dX7_first_78 rfl 0 rfl rfl ?_
      have hF := Option.some.inj hF; subst hF
      exact z_iret dX7_first_79 rfl rfl ⟨rfl, rfl, rfl, rfl, rfl⟩
    refine zloop_ind (P := fun s : Int32 × Int32 × Int32 × zId => zW l G MX7_first 3 70 0 0 27 [(0, .ref 1860), (1, .int a0), (2, .int s.1), (3, .int s.2.1), (4, .int s.2.2.1)] [] K F s.2.2.2 L (zQe (.inl (some (.int r.1))) K F r.2 L)) (fun s r hb kl kr => ?_) e_20
    exact W_X7_first_L27 (a0 := a0) htr hM hb (fun z0 z1 z2 z3 e => kl _ e) (fun y0 y1 e => by cases kr _ e; exact H_22)
  · replace hF := (if_neg hc).symm.trans hF
    refine z_aload_n (n := 14) dX7_first_13 rfl 0 rfl rfl ?_
    refine z_iconst (n := 15) (v := 1) dX7_first_14 rfl (by decide) ?_
    obtain ⟨x_24, I_25, c_23, hF⟩ := zb2_some hF
    refine z_cV (n := 18) (st := []) (C_X7_fail htr hM c_23) dX7_first_15 rfl (lw_V q1879 q1881 qs48 q131 q1882) hcee_X7_fail rfl (by decide) hM.1 rfl rfl rfl (Nat.le_of_ble_eq_true rfl) (Nat.le_refl _) (Nat.le_refl _) ?_
    have hF := Option.some.inj hF; subst hF
    exact z_iret dX7_first_18 rfl rfl ⟨rfl, rfl, rfl, rfl, rfl⟩
abbrev MX7_meeting : zM := (RX7, cX7_meeting, 8, (some .int), "meeting", [])
noncomputable def F_X7_meeting_L46 (a0 : Int32) (a1 : Int32) (v4_16 : Int32) (v5_17 : Int32) (v6_18 : Int32) (I_19 : zId) : Option ((Int32 × Int32 × Int32 × zId) ⊕ (Int32 × Int32 × zId)) := if (I_19 1862 0) ≤ v6_18 then some (.inr ((v4_16, v5_17, I_19))) else zg (zin a0 6) (zb2 (F_X7_farOf (I_19 1871 a0.toNatClampNeg) v6_18 I_19) (fun x_22 I_23 => zg (zin a1 6) (zb2 (F_X7_farOf (I_23 1871 a1.toNatClampNeg) v6_18 I_23) (fun x_26 I_27 => zlet (zmax x_22 x_26) (fun v7_28 => if v7_28 < v5_17 then zlet (v6_18 + 1) (fun v6_30 => some (.inl (v6_18, v7_28, v6_30, I_27))) else zlet (v6_18 + 1) (fun v6_32 => some (.inl (v4_16, v5_17, v6_32, I_27))))))))
noncomputable def F_X7_meeting (a0 : Int32) (a1 : Int32) (a2 : Int32) (I : zId) : Option (Int32 × zId) := zlet (zu I 1860 1 0) (fun I_1 => zb1 (F_X7_isFort a0 I_1) (fun x_4 => if x_4 = 0 then zb2 (F_X7_fail 1 I_1) (fun x_6 I_7 => some (x_6, I_7)) else zb1 (F_X7_isFort a1 I_1) (fun x_9 => if x_9 = 0 then zb2 (F_X7_fail 1 I_1) (fun x_11 I_12 => some (x_11, I_12)) else if a2 < 0 then zb2 (F_X7_fail 1 I_1) (fun x_14 I_15 => some (x_14, I_15)) else if a2 ≤ 1 then zb1 (zloop (fun s : Int32 × Int32 × Int32 × zId => F_X7_meeting_L46 a0 a1 s.1 s.2.1 s.2.2.1 s.2.2.2) ((-1), 100000, 0, I_1)) (zn3 (fun v4_34 v5_35 I_36 => if a2 = 0 then some (v4_34, I_36) else if ¬ v4_34 = (-1) then some (v5_35, I_36) else some (v4_34, I_36))) else zb2 (F_X7_fail 1 I_1) (fun x_41 I_42 => some (x_41, I_42)))))
set_option maxHeartbeats 1000000 in
theorem W_X7_meeting_L46 {l : Launch} {G : zGt} (htr : l.stackTraces = false) {K : zKd} {F : zFd} {L : zLd} {Q : zQt} {a0 : Int32} {a1 : Int32} {a2 : Int32} {v4_16 : Int32} {v5_17 : Int32} {v6_18 : Int32} {I_19 : zId} (hM : zMLay K F) {r : (Int32 × Int32 × Int32 × zId) ⊕ (Int32 × Int32 × zId)} (hF : F_X7_meeting_L46 a0 a1 v4_16 v5_17 v6_18 I_19 = some r) (kl : ∀ (z0 : Int32) (z1 : Int32) (z2 : Int32) (z3 : zId), r = .inl (z0, z1, z2, z3) → zW l G MX7_meeting 3 70 0 0 46 [(0, .ref 1860), (1, .int a0), (2, .int a1), (3, .int a2), (4, .int z0), (5, .int z1), (6, .int z2)] [] K F z3 L Q) (kx : ∀ (y0 : Int32) (y1 : Int32) (y2 : zId), r = .inr (y0, y1, y2) → zW l G MX7_meeting 3 70 0 0 110 [(3, .int a2), (4, .int y0), (5, .int y1)] [] K F y2 L Q)  : zW l G MX7_meeting 3 70 0 0 46 [(0, .ref 1860), (1, .int a0), (2, .int a1), (3, .int a2), (4, .int v4_16), (5, .int v5_17), (6, .int v6_18)] [] K F I_19 L Q := by
  unfold F_X7_meeting_L46 at hF
  refine z_iload (n := 48) dX7_meeting_46 rfl 6 rfl ?_
  refine z_aload_n (n := 49) dX7_meeting_48 rfl 0 rfl rfl ?_
  refine z_getRS (n := 52) dX7_meeting_49 rfl zok6 fX7_29 rfl hM.1 (Or.inl (by decide)) (mF_2 hM) ?_
  refine z_iconst (n := 53) (v := 0) dX7_meeting_52 rfl (by decide) ?_
  refine z_ialdK (n := 54) 0 (by decide) dX7_meeting_53 rfl (mK_2 hM) (zin_ok (i := 0) (n := 16) rfl) ?_
  refine z_icmp_ge (n := 57) (t := 110) dX7_meeting_54 rfl (by decide) (fun hc => ?_) (fun hc => ?_)
  · replace hF := (if_pos hc).symm.trans hF
    refine z_sub [3, 4, 5] rfl ?_
    have hF := Option.some.inj hF; subst hF
    exact kx _ _ _ rfl
  · replace hF := (if_neg hc).symm.trans hF
    refine z_aload_n (n := 58) dX7_meeting_57 rfl 0 rfl rfl ?_
    refine z_aload_n (n := 59) dX7_meeting_58 rfl 0 rfl rfl ?_
    refine z_getRS (n := 62) dX7_meeting_59 rfl zok6 fX7_56 rfl hM.1 (Or.inl (by decide)) (mF_11 hM) ?_
    refine z_iload_n (n := 63) dX7_meeting_62 rfl 1 rfl rfl ?_
    obtain ⟨h_20, hF⟩ := zg_some hF
    refine z_ialdK (n := 64) a0.toNatClampNeg rfl dX7_meeting_63 rfl (mK_11 hM) (zin_ok h_20) ?_
    refine z_iload (n := 66) dX7_meeting_64 rfl 6 rfl ?_
    obtain ⟨x_22, I_23, c_21, hF⟩ := zb2_some hF
    refine z_cV (n := 69) (st := []) (C_X7_farOf htr hM c_21) dX7_meeting_66 rfl (lw_V q2188 q2190 qs94 q131 q2191) hcee_X7_farOf rfl (by decide) hM.1 rfl rfl rfl (Nat.le_of_ble_eq_true rfl) (Nat.le_refl _) (Nat.le_refl _) ?_
    refine z_aload_n (n := 70) dX7_meeting_69 rfl 0 rfl rfl ?_
    refine z_aload_n (n := 71) dX7_meeting_70 rfl 0 rfl rfl ?_
    refine z_getRS (n := 74) dX7_meeting_71 rfl zok6 fX7_56 rfl hM.1 (Or.inl (by decide)) (mF_11 hM) ?_
    refine z_iload_n (n := 75) dX7_meeting_74 rfl 2 rfl rfl ?_
    obtain ⟨h_24, hF⟩ := zg_some hF
    refine z_ialdK (n := 76) a1.toNatClampNeg rfl dX7_meeting_75 rfl (mK_11 hM) (zin_ok h_24) ?_
    refine z_iload (n := 78) dX7_meeting_76 rfl 6 rfl ?_
    obtain ⟨x_26, I_27, c_25, hF⟩ := zb2_some hF
    refine z_cV (n := 81) (st := [.int x_22]) (C_X7_farOf htr hM c_25) dX7_meeting_78 rfl (lw_V q2188 q2190 qs94 q131 q2191) hcee_X7_farOf rfl (by decide) hM.1 rfl rfl rfl (Nat.le_of_ble_eq_true rfl) (Nat.le_refl _) (Nat.le_refl _) ?_
    refine z_max (n := 84) dX7_meeting_81 rfl q2067 q272 q119 q273 (by decide) (Nat.le_of_ble_eq_true rfl) ?_
    obtain ⟨v7_28, e_29, hF⟩ := zlet_ob hF
    refine z_istoreE (n := 86) (lv' := [(7, .int v7_28), (0, .ref 1860), (1, .int a0), (2, .int a1), (3, .int a2), (4, .int v4_16), (5, .int v5_17), (6, .int v6_18)]) dX7_meeting_84 rfl e_29 (by decide) rfl ?_
    refine z_iload (n := 88) dX7_meeting_86 rfl 0 rfl ?_
    refine z_iload (n := 90) dX7_meeting_88 rfl 6 rfl ?_
    refine z_icmp_lt (n := 93) (t := 96) dX7_meeting_90 rfl (by decide) (fun hc => ?_) (fun hc => ?_)
    · replace hF := (if_pos hc).symm.trans hF
      refine z_iload (n := 98) dX7_meeting_96 rfl 7 rfl ?_
      refine z_istoreE (n := 100) (lv' := [(4, .int v6_18), (7, .int v7_28), (0, .ref 1860), (1, .int a0), (2, .int a1), (3, .int a2), (5, .int v5_17), (6, .int v6_18)]) dX7_meeting_98 rfl rfl (by decide) rfl ?_
      refine z_iload (n := 102) dX7_meeting_100 rfl 1 rfl ?_
      refine z_istoreE (n := 104) (lv' := [(5, .int v7_28), (4, .int v6_18), (7, .int v7_28), (0, .ref 1860), (1, .int a0), (2, .int a1), (3, .int a2), (6, .int v6_18)]) dX7_meeting_102 rfl rfl (by decide) rfl ?_
      obtain ⟨v6_30, e_31, hF⟩ := zlet_ob hF
      refine z_iincE (n := 107) (w := 1) (v := v6_30) (lv' := [(6, .int v6_30), (5, .int v7_28), (4, .int v6_18), (7, .int v7_28), (0, .ref 1860), (1, .int a0), (2, .int a1), (3, .int a2)]) dX7_meeting_104 rfl 7 rfl (by decide) e_31 (by decide) rfl ?_
      refine z_goto (t := 46) dX7_meeting_107 (by decide) ?_
      refine z_sub [4, 5, 6, 7, 2, 1, 0] rfl ?_
      have hF := Option.some.inj hF; subst hF
      exact kl _ _ _ _ rfl
    · replace hF := (if_neg hc).symm.trans hF
      refine z_goto (t := 104) dX7_meeting_93 (by decide) ?_
      obtain ⟨v6_32, e_33, hF⟩ := zlet_ob hF
      refine z_iincE (n := 107) (w := 1) (v := v6_32) (lv' := [(6, .int v6_32), (7, .int v7_28), (0, .ref 1860), (1, .int a0), (2, .int a1), (3, .int a2), (4, .int v4_16), (5, .int v5_17)]) dX7_meeting_104 rfl 7 rfl (by decide) e_33 (by decide) rfl ?_
      refine z_goto (t := 46) dX7_meeting_107 (by decide) ?_
      refine z_sub [2, 3, 4, 5, 6, 7, 0] rfl ?_
      have hF := Option.some.inj hF; subst hF
      exact kl _ _ _ _ rfl
set_option maxHeartbeats 1000000 in
theorem C_X7_meeting {l : Launch} {G : zGt} (htr : l.stackTraces = false) {K : zKd} {F : zFd} {L : zLd} {a0 : Int32} {a1 : Int32} {a2 : Int32} (hM : zMLay K F) {I : zId} {r : Int32 × zId} (hF : F_X7_meeting a0 a1 a2 I = some r) : zMet l G yX7_meeting (ws_ yX7_meeting cX7_meeting 8 (some .int)) 3 70 0 0 [.ref 1860, .int a0, .int a1, .int a2] K F I L (zQe (.inl (some (.int r.1))) K F r.2 L) := by
  refine zMet.of (by decide +kernel) htr (Nat.le_of_ble_eq_true rfl) ?_
  change zW l G MX7_meeting 3 70 0 0 0 [(0, .ref 1860), (1, .int a0), (2, .int a1), (3, .int a2)] [] K F I L (zQe (.inl (some (.int r.1))) K F r.2 L)
  unfold F_X7_meeting at hF
  refine z_aload_n (n := 1) dX7_meeting_0 rfl 0 rfl rfl ?_
  refine z_iconst (n := 2) (v := 0) dX7_meeting_1 rfl (by decide) ?_
  obtain ⟨I_1, e_2, hF⟩ := zlet_ob hF
  refine z_putIE (n := 5) dX7_meeting_2 rfl zok6 fX7_150 (Or.inl ⟨_, rfl, rfl⟩) rfl ⟨rfl, rfl⟩ hM.1 (by decide) e_2 ?_
  refine z_aload_n (n := 6) dX7_meeting_5 rfl 0 rfl rfl ?_
  refine z_iload_n (n := 7) dX7_meeting_6 rfl 1 rfl rfl ?_
  obtain ⟨x_4, c_3, hF⟩ := zb1_some hF
  refine z_cV (n := 10) (st := []) (C_X7_isFort htr hM c_3) dX7_meeting_7 rfl (lw_V q2200 q2202 qs96 q131 q2203) hcee_X7_isFort rfl (by decide) hM.1 rfl rfl rfl (Nat.le_of_ble_eq_true rfl) (Nat.le_refl _) (Nat.le_refl _) ?_
  refine z_if_eq (n := 13) (t := 30) dX7_meeting_10 rfl (by decide) (fun hc => ?_) (fun hc => ?_)
  · replace hF := (if_pos hc).symm.trans hF
    refine z_aload_n (n := 31) dX7_meeting_30 rfl 0 rfl rfl ?_
    refine z_iconst (n := 32) (v := 1) dX7_meeting_31 rfl (by decide) ?_
    obtain ⟨x_6, I_7, c_5, hF⟩ := zb2_some hF
    refine z_cV (n := 35) (st := []) (C_X7_fail htr hM c_5) dX7_meeting_32 rfl (lw_V q1879 q1881 qs48 q131 q1882) hcee_X7_fail rfl (by decide) hM.1 rfl rfl rfl (Nat.le_of_ble_eq_true rfl) (Nat.le_refl _) (Nat.le_refl _) ?_
    have hF := Option.some.inj hF; subst hF
    exact z_iret dX7_meeting_35 rfl rfl ⟨rfl, rfl, rfl, rfl, rfl⟩
  · replace hF := (if_neg hc).symm.trans hF
    refine z_aload_n (n := 14) dX7_meeting_13 rfl 0 rfl rfl ?_
    refine z_iload_n (n := 15) dX7_meeting_14 rfl 2 rfl rfl ?_
    obtain ⟨x_9, c_8, hF⟩ := zb1_some hF
    refine z_cV (n := 18) (st := []) (C_X7_isFort htr hM c_8) dX7_meeting_15 rfl (lw_V q2200 q2202 qs96 q131 q2203) hcee_X7_isFort rfl (by decide) hM.1 rfl rfl rfl (Nat.le_of_ble_eq_true rfl) (Nat.le_refl _) (Nat.le_refl _) ?_
    refine z_if_eq (n := 21) (t := 30) dX7_meeting_18 rfl (by decide) (fun hc => ?_) (fun hc => ?_)
    · replace hF := (if_pos hc).symm.trans hF
      refine z_aload_n (n := 31) dX7_meeting_30 rfl 0 rfl rfl ?_
      refine z_iconst (n := 32) (v := 1) dX7_meeting_31 rfl (by decide) ?_
      obtain ⟨x_11, I_12, c_10, hF⟩ := zb2_some hF
      refine z_cV (n := 35) (st := []) (C_X7_fail htr hM c_10) dX7_meeting_32 rfl (lw_V q1879 q1881 qs48 q131 q1882) hcee_X7_fail rfl (by decide) hM.1 rfl rfl rfl (Nat.le_of_ble_eq_true rfl) (Nat.le_refl _) (Nat.le_refl _) ?_
      have hF := Option.some.inj hF; subst hF
      exact z_iret dX7_meeting_35 rfl rfl ⟨rfl, rfl, rfl, rfl, rfl⟩
    · replace hF := (if_neg hc).symm.trans hF
      refine z_iload_n (n := 22) dX7_meeting_21 rfl 3 rfl rfl ?_
      refine z_if_lt (n := 25) (t := 30) dX7_meeting_22 rfl (by decide) (fun hc => ?_) (fun hc => ?_)
      · replace hF := (if_pos hc).symm.trans hF
        refine z_aload_n (n := 31) dX7_meeting_30 rfl 0 rfl rfl ?_
        refine z_iconst (n := 32) (v := 1) dX7_meeting_31 rfl (by decide) ?_
        obtain ⟨x_14, I_15, c_13, hF⟩ := zb2_some hF
        refine z_cV (n := 35) (st := []) (C_X7_fail htr hM c_13) dX7_meeting_32 rfl (lw_V q1879 q1881 qs48 q131 q1882) hcee_X7_fail rfl (by decide) hM.1 rfl rfl rfl (Nat.le_of_ble_eq_true rfl) (Nat.le_refl _) (Nat.le_refl _) ?_
        have hF := Option.some.inj hF; subst hF
        exact z_iret dX7_meeting_35 rfl rfl ⟨rfl, rfl, rfl, rfl, rfl⟩
      · replace hF := (if_neg hc).symm.trans hF
        refine z_iload_n (n := 26) dX7_meeting_25 rfl 3 rfl rfl ?_
        refine z_iconst (n := 27) (v := 1) dX7_meeting_26 rfl (by decide) ?_
        refine z_icmp_le (n := 30) (t := 36) dX7_meeting_27 rfl (by decide) (fun hc => ?_) (fun hc => ?_)
        · replace hF := (if_pos hc).symm.trans hF
          refine z_iconst (n := 37) (v := (-1)) dX7_meeting_36 rfl (by decide) ?_
          refine z_istoreE (n := 39) (lv' := [(4, .int (-1)), (0, .ref 1860), (1, .int a0), (2, .int a1), (3, .int a2)]) dX7_meeting_37 rfl rfl (by decide) rfl ?_
          refine z_ldc (n := 41) dX7_meeting_39 rfl q1897 ?_
          refine z_istoreE (n := 43) (lv' := [(5, .int 100000), (4, .int (-1)), (0, .ref 1860), (1, .int a0), (2, .int a1), (3, .int a2)]) dX7_meeting_41 rfl rfl (by decide) rfl ?_
          refine z_iconst (n := 44) (v := 0) dX7_meeting_43 rfl (by decide) ?_
          refine z_istoreE (n := 46) (lv' := [(6, .int 0), (5, .int 100000), (4, .int (-1)), (0, .ref 1860), (1, .int a0), (2, .int a1), (3, .int a2)]) dX7_meeting_44 rfl rfl (by decide) rfl ?_
          refine z_sub [3, 4, 5, 6, 2, 1, 0] rfl ?_
          obtain ⟨t_38, e_37, hF⟩ := zb1_some hF
          obtain ⟨v4_34, v5_35, I_36⟩ := t_38
          dsimp only [zn3] at hF
          have H_39 : zW l G MX7_meeting 3 70 0 0 110 [(3, .int a2), (4, .int v4_34), (5, .int v5_35)] [] K F I_36 L (zQe (.inl (some (.int r.1))) K F r.2 L) := by
            refine z_iload_n (n := 111) dX7_meeting_110 rfl 0 rfl rfl ?_
            refine z_if_eq (n := 114) (t := 120) dX7_meeting_111 rfl (by decide) (fun hc => ?_) (fun hc => ?_)
            · replace hF := (if_pos hc).symm.trans hF
              refine z_iload (n := 122) dX7_meeting_120 rfl 1 rfl ?_
              refine z_goto (t := 127) dX7_meeting_122 (by decide) ?_
              have hF := Option.some.inj hF; subst hF
              exact z_iret dX7_meeting_127 rfl rfl ⟨rfl, rfl, rfl, rfl, rfl⟩
            · replace hF := (if_neg hc).symm.trans hF
              refine z_iload (n := 116) dX7_meeting_114 rfl 1 rfl ?_
              refine z_iconst (n := 117) (v := (-1)) dX7_meeting_116 rfl (by decide) ?_
              refine z_icmp_ne (n := 120) (t := 125) dX7_meeting_117 rfl (by decide) (fun hc => ?_) (fun hc => ?_)
              · replace hF := (if_pos hc).symm.trans hF
                refine z_iload (n := 127) dX7_meeting_125 rfl 2 rfl ?_
                have hF := Option.some.inj hF; subst hF
                exact z_iret dX7_meeting_127 rfl rfl ⟨rfl, rfl, rfl, rfl, rfl⟩
              · replace hF := (if_neg hc).symm.trans hF
                refine z_iload (n := 122) dX7_meeting_120 rfl 1 rfl ?_
                refine z_goto (t := 127) dX7_meeting_122 (by decide) ?_
                have hF := Option.some.inj hF; subst hF
                exact z_iret dX7_meeting_127 rfl rfl ⟨rfl, rfl, rfl, rfl, rfl⟩
          refine zloop_ind (P := fun s : Int32 × Int32 × Int32 × zId => zW l G MX7_meeting 3 70 0 0 46 [(0, .ref 1860), (1, .int a0), (2, .int a1), (3, .int a2), (4, .int s.1), (5, .int s.2.1), (6, .int s.2.2.1)] [] K F s.2.2.2 L (zQe (.inl (some (.int r.1))) K F r.2 L)) (fun s r hb kl kr => ?_) e_37
          exact W_X7_meeting_L46 (a0 := a0) (a1 := a1) (a2 := a2) htr hM hb (fun z0 z1 z2 z3 e => kl _ e) (fun y0 y1 y2 e => by cases kr _ e; exact H_39)
        · replace hF := (if_neg hc).symm.trans hF
          refine z_aload_n (n := 31) dX7_meeting_30 rfl 0 rfl rfl ?_
          refine z_iconst (n := 32) (v := 1) dX7_meeting_31 rfl (by decide) ?_
          obtain ⟨x_41, I_42, c_40, hF⟩ := zb2_some hF
          refine z_cV (n := 35) (st := []) (C_X7_fail htr hM c_40) dX7_meeting_32 rfl (lw_V q1879 q1881 qs48 q131 q1882) hcee_X7_fail rfl (by decide) hM.1 rfl rfl rfl (Nat.le_of_ble_eq_true rfl) (Nat.le_refl _) (Nat.le_refl _) ?_
          have hF := Option.some.inj hF; subst hF
          exact z_iret dX7_meeting_35 rfl rfl ⟨rfl, rfl, rfl, rfl, rfl⟩
abbrev MX7_owesIn : zM := (RX7, cX7_owesIn, 4, (some .int), "owesIn", [])
noncomputable def F_X7_owesIn (a0 : Int32) (a1 : Int32) (I : zId) : Option (Int32 × zId) := zb1 (F_X7_goOn a1 I) (fun I_2 => zg (zin a0 6) (zlet (I_2 1881 a0.toNatClampNeg) (fun v3_4 => zb1 (F_X7_unpack 1886 57 0 I_2) (fun I_7 => some (v3_4, I_7)))))
set_option maxHeartbeats 1000000 in
theorem C_X7_owesIn {l : Launch} {G : zGt} (htr : l.stackTraces = false) {K : zKd} {F : zFd} {L : zLd} {a0 : Int32} {a1 : Int32} (hM : zMLay K F) {I : zId} {r : Int32 × zId} (hF : F_X7_owesIn a0 a1 I = some r) : zMet l G yX7_owesIn (ws_ yX7_owesIn cX7_owesIn 4 (some .int)) 6 135 0 0 [.ref 1860, .int a0, .int a1] K F I L (zQe (.inl (some (.int r.1))) K F r.2 L) := by
  refine zMet.of (by decide +kernel) htr (Nat.le_of_ble_eq_true rfl) ?_
  change zW l G MX7_owesIn 6 135 0 0 0 [(0, .ref 1860), (1, .int a0), (2, .int a1)] [] K F I L (zQe (.inl (some (.int r.1))) K F r.2 L)
  unfold F_X7_owesIn at hF
  refine z_aload_n (n := 1) dX7_owesIn_0 rfl 0 rfl rfl ?_
  refine z_iload_n (n := 2) dX7_owesIn_1 rfl 2 rfl rfl ?_
  obtain ⟨I_2, c_1, hF⟩ := zb1_some hF
  refine z_cV (n := 5) (st := []) (C_X7_goOn htr hM c_1) dX7_owesIn_2 rfl (lw_V q2085 q2087 qs85 q131 q2088) hcee_X7_goOn rfl (by decide) hM.1 rfl rfl rfl (Nat.le_of_ble_eq_true rfl) (Nat.le_refl _) (Nat.le_refl _) ?_
  refine z_aload_n (n := 6) dX7_owesIn_5 rfl 0 rfl rfl ?_
  refine z_getRS (n := 9) dX7_owesIn_6 rfl zok6 fX7_88 rfl hM.1 (Or.inl (by decide)) (mF_31 hM) ?_
  refine z_iload_n (n := 10) dX7_owesIn_9 rfl 1 rfl rfl ?_
  obtain ⟨h_3, hF⟩ := zg_some hF
  refine z_ialdK (n := 11) a0.toNatClampNeg rfl dX7_owesIn_10 rfl (mK_31 hM) (zin_ok h_3) ?_
  obtain ⟨v3_4, e_5, hF⟩ := zlet_ob hF
  refine z_istore_nE (n := 12) (lv' := [(3, .int v3_4), (0, .ref 1860), (1, .int a0), (2, .int a1)]) dX7_owesIn_11 rfl e_5 rfl (by decide) rfl ?_
  refine z_aload_n (n := 13) dX7_owesIn_12 rfl 1 rfl rfl ?_
  refine z_aload_n (n := 14) dX7_owesIn_13 rfl 1 rfl rfl ?_
  refine z_getRS (n := 17) dX7_owesIn_14 rfl zok6 fX7_102 rfl hM.1 (Or.inl (by decide)) (mF_42 hM) ?_
  refine z_iconst (n := 18) (v := 0) dX7_owesIn_17 rfl (by decide) ?_
  obtain ⟨I_7, c_6, hF⟩ := zb1_some hF
  refine z_cV (n := 21) (st := []) (C_X7_unpack htr hM (mK_42 hM) (by decide) c_6) dX7_owesIn_18 rfl (lw_V q2135 q2137 qs91 q131 q2138) hcee_X7_unpack rfl (by decide) hM.1 rfl rfl rfl (Nat.le_of_ble_eq_true rfl) (Nat.le_refl _) (Nat.le_refl _) ?_
  refine z_iload_n (n := 22) dX7_owesIn_21 rfl 0 rfl rfl ?_
  have hF := Option.some.inj hF; subst hF
  exact z_iret dX7_owesIn_22 rfl rfl ⟨rfl, rfl, rfl, rfl, rfl⟩
theorem hcee_X7_owesIn : zCee yX7_owesIn RX7 2 := ⟨rfl, by decide +kernel, by decide +kernel, by decide +kernel⟩
abbrev MX7_where : zM := (RX7, cX7_where, 8, (some .int), "where", [])
noncomputable def F_X7_where_L65 (a0 : Int32) (a1 : Int32) (v4_15 : Int32) (v5_16 : Int32) (v6_17 : Int32) (I_18 : zId) : Option ((Int32 × Int32 × Int32 × zId) ⊕ (Int32 × Int32 × zId)) := if (I_18 1862 0) ≤ v6_17 then some (.inr ((v4_15, v5_16, I_18))) else zg (zin a0 6) (zlet (zu I_18 1878 a0.toNatClampNeg v6_17) (fun I_20 => zb2 (F_X7_owesIn a0 a1 I_20) (fun x_23 I_24 => if x_23 < v5_16 then zlet (v6_17 + 1) (fun v6_25 => some (.inl (v6_17, x_23, v6_25, I_24))) else zlet (v6_17 + 1) (fun v6_27 => some (.inl (v4_15, v5_16, v6_27, I_24))))))
noncomputable def F_X7_where (a0 : Int32) (a1 : Int32) (a2 : Int32) (I : zId) : Option (Int32 × zId) := zlet (zu I 1860 1 0) (fun I_1 => zb1 (F_X7_isBand a0 I_1) (fun x_4 => if x_4 = 0 then zb2 (F_X7_fail 1 I_1) (fun x_6 I_7 => some (x_6, I_7)) else if a2 < 0 then zb2 (F_X7_fail 1 I_1) (fun x_9 I_10 => some (x_9, I_10)) else if a2 ≤ 1 then zb1 (F_X7_isIn a1.toInt64 1 20 I_1) (fun x_12 => if ¬ x_12 = 0 then zb1 (F_X7_pack 1886 57 0 I_1) (fun I_14 => zb1 (zloop (fun s : Int32 × Int32 × Int32 × zId => F_X7_where_L65 a0 a1 s.1 s.2.1 s.2.2.1 s.2.2.2) ((-1), 100000, 0, I_14)) (zn3 (fun v4_29 v5_30 I_31 => if ¬ a2 = 0 then some (v5_30, I_31) else some (v4_29, I_31)))) else zb2 (F_X7_fail 2 I_1) (fun x_36 I_37 => some (x_36, I_37))) else zb2 (F_X7_fail 1 I_1) (fun x_39 I_40 => some (x_39, I_40))))
set_option maxHeartbeats 1000000 in
theorem W_X7_where_L65 {l : Launch} {G : zGt} (htr : l.stackTraces = false) {K : zKd} {F : zFd} {L : zLd} {Q : zQt} {a0 : Int32} {a1 : Int32} {a2 : Int32} {v4_15 : Int32} {v5_16 : Int32} {v6_17 : Int32} {I_18 : zId} (hM : zMLay K F) {r : (Int32 × Int32 × Int32 × zId) ⊕ (Int32 × Int32 × zId)} (hF : F_X7_where_L65 a0 a1 v4_15 v5_16 v6_17 I_18 = some r) (kl : ∀ (z0 : Int32) (z1 : Int32) (z2 : Int32) (z3 : zId), r = .inl (z0, z1, z2, z3) → zW l G MX7_where 7 158 0 0 65 [(0, .ref 1860), (1, .int a0), (2, .int a1), (3, .int a2), (4, .int z0), (5, .int z1), (6, .int z2)] [] K F z3 L Q) (kx : ∀ (y0 : Int32) (y1 : Int32) (y2 : zId), r = .inr (y0, y1, y2) → zW l G MX7_where 7 158 0 0 116 [(3, .int a2), (4, .int y0), (5, .int y1)] [] K F y2 L Q)  : zW l G MX7_where 7 158 0 0 65 [(0, .ref 1860), (1, .int a0), (2, .int a1), (3, .int a2), (4, .int v4_15), (5, .int v5_16), (6, .int v6_17)] [] K F I_18 L Q := by
  unfold F_X7_where_L65 at hF
  refine z_iload (n := 67) dX7_where_65 rfl 6 rfl ?_
  refine z_aload_n (n := 68) dX7_where_67 rfl 0 rfl rfl ?_
  refine z_getRS (n := 71) dX7_where_68 rfl zok6 fX7_29 rfl hM.1 (Or.inl (by decide)) (mF_2 hM) ?_
  refine z_iconst (n := 72) (v := 0) dX7_where_71 rfl (by decide) ?_
  refine z_ialdK (n := 73) 0 (by decide) dX7_where_72 rfl (mK_2 hM) (zin_ok (i := 0) (n := 16) rfl) ?_
  refine z_icmp_ge (n := 76) (t := 116) dX7_where_73 rfl (by decide) (fun hc => ?_) (fun hc => ?_)
  · replace hF := (if_pos hc).symm.trans hF
    refine z_sub [3, 4, 5] rfl ?_
    have hF := Option.some.inj hF; subst hF
    exact kx _ _ _ rfl
  · replace hF := (if_neg hc).symm.trans hF
    refine z_aload_n (n := 77) dX7_where_76 rfl 0 rfl rfl ?_
    refine z_getRS (n := 80) dX7_where_77 rfl zok6 fX7_80 rfl hM.1 (Or.inl (by decide)) (mF_28 hM) ?_
    refine z_iload_n (n := 81) dX7_where_80 rfl 1 rfl rfl ?_
    refine z_iload (n := 83) dX7_where_81 rfl 6 rfl ?_
    obtain ⟨h_19, hF⟩ := zg_some hF
    obtain ⟨I_20, e_21, hF⟩ := zlet_ob hF
    refine z_iastK (n := 84) a0.toNatClampNeg rfl dX7_where_83 rfl (mK_28 hM) (by decide) (zin_ok h_19) e_21 ?_
    refine z_aload_n (n := 85) dX7_where_84 rfl 0 rfl rfl ?_
    refine z_iload_n (n := 86) dX7_where_85 rfl 1 rfl rfl ?_
    refine z_iload_n (n := 87) dX7_where_86 rfl 2 rfl rfl ?_
    obtain ⟨x_23, I_24, c_22, hF⟩ := zb2_some hF
    refine z_cV (n := 90) (st := []) (C_X7_owesIn htr hM c_22) dX7_where_87 rfl (lw_V q2220 q2222 qs97 q131 q2223) hcee_X7_owesIn rfl (by decide) hM.1 rfl rfl rfl (Nat.le_of_ble_eq_true rfl) (Nat.le_refl _) (Nat.le_refl _) ?_
    refine z_istoreE (n := 92) (lv' := [(7, .int x_23), (0, .ref 1860), (1, .int a0), (2, .int a1), (3, .int a2), (4, .int v4_15), (5, .int v5_16), (6, .int v6_17)]) dX7_where_90 rfl rfl (by decide) rfl ?_
    refine z_iload (n := 94) dX7_where_92 rfl 0 rfl ?_
    refine z_iload (n := 96) dX7_where_94 rfl 6 rfl ?_
    refine z_icmp_lt (n := 99) (t := 102) dX7_where_96 rfl (by decide) (fun hc => ?_) (fun hc => ?_)
    · replace hF := (if_pos hc).symm.trans hF
      refine z_iload (n := 104) dX7_where_102 rfl 7 rfl ?_
      refine z_istoreE (n := 106) (lv' := [(4, .int v6_17), (7, .int x_23), (0, .ref 1860), (1, .int a0), (2, .int a1), (3, .int a2), (5, .int v5_16), (6, .int v6_17)]) dX7_where_104 rfl rfl (by decide) rfl ?_
      refine z_iload (n := 108) dX7_where_106 rfl 1 rfl ?_
      refine z_istoreE (n := 110) (lv' := [(5, .int x_23), (4, .int v6_17), (7, .int x_23), (0, .ref 1860), (1, .int a0), (2, .int a1), (3, .int a2), (6, .int v6_17)]) dX7_where_108 rfl rfl (by decide) rfl ?_
      obtain ⟨v6_25, e_26, hF⟩ := zlet_ob hF
      refine z_iincE (n := 113) (w := 1) (v := v6_25) (lv' := [(6, .int v6_25), (5, .int x_23), (4, .int v6_17), (7, .int x_23), (0, .ref 1860), (1, .int a0), (2, .int a1), (3, .int a2)]) dX7_where_110 rfl 7 rfl (by decide) e_26 (by decide) rfl ?_
      refine z_goto (t := 65) dX7_where_113 (by decide) ?_
      refine z_sub [4, 5, 6, 7, 2, 1, 0] rfl ?_
      have hF := Option.some.inj hF; subst hF
      exact kl _ _ _ _ rfl
    · replace hF := (if_neg hc).symm.trans hF
      refine z_goto (t := 110) dX7_where_99 (by decide) ?_
      obtain ⟨v6_27, e_28, hF⟩ := zlet_ob hF
      refine z_iincE (n := 113) (w := 1) (v := v6_27) (lv' := [(6, .int v6_27), (7, .int x_23), (0, .ref 1860), (1, .int a0), (2, .int a1), (3, .int a2), (4, .int v4_15), (5, .int v5_16)]) dX7_where_110 rfl 7 rfl (by decide) e_28 (by decide) rfl ?_
      refine z_goto (t := 65) dX7_where_113 (by decide) ?_
      refine z_sub [2, 3, 4, 5, 6, 7, 0] rfl ?_
      have hF := Option.some.inj hF; subst hF
      exact kl _ _ _ _ rfl
set_option maxHeartbeats 1000000 in
theorem C_X7_where {l : Launch} {G : zGt} (htr : l.stackTraces = false) {K : zKd} {F : zFd} {L : zLd} {a0 : Int32} {a1 : Int32} {a2 : Int32} (hM : zMLay K F) {I : zId} {r : Int32 × zId} (hF : F_X7_where a0 a1 a2 I = some r) : zMet l G yX7_where (ws_ yX7_where cX7_where 8 (some .int)) 7 158 0 0 [.ref 1860, .int a0, .int a1, .int a2] K F I L (zQe (.inl (some (.int r.1))) K F r.2 L) := by
  refine zMet.of (by decide +kernel) htr (Nat.le_of_ble_eq_true rfl) ?_
  change zW l G MX7_where 7 158 0 0 0 [(0, .ref 1860), (1, .int a0), (2, .int a1), (3, .int a2)] [] K F I L (zQe (.inl (some (.int r.1))) K F r.2 L)
  unfold F_X7_where at hF
  refine z_aload_n (n := 1) dX7_where_0 rfl 0 rfl rfl ?_
  refine z_iconst (n := 2) (v := 0) dX7_where_1 rfl (by decide) ?_
  obtain ⟨I_1, e_2, hF⟩ := zlet_ob hF
  refine z_putIE (n := 5) dX7_where_2 rfl zok6 fX7_150 (Or.inl ⟨_, rfl, rfl⟩) rfl ⟨rfl, rfl⟩ hM.1 (by decide) e_2 ?_
  refine z_aload_n (n := 6) dX7_where_5 rfl 0 rfl rfl ?_
  refine z_iload_n (n := 7) dX7_where_6 rfl 1 rfl rfl ?_
  obtain ⟨x_4, c_3, hF⟩ := zb1_some hF
  refine z_cV (n := 10) (st := []) (C_X7_isBand htr hM c_3) dX7_where_7 rfl (lw_V q2045 q2047 qs78 q131 q2048) hcee_X7_isBand rfl (by decide) hM.1 rfl rfl rfl (Nat.le_of_ble_eq_true rfl) (Nat.le_refl _) (Nat.le_refl _) ?_
  refine z_if_eq (n := 13) (t := 22) dX7_where_10 rfl (by decide) (fun hc => ?_) (fun hc => ?_)
  · replace hF := (if_pos hc).symm.trans hF
    refine z_aload_n (n := 23) dX7_where_22 rfl 0 rfl rfl ?_
    refine z_iconst (n := 24) (v := 1) dX7_where_23 rfl (by decide) ?_
    obtain ⟨x_6, I_7, c_5, hF⟩ := zb2_some hF
    refine z_cV (n := 27) (st := []) (C_X7_fail htr hM c_5) dX7_where_24 rfl (lw_V q1879 q1881 qs48 q131 q1882) hcee_X7_fail rfl (by decide) hM.1 rfl rfl rfl (Nat.le_of_ble_eq_true rfl) (Nat.le_refl _) (Nat.le_refl _) ?_
    have hF := Option.some.inj hF; subst hF
    exact z_iret dX7_where_27 rfl rfl ⟨rfl, rfl, rfl, rfl, rfl⟩
  · replace hF := (if_neg hc).symm.trans hF
    refine z_iload_n (n := 14) dX7_where_13 rfl 3 rfl rfl ?_
    refine z_if_lt (n := 17) (t := 22) dX7_where_14 rfl (by decide) (fun hc => ?_) (fun hc => ?_)
    · replace hF := (if_pos hc).symm.trans hF
      refine z_aload_n (n := 23) dX7_where_22 rfl 0 rfl rfl ?_
      refine z_iconst (n := 24) (v := 1) dX7_where_23 rfl (by decide) ?_
      obtain ⟨x_9, I_10, c_8, hF⟩ := zb2_some hF
      refine z_cV (n := 27) (st := []) (C_X7_fail htr hM c_8) dX7_where_24 rfl (lw_V q1879 q1881 qs48 q131 q1882) hcee_X7_fail rfl (by decide) hM.1 rfl rfl rfl (Nat.le_of_ble_eq_true rfl) (Nat.le_refl _) (Nat.le_refl _) ?_
      have hF := Option.some.inj hF; subst hF
      exact z_iret dX7_where_27 rfl rfl ⟨rfl, rfl, rfl, rfl, rfl⟩
    · replace hF := (if_neg hc).symm.trans hF
      refine z_iload_n (n := 18) dX7_where_17 rfl 3 rfl rfl ?_
      refine z_iconst (n := 19) (v := 1) dX7_where_18 rfl (by decide) ?_
      refine z_icmp_le (n := 22) (t := 28) dX7_where_19 rfl (by decide) (fun hc => ?_) (fun hc => ?_)
      · replace hF := (if_pos hc).symm.trans hF
        refine z_iload_n (n := 29) dX7_where_28 rfl 2 rfl rfl ?_
        refine z_i2l (n := 30) dX7_where_29 rfl ?_
        refine z_lconst (n := 31) (v := 1) dX7_where_30 rfl (by decide) ?_
        refine z_ldc2 (n := 34) dX7_where_31 rfl q2219 ?_
        obtain ⟨x_12, c_11, hF⟩ := zb1_some hF
        refine z_cS (n := 37) (st := []) (C_X7_isIn htr c_11) dX7_where_34 rfl (lw_S q2030 q2031 q131 q2032) hcee_X7_isIn rfl (by decide) rfl (Nat.le_of_ble_eq_true rfl) (Nat.le_refl _) (Nat.le_refl _) ?_
        refine z_if_ne (n := 40) (t := 46) dX7_where_37 rfl (by decide) (fun hc => ?_) (fun hc => ?_)
        · replace hF := (if_pos hc).symm.trans hF
          refine z_aload_n (n := 47) dX7_where_46 rfl 0 rfl rfl ?_
          refine z_aload_n (n := 48) dX7_where_47 rfl 0 rfl rfl ?_
          refine z_getRS (n := 51) dX7_where_48 rfl zok6 fX7_102 rfl hM.1 (Or.inl (by decide)) (mF_42 hM) ?_
          refine z_iconst (n := 52) (v := 0) dX7_where_51 rfl (by decide) ?_
          obtain ⟨I_14, c_13, hF⟩ := zb1_some hF
          refine z_cV (n := 55) (st := []) (C_X7_pack htr hM (mK_42 hM) (by decide) c_13) dX7_where_52 rfl (lw_V q2081 q2083 qs84 q131 q2084) hcee_X7_pack rfl (by decide) hM.1 rfl rfl rfl (Nat.le_of_ble_eq_true rfl) (Nat.le_refl _) (Nat.le_refl _) ?_
          refine z_iconst (n := 56) (v := (-1)) dX7_where_55 rfl (by decide) ?_
          refine z_istoreE (n := 58) (lv' := [(4, .int (-1)), (0, .ref 1860), (1, .int a0), (2, .int a1), (3, .int a2)]) dX7_where_56 rfl rfl (by decide) rfl ?_
          refine z_ldc (n := 60) dX7_where_58 rfl q1897 ?_
          refine z_istoreE (n := 62) (lv' := [(5, .int 100000), (4, .int (-1)), (0, .ref 1860), (1, .int a0), (2, .int a1), (3, .int a2)]) dX7_where_60 rfl rfl (by decide) rfl ?_
          refine z_iconst (n := 63) (v := 0) dX7_where_62 rfl (by decide) ?_
          refine z_istoreE (n := 65) (lv' := [(6, .int 0), (5, .int 100000), (4, .int (-1)), (0, .ref 1860), (1, .int a0), (2, .int a1), (3, .int a2)]) dX7_where_63 rfl rfl (by decide) rfl ?_
          refine z_sub [3, 4, 5, 6, 2, 1, 0] rfl ?_
          obtain ⟨t_33, e_32, hF⟩ := zb1_some hF
          obtain ⟨v4_29, v5_30, I_31⟩ := t_33
          dsimp only [zn3] at hF
          have H_34 : zW l G MX7_where 7 158 0 0 116 [(3, .int a2), (4, .int v4_29), (5, .int v5_30)] [] K F I_31 L (zQe (.inl (some (.int r.1))) K F r.2 L) := by
            refine z_iload_n (n := 117) dX7_where_116 rfl 0 rfl rfl ?_
            refine z_if_ne (n := 120) (t := 125) dX7_where_117 rfl (by decide) (fun hc => ?_) (fun hc => ?_)
            · replace hF := (if_pos hc).symm.trans hF
              refine z_iload (n := 127) dX7_where_125 rfl 2 rfl ?_
              have hF := Option.some.inj hF; subst hF
              exact z_iret dX7_where_127 rfl rfl ⟨rfl, rfl, rfl, rfl, rfl⟩
            · replace hF := (if_neg hc).symm.trans hF
              refine z_iload (n := 122) dX7_where_120 rfl 1 rfl ?_
              refine z_goto (t := 127) dX7_where_122 (by decide) ?_
              have hF := Option.some.inj hF; subst hF
              exact z_iret dX7_where_127 rfl rfl ⟨rfl, rfl, rfl, rfl, rfl⟩
          refine zloop_ind (P := fun s : Int32 × Int32 × Int32 × zId => zW l G MX7_where 7 158 0 0 65 [(0, .ref 1860), (1, .int a0), (2, .int a1), (3, .int a2), (4, .int s.1), (5, .int s.2.1), (6, .int s.2.2.1)] [] K F s.2.2.2 L (zQe (.inl (some (.int r.1))) K F r.2 L)) (fun s r hb kl kr => ?_) e_32
          exact W_X7_where_L65 (a0 := a0) (a1 := a1) (a2 := a2) htr hM hb (fun z0 z1 z2 z3 e => kl _ e) (fun y0 y1 y2 e => by cases kr _ e; exact H_34)
        · replace hF := (if_neg hc).symm.trans hF
          refine z_aload_n (n := 41) dX7_where_40 rfl 0 rfl rfl ?_
          refine z_iconst (n := 42) (v := 2) dX7_where_41 rfl (by decide) ?_
          obtain ⟨x_36, I_37, c_35, hF⟩ := zb2_some hF
          refine z_cV (n := 45) (st := []) (C_X7_fail htr hM c_35) dX7_where_42 rfl (lw_V q1879 q1881 qs48 q131 q1882) hcee_X7_fail rfl (by decide) hM.1 rfl rfl rfl (Nat.le_of_ble_eq_true rfl) (Nat.le_refl _) (Nat.le_refl _) ?_
          have hF := Option.some.inj hF; subst hF
          exact z_iret dX7_where_45 rfl rfl ⟨rfl, rfl, rfl, rfl, rfl⟩
      · replace hF := (if_neg hc).symm.trans hF
        refine z_aload_n (n := 23) dX7_where_22 rfl 0 rfl rfl ?_
        refine z_iconst (n := 24) (v := 1) dX7_where_23 rfl (by decide) ?_
        obtain ⟨x_39, I_40, c_38, hF⟩ := zb2_some hF
        refine z_cV (n := 27) (st := []) (C_X7_fail htr hM c_38) dX7_where_24 rfl (lw_V q1879 q1881 qs48 q131 q1882) hcee_X7_fail rfl (by decide) hM.1 rfl rfl rfl (Nat.le_of_ble_eq_true rfl) (Nat.le_refl _) (Nat.le_refl _) ?_
        have hF := Option.some.inj hF; subst hF
        exact z_iret dX7_where_27 rfl rfl ⟨rfl, rfl, rfl, rfl, rfl⟩
abbrev MX7_counted : zM := (RX7, cX7_counted, 4, (some .int), "counted", [])
noncomputable def F_X7_counted_L49 (a0 : Int32) (a1 : Int32) (v3_9 : Int32) (I_10 : zId) : Option ((Int32 × zId) ⊕ ((zId) ⊕ (Int32 × zId))) := if v3_9 < 0 then some (.inr (.inl I_10)) else zg (zin a0 6) (zlet (zu I_10 1879 a0.toNatClampNeg v3_9) (fun I_12 => zb2 (F_X7_owesIn a0 a1 I_12) (fun x_15 I_16 => if ¬ x_15 = 0 then zlet (v3_9 + (-1)) (fun v3_17 => some (.inl (v3_17, I_16))) else some (.inr (.inr (v3_9, I_16))))))
noncomputable def F_X7_counted (a0 : Int32) (a1 : Int32) (I : zId) : Option (Int32 × zId) := zlet (zu I 1860 1 0) (fun I_1 => zb1 (F_X7_isBand a0 I_1) (fun x_4 => if ¬ x_4 = 0 then zb1 (F_X7_isIn a1.toInt64 1 20 I_1) (fun x_6 => if ¬ x_6 = 0 then zb1 (F_X7_pack 1886 57 0 I_1) (fun I_8 => zs1 (zloop (fun s : Int32 × zId => F_X7_counted_L49 a0 a1 s.1 s.2) (30, I_8)) (fun I_19 => some ((-1), I_19)) (fun z_21 => some z_21)) else zb2 (F_X7_fail 2 I_1) (fun x_25 I_26 => some (x_25, I_26))) else zb2 (F_X7_fail 1 I_1) (fun x_28 I_29 => some (x_28, I_29))))
set_option maxHeartbeats 1000000 in
theorem W_X7_counted_L49 {l : Launch} {G : zGt} (htr : l.stackTraces = false) {K : zKd} {F : zFd} {L : zLd} {Q : zQt} {a0 : Int32} {a1 : Int32} {v3_9 : Int32} {I_10 : zId} (hM : zMLay K F) {r : (Int32 × zId) ⊕ ((zId) ⊕ (Int32 × zId))} (hF : F_X7_counted_L49 a0 a1 v3_9 I_10 = some r) (kl : ∀ (z0 : Int32) (z1 : zId), r = .inl (z0, z1) → zW l G MX7_counted 7 158 0 0 49 [(0, .ref 1860), (1, .int a0), (2, .int a1), (3, .int z0)] [] K F z1 L Q) (kx : ∀ (y0 : zId), r = .inr (.inl y0) → zW l G MX7_counted 7 158 0 0 77 [] [] K F y0 L Q) (kq : ∀ z : Int32 × zId, r = .inr (.inr z) → Q (.inl (some (.int z.1))) K F z.2 L) : zW l G MX7_counted 7 158 0 0 49 [(0, .ref 1860), (1, .int a0), (2, .int a1), (3, .int v3_9)] [] K F I_10 L Q := by
  unfold F_X7_counted_L49 at hF
  refine z_iload_n (n := 50) dX7_counted_49 rfl 3 rfl rfl ?_
  refine z_if_lt (n := 53) (t := 77) dX7_counted_50 rfl (by decide) (fun hc => ?_) (fun hc => ?_)
  · replace hF := (if_pos hc).symm.trans hF
    refine z_sub [] rfl ?_
    have hF := Option.some.inj hF; subst hF
    exact kx _ rfl
  · replace hF := (if_neg hc).symm.trans hF
    refine z_aload_n (n := 54) dX7_counted_53 rfl 0 rfl rfl ?_
    refine z_getRS (n := 57) dX7_counted_54 rfl zok6 fX7_83 rfl hM.1 (Or.inl (by decide)) (mF_29 hM) ?_
    refine z_iload_n (n := 58) dX7_counted_57 rfl 1 rfl rfl ?_
    refine z_iload_n (n := 59) dX7_counted_58 rfl 3 rfl rfl ?_
    obtain ⟨h_11, hF⟩ := zg_some hF
    obtain ⟨I_12, e_13, hF⟩ := zlet_ob hF
    refine z_iastK (n := 60) a0.toNatClampNeg rfl dX7_counted_59 rfl (mK_29 hM) (by decide) (zin_ok h_11) e_13 ?_
    refine z_aload_n (n := 61) dX7_counted_60 rfl 0 rfl rfl ?_
    refine z_iload_n (n := 62) dX7_counted_61 rfl 1 rfl rfl ?_
    refine z_iload_n (n := 63) dX7_counted_62 rfl 2 rfl rfl ?_
    obtain ⟨x_15, I_16, c_14, hF⟩ := zb2_some hF
    refine z_cV (n := 66) (st := []) (C_X7_owesIn htr hM c_14) dX7_counted_63 rfl (lw_V q2220 q2222 qs97 q131 q2223) hcee_X7_owesIn rfl (by decide) hM.1 rfl rfl rfl (Nat.le_of_ble_eq_true rfl) (Nat.le_refl _) (Nat.le_refl _) ?_
    refine z_if_ne (n := 69) (t := 71) dX7_counted_66 rfl (by decide) (fun hc => ?_) (fun hc => ?_)
    · replace hF := (if_pos hc).symm.trans hF
      obtain ⟨v3_17, e_18, hF⟩ := zlet_ob hF
      refine z_iincE (n := 74) (w := (-1)) (v := v3_17) (lv' := [(3, .int v3_17), (0, .ref 1860), (1, .int a0), (2, .int a1)]) dX7_counted_71 rfl 3 rfl (by decide) e_18 (by decide) rfl ?_
      refine z_goto (t := 49) dX7_counted_74 (by decide) ?_
      refine z_sub [1, 2, 3, 0] rfl ?_
      have hF := Option.some.inj hF; subst hF
      exact kl _ _ rfl
    · replace hF := (if_neg hc).symm.trans hF
      refine z_iload_n (n := 70) dX7_counted_69 rfl 3 rfl rfl ?_
      have hF := Option.some.inj hF; subst hF
      exact z_iret dX7_counted_70 rfl rfl (kq _ rfl)
set_option maxHeartbeats 1000000 in
theorem C_X7_counted {l : Launch} {G : zGt} (htr : l.stackTraces = false) {K : zKd} {F : zFd} {L : zLd} {a0 : Int32} {a1 : Int32} (hM : zMLay K F) {I : zId} {r : Int32 × zId} (hF : F_X7_counted a0 a1 I = some r) : zMet l G yX7_counted (ws_ yX7_counted cX7_counted 4 (some .int)) 7 158 0 0 [.ref 1860, .int a0, .int a1] K F I L (zQe (.inl (some (.int r.1))) K F r.2 L) := by
  refine zMet.of (by decide +kernel) htr (Nat.le_of_ble_eq_true rfl) ?_
  change zW l G MX7_counted 7 158 0 0 0 [(0, .ref 1860), (1, .int a0), (2, .int a1)] [] K F I L (zQe (.inl (some (.int r.1))) K F r.2 L)
  unfold F_X7_counted at hF
  refine z_aload_n (n := 1) dX7_counted_0 rfl 0 rfl rfl ?_
  refine z_iconst (n := 2) (v := 0) dX7_counted_1 rfl (by decide) ?_
  obtain ⟨I_1, e_2, hF⟩ := zlet_ob hF
  refine z_putIE (n := 5) dX7_counted_2 rfl zok6 fX7_150 (Or.inl ⟨_, rfl, rfl⟩) rfl ⟨rfl, rfl⟩ hM.1 (by decide) e_2 ?_
  refine z_aload_n (n := 6) dX7_counted_5 rfl 0 rfl rfl ?_
  refine z_iload_n (n := 7) dX7_counted_6 rfl 1 rfl rfl ?_
  obtain ⟨x_4, c_3, hF⟩ := zb1_some hF
  refine z_cV (n := 10) (st := []) (C_X7_isBand htr hM c_3) dX7_counted_7 rfl (lw_V q2045 q2047 qs78 q131 q2048) hcee_X7_isBand rfl (by decide) hM.1 rfl rfl rfl (Nat.le_of_ble_eq_true rfl) (Nat.le_refl _) (Nat.le_refl _) ?_
  refine z_if_ne (n := 13) (t := 19) dX7_counted_10 rfl (by decide) (fun hc => ?_) (fun hc => ?_)
  · replace hF := (if_pos hc).symm.trans hF
    refine z_iload_n (n := 20) dX7_counted_19 rfl 2 rfl rfl ?_
    refine z_i2l (n := 21) dX7_counted_20 rfl ?_
    refine z_lconst (n := 22) (v := 1) dX7_counted_21 rfl (by decide) ?_
    refine z_ldc2 (n := 25) dX7_counted_22 rfl q2219 ?_
    obtain ⟨x_6, c_5, hF⟩ := zb1_some hF
    refine z_cS (n := 28) (st := []) (C_X7_isIn htr c_5) dX7_counted_25 rfl (lw_S q2030 q2031 q131 q2032) hcee_X7_isIn rfl (by decide) rfl (Nat.le_of_ble_eq_true rfl) (Nat.le_refl _) (Nat.le_refl _) ?_
    refine z_if_ne (n := 31) (t := 37) dX7_counted_28 rfl (by decide) (fun hc => ?_) (fun hc => ?_)
    · replace hF := (if_pos hc).symm.trans hF
      refine z_aload_n (n := 38) dX7_counted_37 rfl 0 rfl rfl ?_
      refine z_aload_n (n := 39) dX7_counted_38 rfl 0 rfl rfl ?_
      refine z_getRS (n := 42) dX7_counted_39 rfl zok6 fX7_102 rfl hM.1 (Or.inl (by decide)) (mF_42 hM) ?_
      refine z_iconst (n := 43) (v := 0) dX7_counted_42 rfl (by decide) ?_
      obtain ⟨I_8, c_7, hF⟩ := zb1_some hF
      refine z_cV (n := 46) (st := []) (C_X7_pack htr hM (mK_42 hM) (by decide) c_7) dX7_counted_43 rfl (lw_V q2081 q2083 qs84 q131 q2084) hcee_X7_pack rfl (by decide) hM.1 rfl rfl rfl (Nat.le_of_ble_eq_true rfl) (Nat.le_refl _) (Nat.le_refl _) ?_
      refine z_bipush (n := 48) (v := 30) dX7_counted_46 rfl (by decide) ?_
      refine z_istore_nE (n := 49) (lv' := [(3, .int 30), (0, .ref 1860), (1, .int a0), (2, .int a1)]) dX7_counted_48 rfl rfl rfl (by decide) rfl ?_
      refine z_sub [1, 2, 3, 0] rfl ?_
      rcases zs1_some hF with ⟨t_22, e_20, hF⟩ | ⟨t_22, e_20, hF⟩
      · skip
        obtain ⟨I_19, rfl⟩ : ∃ z, z = t_22 := ⟨_, rfl⟩
        have H_23 : zW l G MX7_counted 7 158 0 0 77 [] [] K F I_19 L (zQe (.inl (some (.int r.1))) K F r.2 L) := by
          refine z_iconst (n := 78) (v := (-1)) dX7_counted_77 rfl (by decide) ?_
          have hF := Option.some.inj hF; subst hF
          exact z_iret dX7_counted_78 rfl rfl ⟨rfl, rfl, rfl, rfl, rfl⟩
        refine zloop_ind (P := fun s : Int32 × zId => zW l G MX7_counted 7 158 0 0 49 [(0, .ref 1860), (1, .int a0), (2, .int a1), (3, .int s.1)] [] K F s.2 L (zQe (.inl (some (.int r.1))) K F r.2 L)) (fun s r hb kl kr => ?_) e_20
        exact W_X7_counted_L49 (a0 := a0) (a1 := a1) htr hM hb (fun z0 z1 e => kl _ e) (fun y0 e => by cases kr _ e; exact H_23) (fun z e => by cases kr _ e)
      · skip
        refine zloop_ind (P := fun s : Int32 × zId => zW l G MX7_counted 7 158 0 0 49 [(0, .ref 1860), (1, .int a0), (2, .int a1), (3, .int s.1)] [] K F s.2 L (zQe (.inl (some (.int r.1))) K F r.2 L)) (fun s r hb kl kr => ?_) e_20
        have hF := Option.some.inj hF; subst hF
        exact W_X7_counted_L49 (a0 := a0) (a1 := a1) htr hM hb (fun z0 z1 e => kl _ e) (fun y0 e => by cases kr _ e) (fun z e => by cases kr _ e; exact ⟨rfl, rfl, rfl, rfl, rfl⟩)
    · replace hF := (if_neg hc).symm.trans hF
      refine z_aload_n (n := 32) dX7_counted_31 rfl 0 rfl rfl ?_
      refine z_iconst (n := 33) (v := 2) dX7_counted_32 rfl (by decide) ?_
      obtain ⟨x_25, I_26, c_24, hF⟩ := zb2_some hF
      refine z_cV (n := 36) (st := []) (C_X7_fail htr hM c_24) dX7_counted_33 rfl (lw_V q1879 q1881 qs48 q131 q1882) hcee_X7_fail rfl (by decide) hM.1 rfl rfl rfl (Nat.le_of_ble_eq_true rfl) (Nat.le_refl _) (Nat.le_refl _) ?_
      have hF := Option.some.inj hF; subst hF
      exact z_iret dX7_counted_36 rfl rfl ⟨rfl, rfl, rfl, rfl, rfl⟩
  · replace hF := (if_neg hc).symm.trans hF
    refine z_aload_n (n := 14) dX7_counted_13 rfl 0 rfl rfl ?_
    refine z_iconst (n := 15) (v := 1) dX7_counted_14 rfl (by decide) ?_
    obtain ⟨x_28, I_29, c_27, hF⟩ := zb2_some hF
    refine z_cV (n := 18) (st := []) (C_X7_fail htr hM c_27) dX7_counted_15 rfl (lw_V q1879 q1881 qs48 q131 q1882) hcee_X7_fail rfl (by decide) hM.1 rfl rfl rfl (Nat.le_of_ble_eq_true rfl) (Nat.le_refl _) (Nat.le_refl _) ?_
    have hF := Option.some.inj hF; subst hF
    exact z_iret dX7_counted_18 rfl rfl ⟨rfl, rfl, rfl, rfl, rfl⟩
theorem fX7_114 : zFld RX7 114 6 46 := ⟨_, rfl, by decide, _, Or.inl q1723, Or.inl rfl⟩
theorem fX7_117 : zFld RX7 117 6 47 := ⟨_, rfl, by decide, _, Or.inl q1724, Or.inl rfl⟩
theorem fX7_120 : zFld RX7 120 6 48 := ⟨_, rfl, by decide, _, Or.inl q1725, Or.inl rfl⟩
abbrev MX7_spy : zM := (RX7, cX7_spy, 4, (some .int), "spy", [])
noncomputable def F_X7_spy (a0 : Int32) (a1 : Int32) (a2 : Int32) (I : zId) : Option (Int32 × zId) := zlet (zu I 1860 1 0) (fun I_1 => zb1 (F_X7_isBand a0 I_1) (fun x_4 => if ¬ x_4 = 0 then if (I_1 1860 38) = 8 then zb2 (F_X7_refuse 2 I_1) (fun x_6 I_7 => some (x_6, I_7)) else zb1 (F_X7_isIn a1.toInt64 0 20 I_1) (fun x_9 => if x_9 = 0 then zb2 (F_X7_refuse 2 I_1) (fun x_11 I_12 => some (x_11, I_12)) else zb1 (F_X7_isIn a2.toInt64 0 9999 I_1) (fun x_14 => if ¬ x_14 = 0 then zg (zin (I_1 1860 38) 8) (zlet (zu I_1 1890 ((I_1 1860 38).toNatClampNeg) a0) (fun I_16 => zg (zin (I_16 1860 38) 8) (zlet (zu I_16 1891 ((I_16 1860 38).toNatClampNeg) a1) (fun I_19 => zg (zin (I_19 1860 38) 8) (zlet (zu I_19 1892 ((I_19 1860 38).toNatClampNeg) a2) (fun I_22 => zlet (zu I_22 1860 38 ((I_22 1860 38) + 1)) (fun I_24 => some (I_24 1860 38, I_24)))))))) else zb2 (F_X7_refuse 2 I_1) (fun x_27 I_28 => some (x_27, I_28)))) else zb2 (F_X7_fail 1 I_1) (fun x_30 I_31 => some (x_30, I_31))))
set_option maxHeartbeats 1000000 in
theorem C_X7_spy {l : Launch} {G : zGt} (htr : l.stackTraces = false) {K : zKd} {F : zFd} {L : zLd} {a0 : Int32} {a1 : Int32} {a2 : Int32} (hM : zMLay K F) {I : zId} {r : Int32 × zId} (hF : F_X7_spy a0 a1 a2 I = some r) : zMet l G yX7_spy (ws_ yX7_spy cX7_spy 4 (some .int)) 2 46 0 0 [.ref 1860, .int a0, .int a1, .int a2] K F I L (zQe (.inl (some (.int r.1))) K F r.2 L) := by
  refine zMet.of (by decide +kernel) htr (Nat.le_of_ble_eq_true rfl) ?_
  change zW l G MX7_spy 2 46 0 0 0 [(0, .ref 1860), (1, .int a0), (2, .int a1), (3, .int a2)] [] K F I L (zQe (.inl (some (.int r.1))) K F r.2 L)
  unfold F_X7_spy at hF
  refine z_aload_n (n := 1) dX7_spy_0 rfl 0 rfl rfl ?_
  refine z_iconst (n := 2) (v := 0) dX7_spy_1 rfl (by decide) ?_
  obtain ⟨I_1, e_2, hF⟩ := zlet_ob hF
  refine z_putIE (n := 5) dX7_spy_2 rfl zok6 fX7_150 (Or.inl ⟨_, rfl, rfl⟩) rfl ⟨rfl, rfl⟩ hM.1 (by decide) e_2 ?_
  refine z_aload_n (n := 6) dX7_spy_5 rfl 0 rfl rfl ?_
  refine z_iload_n (n := 7) dX7_spy_6 rfl 1 rfl rfl ?_
  obtain ⟨x_4, c_3, hF⟩ := zb1_some hF
  refine z_cV (n := 10) (st := []) (C_X7_isBand htr hM c_3) dX7_spy_7 rfl (lw_V q2045 q2047 qs78 q131 q2048) hcee_X7_isBand rfl (by decide) hM.1 rfl rfl rfl (Nat.le_of_ble_eq_true rfl) (Nat.le_refl _) (Nat.le_refl _) ?_
  refine z_if_ne (n := 13) (t := 19) dX7_spy_10 rfl (by decide) (fun hc => ?_) (fun hc => ?_)
  · replace hF := (if_pos hc).symm.trans hF
    refine z_aload_n (n := 20) dX7_spy_19 rfl 0 rfl rfl ?_
    refine z_getI (n := 23) dX7_spy_20 rfl zok6 fX7_327 rfl hM.1 (Or.inl (by decide)) ?_
    refine z_bipush (n := 25) (v := 8) dX7_spy_23 rfl (by decide) ?_
    refine z_icmp_eq (n := 28) (t := 52) dX7_spy_25 rfl (by decide) (fun hc => ?_) (fun hc => ?_)
    · replace hF := (if_pos hc).symm.trans hF
      refine z_aload_n (n := 53) dX7_spy_52 rfl 0 rfl rfl ?_
      refine z_iconst (n := 54) (v := 2) dX7_spy_53 rfl (by decide) ?_
      obtain ⟨x_6, I_7, c_5, hF⟩ := zb2_some hF
      refine z_cV (n := 57) (st := []) (C_X7_refuse htr hM c_5) dX7_spy_54 rfl (lw_V q2073 q2075 qs82 q131 q2076) hcee_X7_refuse rfl (by decide) hM.1 rfl rfl rfl (Nat.le_of_ble_eq_true rfl) (Nat.le_refl _) (Nat.le_refl _) ?_
      have hF := Option.some.inj hF; subst hF
      exact z_iret dX7_spy_57 rfl rfl ⟨rfl, rfl, rfl, rfl, rfl⟩
    · replace hF := (if_neg hc).symm.trans hF
      refine z_iload_n (n := 29) dX7_spy_28 rfl 2 rfl rfl ?_
      refine z_i2l (n := 30) dX7_spy_29 rfl ?_
      refine z_lconst (n := 31) (v := 0) dX7_spy_30 rfl (by decide) ?_
      refine z_ldc2 (n := 34) dX7_spy_31 rfl q2219 ?_
      obtain ⟨x_9, c_8, hF⟩ := zb1_some hF
      refine z_cS (n := 37) (st := []) (C_X7_isIn htr c_8) dX7_spy_34 rfl (lw_S q2030 q2031 q131 q2032) hcee_X7_isIn rfl (by decide) rfl (Nat.le_of_ble_eq_true rfl) (Nat.le_refl _) (Nat.le_refl _) ?_
      refine z_if_eq (n := 40) (t := 52) dX7_spy_37 rfl (by decide) (fun hc => ?_) (fun hc => ?_)
      · replace hF := (if_pos hc).symm.trans hF
        refine z_aload_n (n := 53) dX7_spy_52 rfl 0 rfl rfl ?_
        refine z_iconst (n := 54) (v := 2) dX7_spy_53 rfl (by decide) ?_
        obtain ⟨x_11, I_12, c_10, hF⟩ := zb2_some hF
        refine z_cV (n := 57) (st := []) (C_X7_refuse htr hM c_10) dX7_spy_54 rfl (lw_V q2073 q2075 qs82 q131 q2076) hcee_X7_refuse rfl (by decide) hM.1 rfl rfl rfl (Nat.le_of_ble_eq_true rfl) (Nat.le_refl _) (Nat.le_refl _) ?_
        have hF := Option.some.inj hF; subst hF
        exact z_iret dX7_spy_57 rfl rfl ⟨rfl, rfl, rfl, rfl, rfl⟩
      · replace hF := (if_neg hc).symm.trans hF
        refine z_iload_n (n := 41) dX7_spy_40 rfl 3 rfl rfl ?_
        refine z_i2l (n := 42) dX7_spy_41 rfl ?_
        refine z_lconst (n := 43) (v := 0) dX7_spy_42 rfl (by decide) ?_
        refine z_ldc2 (n := 46) dX7_spy_43 rfl q2232 ?_
        obtain ⟨x_14, c_13, hF⟩ := zb1_some hF
        refine z_cS (n := 49) (st := []) (C_X7_isIn htr c_13) dX7_spy_46 rfl (lw_S q2030 q2031 q131 q2032) hcee_X7_isIn rfl (by decide) rfl (Nat.le_of_ble_eq_true rfl) (Nat.le_refl _) (Nat.le_refl _) ?_
        refine z_if_ne (n := 52) (t := 58) dX7_spy_49 rfl (by decide) (fun hc => ?_) (fun hc => ?_)
        · replace hF := (if_pos hc).symm.trans hF
          refine z_aload_n (n := 59) dX7_spy_58 rfl 0 rfl rfl ?_
          refine z_getRS (n := 62) dX7_spy_59 rfl zok6 fX7_114 rfl hM.1 (Or.inl (by decide)) (mF_46 hM) ?_
          refine z_aload_n (n := 63) dX7_spy_62 rfl 0 rfl rfl ?_
          refine z_getI (n := 66) dX7_spy_63 rfl zok6 fX7_327 rfl hM.1 (Or.inl (by decide)) ?_
          refine z_iload_n (n := 67) dX7_spy_66 rfl 1 rfl rfl ?_
          obtain ⟨h_15, hF⟩ := zg_some hF
          obtain ⟨I_16, e_17, hF⟩ := zlet_ob hF
          refine z_iastK (n := 68) ((I_1 1860 38).toNatClampNeg) rfl dX7_spy_67 rfl (mK_46 hM) (by decide) (zin_ok h_15) e_17 ?_
          refine z_aload_n (n := 69) dX7_spy_68 rfl 0 rfl rfl ?_
          refine z_getRS (n := 72) dX7_spy_69 rfl zok6 fX7_117 rfl hM.1 (Or.inl (by decide)) (mF_47 hM) ?_
          refine z_aload_n (n := 73) dX7_spy_72 rfl 0 rfl rfl ?_
          refine z_getI (n := 76) dX7_spy_73 rfl zok6 fX7_327 rfl hM.1 (Or.inl (by decide)) ?_
          refine z_iload_n (n := 77) dX7_spy_76 rfl 2 rfl rfl ?_
          obtain ⟨h_18, hF⟩ := zg_some hF
          obtain ⟨I_19, e_20, hF⟩ := zlet_ob hF
          refine z_iastK (n := 78) ((I_16 1860 38).toNatClampNeg) rfl dX7_spy_77 rfl (mK_47 hM) (by decide) (zin_ok h_18) e_20 ?_
          refine z_aload_n (n := 79) dX7_spy_78 rfl 0 rfl rfl ?_
          refine z_getRS (n := 82) dX7_spy_79 rfl zok6 fX7_120 rfl hM.1 (Or.inl (by decide)) (mF_48 hM) ?_
          refine z_aload_n (n := 83) dX7_spy_82 rfl 0 rfl rfl ?_
          refine z_getI (n := 86) dX7_spy_83 rfl zok6 fX7_327 rfl hM.1 (Or.inl (by decide)) ?_
          refine z_iload_n (n := 87) dX7_spy_86 rfl 3 rfl rfl ?_
          obtain ⟨h_21, hF⟩ := zg_some hF
          obtain ⟨I_22, e_23, hF⟩ := zlet_ob hF
          refine z_iastK (n := 88) ((I_19 1860 38).toNatClampNeg) rfl dX7_spy_87 rfl (mK_48 hM) (by decide) (zin_ok h_21) e_23 ?_
          refine z_aload_n (n := 89) dX7_spy_88 rfl 0 rfl rfl ?_
          refine z_dup (n := 90) dX7_spy_89 rfl rfl ?_
          refine z_getI (n := 93) dX7_spy_90 rfl zok6 fX7_327 rfl hM.1 (Or.inl (by decide)) ?_
          refine z_iconst (n := 94) (v := 1) dX7_spy_93 rfl (by decide) ?_
          refine z_iadd (n := 95) dX7_spy_94 rfl ?_
          obtain ⟨I_24, e_25, hF⟩ := zlet_ob hF
          refine z_putIE (n := 98) dX7_spy_95 rfl zok6 fX7_327 (Or.inl ⟨_, rfl, rfl⟩) rfl ⟨rfl, rfl⟩ hM.1 (by decide) e_25 ?_
          refine z_aload_n (n := 99) dX7_spy_98 rfl 0 rfl rfl ?_
          refine z_getI (n := 102) dX7_spy_99 rfl zok6 fX7_327 rfl hM.1 (Or.inl (by decide)) ?_
          have hF := Option.some.inj hF; subst hF
          exact z_iret dX7_spy_102 rfl rfl ⟨rfl, rfl, rfl, rfl, rfl⟩
        · replace hF := (if_neg hc).symm.trans hF
          refine z_aload_n (n := 53) dX7_spy_52 rfl 0 rfl rfl ?_
          refine z_iconst (n := 54) (v := 2) dX7_spy_53 rfl (by decide) ?_
          obtain ⟨x_27, I_28, c_26, hF⟩ := zb2_some hF
          refine z_cV (n := 57) (st := []) (C_X7_refuse htr hM c_26) dX7_spy_54 rfl (lw_V q2073 q2075 qs82 q131 q2076) hcee_X7_refuse rfl (by decide) hM.1 rfl rfl rfl (Nat.le_of_ble_eq_true rfl) (Nat.le_refl _) (Nat.le_refl _) ?_
          have hF := Option.some.inj hF; subst hF
          exact z_iret dX7_spy_57 rfl rfl ⟨rfl, rfl, rfl, rfl, rfl⟩
  · replace hF := (if_neg hc).symm.trans hF
    refine z_aload_n (n := 14) dX7_spy_13 rfl 0 rfl rfl ?_
    refine z_iconst (n := 15) (v := 1) dX7_spy_14 rfl (by decide) ?_
    obtain ⟨x_30, I_31, c_29, hF⟩ := zb2_some hF
    refine z_cV (n := 18) (st := []) (C_X7_fail htr hM c_29) dX7_spy_15 rfl (lw_V q1879 q1881 qs48 q131 q1882) hcee_X7_fail rfl (by decide) hM.1 rfl rfl rfl (Nat.le_of_ble_eq_true rfl) (Nat.le_refl _) (Nat.le_refl _) ?_
    have hF := Option.some.inj hF; subst hF
    exact z_iret dX7_spy_18 rfl rfl ⟨rfl, rfl, rfl, rfl, rfl⟩
theorem fX7_123 : zFld RX7 123 6 49 := ⟨_, rfl, by decide, _, Or.inl q1726, Or.inl rfl⟩
abbrev MX7_isAsSpied : zM := (RX7, cX7_isAsSpied, 4, (some .boolean), "isAsSpied", [])
noncomputable def F_X7_isAsSpied_L25 (v2_4 : Int32) (I_5 : zId) (v1_6 : Int32) (v3_7 : Int32) : Option ((Int32 × Int32) ⊕ (Int32)) := if (I_5 1860 38) ≤ v3_7 then some (.inr (v1_6)) else if v1_6 = 0 then zlet (v3_7 + 1) (fun v3_8 => some (.inl (0, v3_8))) else zg (zin v3_7 8) (if ¬ (I_5 1891 v3_7.toNatClampNeg) = v2_4 then zlet (v3_7 + 1) (fun v3_11 => some (.inl (1, v3_11))) else zg (zin v3_7 8) (zg (zin (I_5 1890 v3_7.toNatClampNeg) 6) (zg (zin v3_7 8) (if ¬ (I_5 1880 ((I_5 1890 v3_7.toNatClampNeg).toNatClampNeg)) = (I_5 1892 v3_7.toNatClampNeg) then zlet (v3_7 + 1) (fun v3_16 => some (.inl (0, v3_16))) else zlet (v3_7 + 1) (fun v3_18 => some (.inl (1, v3_18)))))))
noncomputable def F_X7_isAsSpied_L13 (v1_3 : Int32) (v2_4 : Int32) (I_5 : zId) : Option ((Int32 × Int32 × zId) ⊕ (Int32 × zId)) := if 20 < v2_4 then some (.inr ((v1_3, I_5))) else if v1_3 = 0 then some (.inr ((v1_3, I_5))) else zb1 (zloop (fun s : Int32 × Int32 => F_X7_isAsSpied_L25 v2_4 I_5 s.1 s.2) (v1_3, 0)) (fun v1_20 => zb1 (F_X7_aYear I_5) (fun I_23 => zlet (v2_4 + 1) (fun v2_24 => some (.inl (v1_20, v2_24, I_23)))))
noncomputable def F_X7_isAsSpied (I : zId) : Option (Int32 × zId) := zb1 (F_X7_pack 1893 57 0 I) (fun I_2 => zb1 (zloop (fun s : Int32 × Int32 × zId => F_X7_isAsSpied_L13 s.1 s.2.1 s.2.2) (1, 0, I_2)) (zn2 (fun v1_28 I_29 => zb1 (F_X7_unpack 1893 57 0 I_29) (fun I_32 => zg (decide (v1_28 = 0) || decide (v1_28 = 1)) (some (v1_28, I_32))))))
set_option maxHeartbeats 1000000 in
theorem W_X7_isAsSpied_L25 {l : Launch} {G : zGt} (htr : l.stackTraces = false) {K : zKd} {F : zFd} {L : zLd} {Q : zQt} {v2_4 : Int32} {I_5 : zId} {v1_6 : Int32} {v3_7 : Int32} (hM : zMLay K F) {r : (Int32 × Int32) ⊕ (Int32)} (hF : F_X7_isAsSpied_L25 v2_4 I_5 v1_6 v3_7 = some r) (kl : ∀ (z0 : Int32) (z1 : Int32), r = .inl (z0, z1) → zW l G MX7_isAsSpied 5 113 0 0 25 [(0, .ref 1860), (1, .int z0), (2, .int v2_4), (3, .int z1)] [] K F I_5 L Q) (kx : ∀ (y0 : Int32), r = .inr y0 → zW l G MX7_isAsSpied 5 113 0 0 79 [(0, .ref 1860), (1, .int y0), (2, .int v2_4)] [] K F I_5 L Q)  : zW l G MX7_isAsSpied 5 113 0 0 25 [(0, .ref 1860), (1, .int v1_6), (2, .int v2_4), (3, .int v3_7)] [] K F I_5 L Q := by
  unfold F_X7_isAsSpied_L25 at hF
  refine z_iload_n (n := 26) dX7_isAsSpied_25 rfl 3 rfl rfl ?_
  refine z_aload_n (n := 27) dX7_isAsSpied_26 rfl 0 rfl rfl ?_
  refine z_getI (n := 30) dX7_isAsSpied_27 rfl zok6 fX7_327 rfl hM.1 (Or.inl (by decide)) ?_
  refine z_icmp_ge (n := 33) (t := 79) dX7_isAsSpied_30 rfl (by decide) (fun hc => ?_) (fun hc => ?_)
  · replace hF := (if_pos hc).symm.trans hF
    refine z_sub [0, 1, 2] rfl ?_
    have hF := Option.some.inj hF; subst hF
    exact kx _ rfl
  · replace hF := (if_neg hc).symm.trans hF
    refine z_iload_n (n := 34) dX7_isAsSpied_33 rfl 1 rfl rfl ?_
    refine z_if_eq (n := 37) (t := 71) dX7_isAsSpied_34 rfl (by decide) (fun hc => ?_) (fun hc => ?_)
    · replace hF := (if_pos hc).symm.trans hF
      refine z_iconst (n := 72) (v := 0) dX7_isAsSpied_71 rfl (by decide) ?_
      refine z_istore_nE (n := 73) (lv' := [(1, .int 0), (0, .ref 1860), (2, .int v2_4), (3, .int v3_7)]) dX7_isAsSpied_72 rfl rfl rfl (by decide) rfl ?_
      obtain ⟨v3_8, e_9, hF⟩ := zlet_ob hF
      refine z_iincE (n := 76) (w := 1) (v := v3_8) (lv' := [(3, .int v3_8), (1, .int 0), (0, .ref 1860), (2, .int v2_4)]) dX7_isAsSpied_73 rfl 3 rfl (by decide) e_9 (by decide) rfl ?_
      refine z_goto (t := 25) dX7_isAsSpied_76 (by decide) ?_
      refine z_sub [2, 1, 3, 0] rfl ?_
      have hF := Option.some.inj hF; subst hF
      exact kl _ _ rfl
    · replace hF := (if_neg hc).symm.trans hF
      refine z_aload_n (n := 38) dX7_isAsSpied_37 rfl 0 rfl rfl ?_
      refine z_getRS (n := 41) dX7_isAsSpied_38 rfl zok6 fX7_117 rfl hM.1 (Or.inl (by decide)) (mF_47 hM) ?_
      refine z_iload_n (n := 42) dX7_isAsSpied_41 rfl 3 rfl rfl ?_
      obtain ⟨h_10, hF⟩ := zg_some hF
      refine z_ialdK (n := 43) v3_7.toNatClampNeg rfl dX7_isAsSpied_42 rfl (mK_47 hM) (zin_ok h_10) ?_
      refine z_iload_n (n := 44) dX7_isAsSpied_43 rfl 2 rfl rfl ?_
      refine z_icmp_ne (n := 47) (t := 67) dX7_isAsSpied_44 rfl (by decide) (fun hc => ?_) (fun hc => ?_)
      · replace hF := (if_pos hc).symm.trans hF
        refine z_iconst (n := 68) (v := 1) dX7_isAsSpied_67 rfl (by decide) ?_
        refine z_goto (t := 72) dX7_isAsSpied_68 (by decide) ?_
        refine z_istore_nE (n := 73) (lv' := [(1, .int 1), (0, .ref 1860), (2, .int v2_4), (3, .int v3_7)]) dX7_isAsSpied_72 rfl rfl rfl (by decide) rfl ?_
        obtain ⟨v3_11, e_12, hF⟩ := zlet_ob hF
        refine z_iincE (n := 76) (w := 1) (v := v3_11) (lv' := [(3, .int v3_11), (1, .int 1), (0, .ref 1860), (2, .int v2_4)]) dX7_isAsSpied_73 rfl 3 rfl (by decide) e_12 (by decide) rfl ?_
        refine z_goto (t := 25) dX7_isAsSpied_76 (by decide) ?_
        refine z_sub [2, 1, 3, 0] rfl ?_
        have hF := Option.some.inj hF; subst hF
        exact kl _ _ rfl
      · replace hF := (if_neg hc).symm.trans hF
        refine z_aload_n (n := 48) dX7_isAsSpied_47 rfl 0 rfl rfl ?_
        refine z_getRS (n := 51) dX7_isAsSpied_48 rfl zok6 fX7_86 rfl hM.1 (Or.inl (by decide)) (mF_30 hM) ?_
        refine z_aload_n (n := 52) dX7_isAsSpied_51 rfl 0 rfl rfl ?_
        refine z_getRS (n := 55) dX7_isAsSpied_52 rfl zok6 fX7_114 rfl hM.1 (Or.inl (by decide)) (mF_46 hM) ?_
        refine z_iload_n (n := 56) dX7_isAsSpied_55 rfl 3 rfl rfl ?_
        obtain ⟨h_13, hF⟩ := zg_some hF
        refine z_ialdK (n := 57) v3_7.toNatClampNeg rfl dX7_isAsSpied_56 rfl (mK_46 hM) (zin_ok h_13) ?_
        obtain ⟨h_14, hF⟩ := zg_some hF
        refine z_ialdK (n := 58) ((I_5 1890 v3_7.toNatClampNeg).toNatClampNeg) rfl dX7_isAsSpied_57 rfl (mK_30 hM) (zin_ok h_14) ?_
        refine z_aload_n (n := 59) dX7_isAsSpied_58 rfl 0 rfl rfl ?_
        refine z_getRS (n := 62) dX7_isAsSpied_59 rfl zok6 fX7_120 rfl hM.1 (Or.inl (by decide)) (mF_48 hM) ?_
        refine z_iload_n (n := 63) dX7_isAsSpied_62 rfl 3 rfl rfl ?_
        obtain ⟨h_15, hF⟩ := zg_some hF
        refine z_ialdK (n := 64) v3_7.toNatClampNeg rfl dX7_isAsSpied_63 rfl (mK_48 hM) (zin_ok h_15) ?_
        refine z_icmp_ne (n := 67) (t := 71) dX7_isAsSpied_64 rfl (by decide) (fun hc => ?_) (fun hc => ?_)
        · replace hF := (if_pos hc).symm.trans hF
          refine z_iconst (n := 72) (v := 0) dX7_isAsSpied_71 rfl (by decide) ?_
          refine z_istore_nE (n := 73) (lv' := [(1, .int 0), (0, .ref 1860), (2, .int v2_4), (3, .int v3_7)]) dX7_isAsSpied_72 rfl rfl rfl (by decide) rfl ?_
          obtain ⟨v3_16, e_17, hF⟩ := zlet_ob hF
          refine z_iincE (n := 76) (w := 1) (v := v3_16) (lv' := [(3, .int v3_16), (1, .int 0), (0, .ref 1860), (2, .int v2_4)]) dX7_isAsSpied_73 rfl 3 rfl (by decide) e_17 (by decide) rfl ?_
          refine z_goto (t := 25) dX7_isAsSpied_76 (by decide) ?_
          refine z_sub [2, 1, 3, 0] rfl ?_
          have hF := Option.some.inj hF; subst hF
          exact kl _ _ rfl
        · replace hF := (if_neg hc).symm.trans hF
          refine z_iconst (n := 68) (v := 1) dX7_isAsSpied_67 rfl (by decide) ?_
          refine z_goto (t := 72) dX7_isAsSpied_68 (by decide) ?_
          refine z_istore_nE (n := 73) (lv' := [(1, .int 1), (0, .ref 1860), (2, .int v2_4), (3, .int v3_7)]) dX7_isAsSpied_72 rfl rfl rfl (by decide) rfl ?_
          obtain ⟨v3_18, e_19, hF⟩ := zlet_ob hF
          refine z_iincE (n := 76) (w := 1) (v := v3_18) (lv' := [(3, .int v3_18), (1, .int 1), (0, .ref 1860), (2, .int v2_4)]) dX7_isAsSpied_73 rfl 3 rfl (by decide) e_19 (by decide) rfl ?_
          refine z_goto (t := 25) dX7_isAsSpied_76 (by decide) ?_
          refine z_sub [2, 1, 3, 0] rfl ?_
          have hF := Option.some.inj hF; subst hF
          exact kl _ _ rfl
set_option maxHeartbeats 1000000 in
theorem W_X7_isAsSpied_L13 {l : Launch} {G : zGt} (htr : l.stackTraces = false) {K : zKd} {F : zFd} {L : zLd} {Q : zQt} {v1_3 : Int32} {v2_4 : Int32} {I_5 : zId} (hM : zMLay K F) {r : (Int32 × Int32 × zId) ⊕ (Int32 × zId)} (hF : F_X7_isAsSpied_L13 v1_3 v2_4 I_5 = some r) (kl : ∀ (z0 : Int32) (z1 : Int32) (z2 : zId), r = .inl (z0, z1, z2) → zW l G MX7_isAsSpied 5 113 0 0 13 [(0, .ref 1860), (1, .int z0), (2, .int z1)] [] K F z2 L Q) (kx : ∀ (y0 : Int32) (y1 : zId), r = .inr (y0, y1) → zW l G MX7_isAsSpied 5 113 0 0 89 [(0, .ref 1860), (1, .int y0)] [] K F y1 L Q)  : zW l G MX7_isAsSpied 5 113 0 0 13 [(0, .ref 1860), (1, .int v1_3), (2, .int v2_4)] [] K F I_5 L Q := by
  unfold F_X7_isAsSpied_L13 at hF
  refine z_iload_n (n := 14) dX7_isAsSpied_13 rfl 2 rfl rfl ?_
  refine z_bipush (n := 16) (v := 20) dX7_isAsSpied_14 rfl (by decide) ?_
  refine z_icmp_gt (n := 19) (t := 89) dX7_isAsSpied_16 rfl (by decide) (fun hc => ?_) (fun hc => ?_)
  · replace hF := (if_pos hc).symm.trans hF
    refine z_sub [0, 1] rfl ?_
    have hF := Option.some.inj hF; subst hF
    exact kx _ _ rfl
  · replace hF := (if_neg hc).symm.trans hF
    refine z_iload_n (n := 20) dX7_isAsSpied_19 rfl 1 rfl rfl ?_
    refine z_if_eq (n := 23) (t := 89) dX7_isAsSpied_20 rfl (by decide) (fun hc => ?_) (fun hc => ?_)
    · replace hF := (if_pos hc).symm.trans hF
      refine z_sub [0, 1] rfl ?_
      have hF := Option.some.inj hF; subst hF
      exact kx _ _ rfl
    · replace hF := (if_neg hc).symm.trans hF
      refine z_iconst (n := 24) (v := 0) dX7_isAsSpied_23 rfl (by decide) ?_
      refine z_istore_nE (n := 25) (lv' := [(3, .int 0), (0, .ref 1860), (1, .int v1_3), (2, .int v2_4)]) dX7_isAsSpied_24 rfl rfl rfl (by decide) rfl ?_
      refine z_sub [1, 2, 3, 0] rfl ?_
      obtain ⟨t_26, e_21, hF⟩ := zb1_some hF
      obtain ⟨v1_20, rfl⟩ : ∃ z, z = t_26 := ⟨_, rfl⟩
      have H_27 : zW l G MX7_isAsSpied 5 113 0 0 79 [(0, .ref 1860), (1, .int v1_20), (2, .int v2_4)] [] K F I_5 L Q := by
        refine z_aload_n (n := 80) dX7_isAsSpied_79 rfl 0 rfl rfl ?_
        obtain ⟨I_23, c_22, hF⟩ := zb1_some hF
        refine z_cV (n := 83) (st := []) (C_X7_aYear htr hM c_22) dX7_isAsSpied_80 rfl (lw_V q2089 q2091 qs86 q131 q2092) hcee_X7_aYear rfl (by decide) hM.1 rfl rfl rfl (Nat.le_of_ble_eq_true rfl) (Nat.le_refl _) (Nat.le_refl _) ?_
        obtain ⟨v2_24, e_25, hF⟩ := zlet_ob hF
        refine z_iincE (n := 86) (w := 1) (v := v2_24) (lv' := [(2, .int v2_24), (0, .ref 1860), (1, .int v1_20)]) dX7_isAsSpied_83 rfl 2 rfl (by decide) e_25 (by decide) rfl ?_
        refine z_goto (t := 13) dX7_isAsSpied_86 (by decide) ?_
        refine z_sub [1, 2, 0] rfl ?_
        have hF := Option.some.inj hF; subst hF
        exact kl _ _ _ rfl
      refine zloop_ind (P := fun s : Int32 × Int32 => zW l G MX7_isAsSpied 5 113 0 0 25 [(0, .ref 1860), (1, .int s.1), (2, .int v2_4), (3, .int s.2)] [] K F I_5 L Q) (fun s r hb kl kr => ?_) e_21
      exact W_X7_isAsSpied_L25 htr hM hb (fun z0 z1 e => kl _ e) (fun y0 e => by cases kr _ e; exact H_27)
set_option maxHeartbeats 1000000 in
theorem C_X7_isAsSpied {l : Launch} {G : zGt} (htr : l.stackTraces = false) {K : zKd} {F : zFd} {L : zLd} (hM : zMLay K F) {I : zId} {r : Int32 × zId} (hF : F_X7_isAsSpied I = some r) : zMet l G yX7_isAsSpied (ws_ yX7_isAsSpied cX7_isAsSpied 4 (some .boolean)) 5 113 0 0 [.ref 1860] K F I L (zQe (.inl (some (.int r.1))) K F r.2 L) := by
  refine zMet.of (by decide +kernel) htr (Nat.le_of_ble_eq_true rfl) ?_
  change zW l G MX7_isAsSpied 5 113 0 0 0 [(0, .ref 1860)] [] K F I L (zQe (.inl (some (.int r.1))) K F r.2 L)
  unfold F_X7_isAsSpied at hF
  refine z_aload_n (n := 1) dX7_isAsSpied_0 rfl 0 rfl rfl ?_
  refine z_aload_n (n := 2) dX7_isAsSpied_1 rfl 0 rfl rfl ?_
  refine z_getRS (n := 5) dX7_isAsSpied_2 rfl zok6 fX7_123 rfl hM.1 (Or.inl (by decide)) (mF_49 hM) ?_
  refine z_iconst (n := 6) (v := 0) dX7_isAsSpied_5 rfl (by decide) ?_
  obtain ⟨I_2, c_1, hF⟩ := zb1_some hF
  refine z_cV (n := 9) (st := []) (C_X7_pack htr hM (mK_49 hM) (by decide) c_1) dX7_isAsSpied_6 rfl (lw_V q2081 q2083 qs84 q131 q2084) hcee_X7_pack rfl (by decide) hM.1 rfl rfl rfl (Nat.le_of_ble_eq_true rfl) (Nat.le_refl _) (Nat.le_refl _) ?_
  refine z_iconst (n := 10) (v := 1) dX7_isAsSpied_9 rfl (by decide) ?_
  refine z_istore_nE (n := 11) (lv' := [(1, .int 1), (0, .ref 1860)]) dX7_isAsSpied_10 rfl rfl rfl (by decide) rfl ?_
  refine z_iconst (n := 12) (v := 0) dX7_isAsSpied_11 rfl (by decide) ?_
  refine z_istore_nE (n := 13) (lv' := [(2, .int 0), (1, .int 1), (0, .ref 1860)]) dX7_isAsSpied_12 rfl rfl rfl (by decide) rfl ?_
  refine z_sub [2, 1, 0] rfl ?_
  obtain ⟨t_34, e_30, hF⟩ := zb1_some hF
  obtain ⟨v1_28, I_29⟩ := t_34
  dsimp only [zn2] at hF
  have H_35 : zW l G MX7_isAsSpied 5 113 0 0 89 [(0, .ref 1860), (1, .int v1_28)] [] K F I_29 L (zQe (.inl (some (.int r.1))) K F r.2 L) := by
    refine z_aload_n (n := 90) dX7_isAsSpied_89 rfl 0 rfl rfl ?_
    refine z_aload_n (n := 91) dX7_isAsSpied_90 rfl 0 rfl rfl ?_
    refine z_getRS (n := 94) dX7_isAsSpied_91 rfl zok6 fX7_123 rfl hM.1 (Or.inl (by decide)) (mF_49 hM) ?_
    refine z_iconst (n := 95) (v := 0) dX7_isAsSpied_94 rfl (by decide) ?_
    obtain ⟨I_32, c_31, hF⟩ := zb1_some hF
    refine z_cV (n := 98) (st := []) (C_X7_unpack htr hM (mK_49 hM) (by decide) c_31) dX7_isAsSpied_95 rfl (lw_V q2135 q2137 qs91 q131 q2138) hcee_X7_unpack rfl (by decide) hM.1 rfl rfl rfl (Nat.le_of_ble_eq_true rfl) (Nat.le_refl _) (Nat.le_refl _) ?_
    refine z_iload_n (n := 99) dX7_isAsSpied_98 rfl 1 rfl rfl ?_
    obtain ⟨h_33, hF⟩ := zg_some hF
    have hF := Option.some.inj hF; subst hF
    exact z_iret dX7_isAsSpied_99 rfl (zbool_nar h_33) ⟨rfl, rfl, rfl, rfl, rfl⟩
  refine zloop_ind (P := fun s : Int32 × Int32 × zId => zW l G MX7_isAsSpied 5 113 0 0 13 [(0, .ref 1860), (1, .int s.1), (2, .int s.2.1)] [] K F s.2.2 L (zQe (.inl (some (.int r.1))) K F r.2 L)) (fun s r hb kl kr => ?_) e_30
  exact W_X7_isAsSpied_L13 htr hM hb (fun z0 z1 z2 e => kl _ e) (fun y0 y1 e => by cases kr _ e; exact H_35)
theorem fX7_126 : zFld RX7 126 6 50 := ⟨_, rfl, by decide, _, Or.inl q1727, Or.inl rfl⟩
theorem fX7_434 : zFld RX7 434 6 52 := ⟨_, rfl, by decide, _, Or.inl q1729, Or.inl rfl⟩
theorem hcee_X7_isAsSpied : zCee yX7_isAsSpied RX7 0 := ⟨rfl, by decide +kernel, by decide +kernel, by decide +kernel⟩
abbrev MX7_tellFits : zM := (RX7, cX7_tellFits, 4, none, "tellFits", [])
noncomputable def F_X7_tellFits_L26 (v1_3 : Int32) (v2_6 : Int32) (v3_8 : Int32) (I_9 : zId) : Option ((Int32 × zId) ⊕ (zId)) := if 30 < v3_8 then some (.inr (I_9)) else zg (zin v1_3 12) (zlet (zu I_9 1868 v1_3.toNatClampNeg v3_8) (fun I_11 => if v3_8 = v2_6 then zlet (v3_8 + 1) (fun v3_13 => some (.inl (v3_13, I_11))) else zb2 (F_X7_isAsSpied I_11) (fun x_16 I_17 => if ¬ x_16 = 0 then zg (zin (I_17 1860 52) 180) (zlet (zu I_17 1894 ((I_17 1860 52).toNatClampNeg) (((100 : Int32) * v1_3) + v3_8)) (fun I_19 => zlet (zu I_19 1860 52 ((I_19 1860 52) + 1)) (fun I_21 => zlet (v3_8 + 1) (fun v3_23 => some (.inl (v3_23, I_21)))))) else zlet (v3_8 + 1) (fun v3_25 => some (.inl (v3_25, I_17))))))
noncomputable def F_X7_tellFits_L7 (v1_3 : Int32) (I_4 : zId) : Option ((Int32 × zId) ⊕ (zId)) := if (I_4 1862 2) ≤ v1_3 then some (.inr (I_4)) else zg (zin v1_3 12) (zlet (I_4 1868 v1_3.toNatClampNeg) (fun v2_6 => zb1 (zloop (fun s : Int32 × zId => F_X7_tellFits_L26 v1_3 v2_6 s.1 s.2) (1, I_4)) (fun I_27 => zg (zin v1_3 12) (zlet (zu I_27 1868 v1_3.toNatClampNeg v2_6) (fun I_30 => zlet (v1_3 + 1) (fun v1_32 => some (.inl (v1_32, I_30))))))))
noncomputable def F_X7_tellFits (I : zId) : Option (zId) := zlet (zu I 1860 52 0) (fun I_1 => zb1 (zloop (fun s : Int32 × zId => F_X7_tellFits_L7 s.1 s.2) (0, I_1)) (fun I_36 => some I_36))
set_option maxHeartbeats 1000000 in
theorem W_X7_tellFits_L26 {l : Launch} {G : zGt} (htr : l.stackTraces = false) {K : zKd} {F : zFd} {L : zLd} {Q : zQt} {v1_3 : Int32} {v2_6 : Int32} {v3_8 : Int32} {I_9 : zId} (hM : zMLay K F) {r : (Int32 × zId) ⊕ (zId)} (hF : F_X7_tellFits_L26 v1_3 v2_6 v3_8 I_9 = some r) (kl : ∀ (z0 : Int32) (z1 : zId), r = .inl (z0, z1) → zW l G MX7_tellFits 6 136 0 0 26 [(0, .ref 1860), (1, .int v1_3), (2, .int v2_6), (3, .int z0)] [] K F z1 L Q) (kx : ∀ (y0 : zId), r = .inr y0 → zW l G MX7_tellFits 6 136 0 0 85 [(0, .ref 1860), (1, .int v1_3), (2, .int v2_6)] [] K F y0 L Q)  : zW l G MX7_tellFits 6 136 0 0 26 [(0, .ref 1860), (1, .int v1_3), (2, .int v2_6), (3, .int v3_8)] [] K F I_9 L Q := by
  unfold F_X7_tellFits_L26 at hF
  refine z_iload_n (n := 27) dX7_tellFits_26 rfl 3 rfl rfl ?_
  refine z_bipush (n := 29) (v := 30) dX7_tellFits_27 rfl (by decide) ?_
  refine z_icmp_gt (n := 32) (t := 85) dX7_tellFits_29 rfl (by decide) (fun hc => ?_) (fun hc => ?_)
  · replace hF := (if_pos hc).symm.trans hF
    refine z_sub [0, 1, 2] rfl ?_
    have hF := Option.some.inj hF; subst hF
    exact kx _ rfl
  · replace hF := (if_neg hc).symm.trans hF
    refine z_aload_n (n := 33) dX7_tellFits_32 rfl 0 rfl rfl ?_
    refine z_getRS (n := 36) dX7_tellFits_33 rfl zok6 fX7_48 rfl hM.1 (Or.inl (by decide)) (mF_8 hM) ?_
    refine z_iload_n (n := 37) dX7_tellFits_36 rfl 1 rfl rfl ?_
    refine z_iload_n (n := 38) dX7_tellFits_37 rfl 3 rfl rfl ?_
    obtain ⟨h_10, hF⟩ := zg_some hF
    obtain ⟨I_11, e_12, hF⟩ := zlet_ob hF
    refine z_iastK (n := 39) v1_3.toNatClampNeg rfl dX7_tellFits_38 rfl (mK_8 hM) (by decide) (zin_ok h_10) e_12 ?_
    refine z_iload_n (n := 40) dX7_tellFits_39 rfl 3 rfl rfl ?_
    refine z_iload_n (n := 41) dX7_tellFits_40 rfl 2 rfl rfl ?_
    refine z_icmp_eq (n := 44) (t := 79) dX7_tellFits_41 rfl (by decide) (fun hc => ?_) (fun hc => ?_)
    · replace hF := (if_pos hc).symm.trans hF
      obtain ⟨v3_13, e_14, hF⟩ := zlet_ob hF
      refine z_iincE (n := 82) (w := 1) (v := v3_13) (lv' := [(3, .int v3_13), (0, .ref 1860), (1, .int v1_3), (2, .int v2_6)]) dX7_tellFits_79 rfl 3 rfl (by decide) e_14 (by decide) rfl ?_
      refine z_goto (t := 26) dX7_tellFits_82 (by decide) ?_
      refine z_sub [1, 2, 3, 0] rfl ?_
      have hF := Option.some.inj hF; subst hF
      exact kl _ _ rfl
    · replace hF := (if_neg hc).symm.trans hF
      refine z_aload_n (n := 45) dX7_tellFits_44 rfl 0 rfl rfl ?_
      obtain ⟨x_16, I_17, c_15, hF⟩ := zb2_some hF
      refine z_cV (n := 48) (st := []) (C_X7_isAsSpied htr hM c_15) dX7_tellFits_45 rfl (lw_V q2238 q2240 qs98 q131 q2241) hcee_X7_isAsSpied rfl (by decide) hM.1 rfl rfl rfl (Nat.le_of_ble_eq_true rfl) (Nat.le_refl _) (Nat.le_refl _) ?_
      refine z_if_ne (n := 51) (t := 54) dX7_tellFits_48 rfl (by decide) (fun hc => ?_) (fun hc => ?_)
      · replace hF := (if_pos hc).symm.trans hF
        refine z_aload_n (n := 55) dX7_tellFits_54 rfl 0 rfl rfl ?_
        refine z_getRS (n := 58) dX7_tellFits_55 rfl zok6 fX7_126 rfl hM.1 (Or.inl (by decide)) (mF_50 hM) ?_
        refine z_aload_n (n := 59) dX7_tellFits_58 rfl 0 rfl rfl ?_
        refine z_getI (n := 62) dX7_tellFits_59 rfl zok6 fX7_434 rfl hM.1 (Or.inl (by decide)) ?_
        refine z_bipush (n := 64) (v := 100) dX7_tellFits_62 rfl (by decide) ?_
        refine z_iload_n (n := 65) dX7_tellFits_64 rfl 1 rfl rfl ?_
        refine z_imul (n := 66) dX7_tellFits_65 rfl ?_
        refine z_iload_n (n := 67) dX7_tellFits_66 rfl 3 rfl rfl ?_
        refine z_iadd (n := 68) dX7_tellFits_67 rfl ?_
        obtain ⟨h_18, hF⟩ := zg_some hF
        obtain ⟨I_19, e_20, hF⟩ := zlet_ob hF
        refine z_iastK (n := 69) ((I_17 1860 52).toNatClampNeg) rfl dX7_tellFits_68 rfl (mK_50 hM) (by decide) (zin_ok h_18) e_20 ?_
        refine z_aload_n (n := 70) dX7_tellFits_69 rfl 0 rfl rfl ?_
        refine z_dup (n := 71) dX7_tellFits_70 rfl rfl ?_
        refine z_getI (n := 74) dX7_tellFits_71 rfl zok6 fX7_434 rfl hM.1 (Or.inl (by decide)) ?_
        refine z_iconst (n := 75) (v := 1) dX7_tellFits_74 rfl (by decide) ?_
        refine z_iadd (n := 76) dX7_tellFits_75 rfl ?_
        obtain ⟨I_21, e_22, hF⟩ := zlet_ob hF
        refine z_putIE (n := 79) dX7_tellFits_76 rfl zok6 fX7_434 (Or.inl ⟨_, rfl, rfl⟩) rfl ⟨rfl, rfl⟩ hM.1 (by decide) e_22 ?_
        obtain ⟨v3_23, e_24, hF⟩ := zlet_ob hF
        refine z_iincE (n := 82) (w := 1) (v := v3_23) (lv' := [(3, .int v3_23), (0, .ref 1860), (1, .int v1_3), (2, .int v2_6)]) dX7_tellFits_79 rfl 3 rfl (by decide) e_24 (by decide) rfl ?_
        refine z_goto (t := 26) dX7_tellFits_82 (by decide) ?_
        refine z_sub [1, 2, 3, 0] rfl ?_
        have hF := Option.some.inj hF; subst hF
        exact kl _ _ rfl
      · replace hF := (if_neg hc).symm.trans hF
        refine z_goto (t := 79) dX7_tellFits_51 (by decide) ?_
        obtain ⟨v3_25, e_26, hF⟩ := zlet_ob hF
        refine z_iincE (n := 82) (w := 1) (v := v3_25) (lv' := [(3, .int v3_25), (0, .ref 1860), (1, .int v1_3), (2, .int v2_6)]) dX7_tellFits_79 rfl 3 rfl (by decide) e_26 (by decide) rfl ?_
        refine z_goto (t := 26) dX7_tellFits_82 (by decide) ?_
        refine z_sub [1, 2, 3, 0] rfl ?_
        have hF := Option.some.inj hF; subst hF
        exact kl _ _ rfl
set_option maxHeartbeats 1000000 in
theorem W_X7_tellFits_L7 {l : Launch} {G : zGt} (htr : l.stackTraces = false) {K : zKd} {F : zFd} {L : zLd} {Q : zQt} {v1_3 : Int32} {I_4 : zId} (hM : zMLay K F) {r : (Int32 × zId) ⊕ (zId)} (hF : F_X7_tellFits_L7 v1_3 I_4 = some r) (kl : ∀ (z0 : Int32) (z1 : zId), r = .inl (z0, z1) → zW l G MX7_tellFits 6 136 0 0 7 [(0, .ref 1860), (1, .int z0)] [] K F z1 L Q) (kx : ∀ (y0 : zId), r = .inr y0 → zW l G MX7_tellFits 6 136 0 0 98 [] [] K F y0 L Q)  : zW l G MX7_tellFits 6 136 0 0 7 [(0, .ref 1860), (1, .int v1_3)] [] K F I_4 L Q := by
  unfold F_X7_tellFits_L7 at hF
  refine z_iload_n (n := 8) dX7_tellFits_7 rfl 1 rfl rfl ?_
  refine z_aload_n (n := 9) dX7_tellFits_8 rfl 0 rfl rfl ?_
  refine z_getRS (n := 12) dX7_tellFits_9 rfl zok6 fX7_29 rfl hM.1 (Or.inl (by decide)) (mF_2 hM) ?_
  refine z_iconst (n := 13) (v := 2) dX7_tellFits_12 rfl (by decide) ?_
  refine z_ialdK (n := 14) 2 (by decide) dX7_tellFits_13 rfl (mK_2 hM) (zin_ok (i := 2) (n := 16) rfl) ?_
  refine z_icmp_ge (n := 17) (t := 98) dX7_tellFits_14 rfl (by decide) (fun hc => ?_) (fun hc => ?_)
  · replace hF := (if_pos hc).symm.trans hF
    refine z_sub [] rfl ?_
    have hF := Option.some.inj hF; subst hF
    exact kx _ rfl
  · replace hF := (if_neg hc).symm.trans hF
    refine z_aload_n (n := 18) dX7_tellFits_17 rfl 0 rfl rfl ?_
    refine z_getRS (n := 21) dX7_tellFits_18 rfl zok6 fX7_48 rfl hM.1 (Or.inl (by decide)) (mF_8 hM) ?_
    refine z_iload_n (n := 22) dX7_tellFits_21 rfl 1 rfl rfl ?_
    obtain ⟨h_5, hF⟩ := zg_some hF
    refine z_ialdK (n := 23) v1_3.toNatClampNeg rfl dX7_tellFits_22 rfl (mK_8 hM) (zin_ok h_5) ?_
    obtain ⟨v2_6, e_7, hF⟩ := zlet_ob hF
    refine z_istore_nE (n := 24) (lv' := [(2, .int v2_6), (0, .ref 1860), (1, .int v1_3)]) dX7_tellFits_23 rfl e_7 rfl (by decide) rfl ?_
    refine z_iconst (n := 25) (v := 1) dX7_tellFits_24 rfl (by decide) ?_
    refine z_istore_nE (n := 26) (lv' := [(3, .int 1), (2, .int v2_6), (0, .ref 1860), (1, .int v1_3)]) dX7_tellFits_25 rfl rfl rfl (by decide) rfl ?_
    refine z_sub [2, 3, 1, 0] rfl ?_
    obtain ⟨t_34, e_28, hF⟩ := zb1_some hF
    obtain ⟨I_27, rfl⟩ : ∃ z, z = t_34 := ⟨_, rfl⟩
    have H_35 : zW l G MX7_tellFits 6 136 0 0 85 [(0, .ref 1860), (1, .int v1_3), (2, .int v2_6)] [] K F I_27 L Q := by
      refine z_aload_n (n := 86) dX7_tellFits_85 rfl 0 rfl rfl ?_
      refine z_getRS (n := 89) dX7_tellFits_86 rfl zok6 fX7_48 rfl hM.1 (Or.inl (by decide)) (mF_8 hM) ?_
      refine z_iload_n (n := 90) dX7_tellFits_89 rfl 1 rfl rfl ?_
      refine z_iload_n (n := 91) dX7_tellFits_90 rfl 2 rfl rfl ?_
      obtain ⟨h_29, hF⟩ := zg_some hF
      obtain ⟨I_30, e_31, hF⟩ := zlet_ob hF
      refine z_iastK (n := 92) v1_3.toNatClampNeg rfl dX7_tellFits_91 rfl (mK_8 hM) (by decide) (zin_ok h_29) e_31 ?_
      obtain ⟨v1_32, e_33, hF⟩ := zlet_ob hF
      refine z_iincE (n := 95) (w := 1) (v := v1_32) (lv' := [(1, .int v1_32), (0, .ref 1860), (2, .int v2_6)]) dX7_tellFits_92 rfl 1 rfl (by decide) e_33 (by decide) rfl ?_
      refine z_goto (t := 7) dX7_tellFits_95 (by decide) ?_
      refine z_sub [1, 0] rfl ?_
      have hF := Option.some.inj hF; subst hF
      exact kl _ _ rfl
    refine zloop_ind (P := fun s : Int32 × zId => zW l G MX7_tellFits 6 136 0 0 26 [(0, .ref 1860), (1, .int v1_3), (2, .int v2_6), (3, .int s.1)] [] K F s.2 L Q) (fun s r hb kl kr => ?_) e_28
    exact W_X7_tellFits_L26 htr hM hb (fun z0 z1 e => kl _ e) (fun y0 e => by cases kr _ e; exact H_35)
set_option maxHeartbeats 1000000 in
theorem C_X7_tellFits {l : Launch} {G : zGt} (htr : l.stackTraces = false) {K : zKd} {F : zFd} {L : zLd} (hM : zMLay K F) {I : zId} {r : zId} (hF : F_X7_tellFits I = some r) : zMet l G yX7_tellFits (ws_ yX7_tellFits cX7_tellFits 4 none) 6 136 0 0 [.ref 1860] K F I L (zQe (.inl none) K F r L) := by
  refine zMet.of (by decide +kernel) htr (Nat.le_of_ble_eq_true rfl) ?_
  change zW l G MX7_tellFits 6 136 0 0 0 [(0, .ref 1860)] [] K F I L (zQe (.inl none) K F r L)
  unfold F_X7_tellFits at hF
  refine z_aload_n (n := 1) dX7_tellFits_0 rfl 0 rfl rfl ?_
  refine z_iconst (n := 2) (v := 0) dX7_tellFits_1 rfl (by decide) ?_
  obtain ⟨I_1, e_2, hF⟩ := zlet_ob hF
  refine z_putIE (n := 5) dX7_tellFits_2 rfl zok6 fX7_434 (Or.inl ⟨_, rfl, rfl⟩) rfl ⟨rfl, rfl⟩ hM.1 (by decide) e_2 ?_
  refine z_iconst (n := 6) (v := 0) dX7_tellFits_5 rfl (by decide) ?_
  refine z_istore_nE (n := 7) (lv' := [(1, .int 0), (0, .ref 1860)]) dX7_tellFits_6 rfl rfl rfl (by decide) rfl ?_
  refine z_sub [1, 0] rfl ?_
  obtain ⟨t_38, e_37, hF⟩ := zb1_some hF
  obtain ⟨I_36, rfl⟩ : ∃ z, z = t_38 := ⟨_, rfl⟩
  have H_39 : zW l G MX7_tellFits 6 136 0 0 98 [] [] K F I_36 L (zQe (.inl none) K F r L) := by
    have hF := Option.some.inj hF; subst hF
    exact z_vret dX7_tellFits_98 rfl ⟨rfl, rfl, rfl, rfl, rfl⟩
  refine zloop_ind (P := fun s : Int32 × zId => zW l G MX7_tellFits 6 136 0 0 7 [(0, .ref 1860), (1, .int s.1)] [] K F s.2 L (zQe (.inl none) K F r L)) (fun s r hb kl kr => ?_) e_37
  exact W_X7_tellFits_L7 htr hM hb (fun z0 z1 e => kl _ e) (fun y0 e => by cases kr _ e; exact H_39)
theorem hcee_X7_tellFits : zCee yX7_tellFits RX7 0 := ⟨rfl, by decide +kernel, by decide +kernel, by decide +kernel⟩
abbrev MX7_hidden : zM := (RX7, cX7_hidden, 2, (some .int), "hidden", [])
noncomputable def F_X7_hidden (a0 : Int32) (I : zId) : Option (Int32 × zId) := zlet (zu I 1860 1 0) (fun I_1 => zb1 (F_X7_isIn a0.toInt64 0 2 I_1) (fun x_4 => if ¬ x_4 = 0 then if ¬ a0 = 2 then zb1 (F_X7_tellFits I_1) (fun I_6 => if ¬ a0 = 0 then if ¬ (I_6 1860 52) = 0 then some (I_6 1894 0, I_6) else some ((-1), I_6) else some (I_6 1860 52, I_6)) else zb2 (F_X7_isAsSpied I_1) (fun x_8 I_9 => if x_8 = 0 then some (0, I_9) else some (1, I_9)) else zb2 (F_X7_fail 1 I_1) (fun x_11 I_12 => some (x_11, I_12))))
set_option maxHeartbeats 1000000 in
theorem C_X7_hidden {l : Launch} {G : zGt} (htr : l.stackTraces = false) {K : zKd} {F : zFd} {L : zLd} {a0 : Int32} (hM : zMLay K F) {I : zId} {r : Int32 × zId} (hF : F_X7_hidden a0 I = some r) : zMet l G yX7_hidden (ws_ yX7_hidden cX7_hidden 2 (some .int)) 7 159 0 0 [.ref 1860, .int a0] K F I L (zQe (.inl (some (.int r.1))) K F r.2 L) := by
  refine zMet.of (by decide +kernel) htr (Nat.le_of_ble_eq_true rfl) ?_
  change zW l G MX7_hidden 7 159 0 0 0 [(0, .ref 1860), (1, .int a0)] [] K F I L (zQe (.inl (some (.int r.1))) K F r.2 L)
  unfold F_X7_hidden at hF
  refine z_aload_n (n := 1) dX7_hidden_0 rfl 0 rfl rfl ?_
  refine z_iconst (n := 2) (v := 0) dX7_hidden_1 rfl (by decide) ?_
  obtain ⟨I_1, e_2, hF⟩ := zlet_ob hF
  refine z_putIE (n := 5) dX7_hidden_2 rfl zok6 fX7_150 (Or.inl ⟨_, rfl, rfl⟩) rfl ⟨rfl, rfl⟩ hM.1 (by decide) e_2 ?_
  refine z_iload_n (n := 6) dX7_hidden_5 rfl 1 rfl rfl ?_
  refine z_i2l (n := 7) dX7_hidden_6 rfl ?_
  refine z_lconst (n := 8) (v := 0) dX7_hidden_7 rfl (by decide) ?_
  refine z_ldc2 (n := 11) dX7_hidden_8 rfl q2237 ?_
  obtain ⟨x_4, c_3, hF⟩ := zb1_some hF
  refine z_cS (n := 14) (st := []) (C_X7_isIn htr c_3) dX7_hidden_11 rfl (lw_S q2030 q2031 q131 q2032) hcee_X7_isIn rfl (by decide) rfl (Nat.le_of_ble_eq_true rfl) (Nat.le_refl _) (Nat.le_refl _) ?_
  refine z_if_ne (n := 17) (t := 23) dX7_hidden_14 rfl (by decide) (fun hc => ?_) (fun hc => ?_)
  · replace hF := (if_pos hc).symm.trans hF
    refine z_iload_n (n := 24) dX7_hidden_23 rfl 1 rfl rfl ?_
    refine z_iconst (n := 25) (v := 2) dX7_hidden_24 rfl (by decide) ?_
    refine z_icmp_ne (n := 28) (t := 41) dX7_hidden_25 rfl (by decide) (fun hc => ?_) (fun hc => ?_)
    · replace hF := (if_pos hc).symm.trans hF
      refine z_aload_n (n := 42) dX7_hidden_41 rfl 0 rfl rfl ?_
      obtain ⟨I_6, c_5, hF⟩ := zb1_some hF
      refine z_cV (n := 45) (st := []) (C_X7_tellFits htr hM c_5) dX7_hidden_42 rfl (lw_V q2242 q2244 qs99 q131 q2245) hcee_X7_tellFits rfl (by decide) hM.1 rfl rfl rfl (Nat.le_of_ble_eq_true rfl) (Nat.le_refl _) (Nat.le_refl _) ?_
      refine z_iload_n (n := 46) dX7_hidden_45 rfl 1 rfl rfl ?_
      refine z_if_ne (n := 49) (t := 56) dX7_hidden_46 rfl (by decide) (fun hc => ?_) (fun hc => ?_)
      · replace hF := (if_pos hc).symm.trans hF
        refine z_aload_n (n := 57) dX7_hidden_56 rfl 0 rfl rfl ?_
        refine z_getI (n := 60) dX7_hidden_57 rfl zok6 fX7_434 rfl hM.1 (Or.inl (by decide)) ?_
        refine z_if_ne (n := 63) (t := 67) dX7_hidden_60 rfl (by decide) (fun hc => ?_) (fun hc => ?_)
        · replace hF := (if_pos hc).symm.trans hF
          refine z_aload_n (n := 68) dX7_hidden_67 rfl 0 rfl rfl ?_
          refine z_getRS (n := 71) dX7_hidden_68 rfl zok6 fX7_126 rfl hM.1 (Or.inl (by decide)) (mF_50 hM) ?_
          refine z_iconst (n := 72) (v := 0) dX7_hidden_71 rfl (by decide) ?_
          refine z_ialdK (n := 73) 0 (by decide) dX7_hidden_72 rfl (mK_50 hM) (zin_ok (i := 0) (n := 180) rfl) ?_
          have hF := Option.some.inj hF; subst hF
          exact z_iret dX7_hidden_73 rfl rfl ⟨rfl, rfl, rfl, rfl, rfl⟩
        · replace hF := (if_neg hc).symm.trans hF
          refine z_iconst (n := 64) (v := (-1)) dX7_hidden_63 rfl (by decide) ?_
          refine z_goto (t := 73) dX7_hidden_64 (by decide) ?_
          have hF := Option.some.inj hF; subst hF
          exact z_iret dX7_hidden_73 rfl rfl ⟨rfl, rfl, rfl, rfl, rfl⟩
      · replace hF := (if_neg hc).symm.trans hF
        refine z_aload_n (n := 50) dX7_hidden_49 rfl 0 rfl rfl ?_
        refine z_getI (n := 53) dX7_hidden_50 rfl zok6 fX7_434 rfl hM.1 (Or.inl (by decide)) ?_
        refine z_goto (t := 73) dX7_hidden_53 (by decide) ?_
        have hF := Option.some.inj hF; subst hF
        exact z_iret dX7_hidden_73 rfl rfl ⟨rfl, rfl, rfl, rfl, rfl⟩
    · replace hF := (if_neg hc).symm.trans hF
      refine z_aload_n (n := 29) dX7_hidden_28 rfl 0 rfl rfl ?_
      obtain ⟨x_8, I_9, c_7, hF⟩ := zb2_some hF
      refine z_cV (n := 32) (st := []) (C_X7_isAsSpied htr hM c_7) dX7_hidden_29 rfl (lw_V q2238 q2240 qs98 q131 q2241) hcee_X7_isAsSpied rfl (by decide) hM.1 rfl rfl rfl (Nat.le_of_ble_eq_true rfl) (Nat.le_refl _) (Nat.le_refl _) ?_
      refine z_if_eq (n := 35) (t := 39) dX7_hidden_32 rfl (by decide) (fun hc => ?_) (fun hc => ?_)
      · replace hF := (if_pos hc).symm.trans hF
        refine z_iconst (n := 40) (v := 0) dX7_hidden_39 rfl (by decide) ?_
        have hF := Option.some.inj hF; subst hF
        exact z_iret dX7_hidden_40 rfl rfl ⟨rfl, rfl, rfl, rfl, rfl⟩
      · replace hF := (if_neg hc).symm.trans hF
        refine z_iconst (n := 36) (v := 1) dX7_hidden_35 rfl (by decide) ?_
        refine z_goto (t := 40) dX7_hidden_36 (by decide) ?_
        have hF := Option.some.inj hF; subst hF
        exact z_iret dX7_hidden_40 rfl rfl ⟨rfl, rfl, rfl, rfl, rfl⟩
  · replace hF := (if_neg hc).symm.trans hF
    refine z_aload_n (n := 18) dX7_hidden_17 rfl 0 rfl rfl ?_
    refine z_iconst (n := 19) (v := 1) dX7_hidden_18 rfl (by decide) ?_
    obtain ⟨x_11, I_12, c_10, hF⟩ := zb2_some hF
    refine z_cV (n := 22) (st := []) (C_X7_fail htr hM c_10) dX7_hidden_19 rfl (lw_V q1879 q1881 qs48 q131 q1882) hcee_X7_fail rfl (by decide) hM.1 rfl rfl rfl (Nat.le_of_ble_eq_true rfl) (Nat.le_refl _) (Nat.le_refl _) ?_
    have hF := Option.some.inj hF; subst hF
    exact z_iret dX7_hidden_22 rfl rfl ⟨rfl, rfl, rfl, rfl, rfl⟩
