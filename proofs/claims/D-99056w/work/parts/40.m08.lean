abbrev MX7_copyTo : zM := (RX7, cX7_copyTo, 3, none, "copyTo", [])
noncomputable def F_X7_copyTo_L2 (a0 : Nat) (n0 : Nat) (a1 : Nat) (n1 : Nat) (v2_1 : Int32) (I_2 : zId) : Option ((Int32 × zId) ⊕ (zId)) := if (nI n0) ≤ v2_1 then some (.inr (I_2)) else zg (zin v2_1 n1) (zg (zin v2_1 n0) (zlet (zu I_2 a0 v2_1.toNatClampNeg (I_2 a1 v2_1.toNatClampNeg)) (fun I_5 => zlet (v2_1 + 1) (fun v2_7 => some (.inl (v2_7, I_5))))))
noncomputable def F_X7_copyTo (a0 : Nat) (n0 : Nat) (a1 : Nat) (n1 : Nat) (I : zId) : Option (zId) := zb1 (zloop (fun s : Int32 × zId => F_X7_copyTo_L2 a0 n0 a1 n1 s.1 s.2) (0, I)) (fun I_9 => some I_9)
set_option maxHeartbeats 1000000 in
theorem W_X7_copyTo_L2 {l : Launch} {G : zGt} (htr : l.stackTraces = false) {K : zKd} {F : zFd} {L : zLd} {Q : zQt} {a0 : Nat} {n0 : Nat} {a1 : Nat} {n1 : Nat} {v2_1 : Int32} {I_2 : zId} (hk0 : K a0 = some (64, n0)) (hb0 : zNC ≤ a0) (hk1 : K a1 = some (64, n1)) (hb1 : zNC ≤ a1) {r : (Int32 × zId) ⊕ (zId)} (hF : F_X7_copyTo_L2 a0 n0 a1 n1 v2_1 I_2 = some r) (kl : ∀ (z0 : Int32) (z1 : zId), r = .inl (z0, z1) → zW l G MX7_copyTo 0 0 0 0 2 [(0, .ref a0), (1, .ref a1), (2, .int z0)] [] K F z1 L Q) (kx : ∀ (y0 : zId), r = .inr y0 → zW l G MX7_copyTo 0 0 0 0 20 [] [] K F y0 L Q)  : zW l G MX7_copyTo 0 0 0 0 2 [(0, .ref a0), (1, .ref a1), (2, .int v2_1)] [] K F I_2 L Q := by
  unfold F_X7_copyTo_L2 at hF
  refine z_iload_n (n := 3) dX7_copyTo_2 rfl 2 rfl rfl ?_
  refine z_aload_n (n := 4) dX7_copyTo_3 rfl 0 rfl rfl ?_
  refine z_alen (n := 5) 0 (by decide) dX7_copyTo_4 rfl hk0 ?_
  refine z_icmp_ge (n := 8) (t := 20) dX7_copyTo_5 rfl (by decide) (fun hc => ?_) (fun hc => ?_)
  · replace hF := (if_pos hc).symm.trans hF
    refine z_sub [] rfl ?_
    have hF := Option.some.inj hF; subst hF
    exact kx _ rfl
  · replace hF := (if_neg hc).symm.trans hF
    refine z_aload_n (n := 9) dX7_copyTo_8 rfl 0 rfl rfl ?_
    refine z_iload_n (n := 10) dX7_copyTo_9 rfl 2 rfl rfl ?_
    refine z_aload_n (n := 11) dX7_copyTo_10 rfl 1 rfl rfl ?_
    refine z_iload_n (n := 12) dX7_copyTo_11 rfl 2 rfl rfl ?_
    obtain ⟨h_3, hF⟩ := zg_some hF
    refine z_ialdK (n := 13) v2_1.toNatClampNeg rfl dX7_copyTo_12 rfl hk1 (zin_ok h_3) ?_
    obtain ⟨h_4, hF⟩ := zg_some hF
    obtain ⟨I_5, e_6, hF⟩ := zlet_ob hF
    refine z_iastK (n := 14) v2_1.toNatClampNeg rfl dX7_copyTo_13 rfl hk0 hb0 (zin_ok h_4) e_6 ?_
    obtain ⟨v2_7, e_8, hF⟩ := zlet_ob hF
    refine z_iincE (n := 17) (w := 1) (v := v2_7) (lv' := [(2, .int v2_7), (0, .ref a0), (1, .ref a1)]) dX7_copyTo_14 rfl 2 rfl (by decide) e_8 (by decide) rfl ?_
    refine z_goto (t := 2) dX7_copyTo_17 (by decide) ?_
    refine z_sub [1, 2, 0] rfl ?_
    have hF := Option.some.inj hF; subst hF
    exact kl _ _ rfl
set_option maxHeartbeats 1000000 in
theorem C_X7_copyTo {l : Launch} {G : zGt} (htr : l.stackTraces = false) {K : zKd} {F : zFd} {L : zLd} {a0 : Nat} {n0 : Nat} {a1 : Nat} {n1 : Nat} (hk0 : K a0 = some (64, n0)) (hb0 : zNC ≤ a0) (hk1 : K a1 = some (64, n1)) (hb1 : zNC ≤ a1) {I : zId} {r : zId} (hF : F_X7_copyTo a0 n0 a1 n1 I = some r) : zMet l G yX7_copyTo (ws_ yX7_copyTo cX7_copyTo 3 none) 0 0 0 0 [.ref a0, .ref a1] K F I L (zQe (.inl none) K F r L) := by
  refine zMet.of (by decide +kernel) htr (Nat.le_of_ble_eq_true rfl) ?_
  change zW l G MX7_copyTo 0 0 0 0 0 [(0, .ref a0), (1, .ref a1)] [] K F I L (zQe (.inl none) K F r L)
  unfold F_X7_copyTo at hF
  refine z_iconst (n := 1) (v := 0) dX7_copyTo_0 rfl (by decide) ?_
  refine z_istore_nE (n := 2) (lv' := [(2, .int 0), (0, .ref a0), (1, .ref a1)]) dX7_copyTo_1 rfl rfl rfl (by decide) rfl ?_
  refine z_sub [1, 2, 0] rfl ?_
  obtain ⟨t_11, e_10, hF⟩ := zb1_some hF
  obtain ⟨I_9, rfl⟩ : ∃ z, z = t_11 := ⟨_, rfl⟩
  have H_12 : zW l G MX7_copyTo 0 0 0 0 20 [] [] K F I_9 L (zQe (.inl none) K F r L) := by
    have hF := Option.some.inj hF; subst hF
    exact z_vret dX7_copyTo_20 rfl ⟨rfl, rfl, rfl, rfl, rfl⟩
  refine zloop_ind (P := fun s : Int32 × zId => zW l G MX7_copyTo 0 0 0 0 2 [(0, .ref a0), (1, .ref a1), (2, .int s.1)] [] K F s.2 L (zQe (.inl none) K F r L)) (fun s r hb kl kr => ?_) e_10
  exact W_X7_copyTo_L2 (a0 := a0) (n0 := n0) (a1 := a1) (n1 := n1) htr hk0 hb0 hk1 hb1 hb (fun z0 z1 e => kl _ e) (fun y0 e => by cases kr _ e; exact H_12)
theorem fX7_132 : zFld RX7 132 6 57 := ⟨_, rfl, by decide, _, Or.inl q1734, Or.inl rfl⟩
theorem fX7_135 : zFld RX7 135 6 58 := ⟨_, rfl, by decide, _, Or.inl q1735, Or.inl rfl⟩
theorem fX7_138 : zFld RX7 138 6 59 := ⟨_, rfl, by decide, _, Or.inl q1736, Or.inl rfl⟩
theorem fX7_141 : zFld RX7 141 6 60 := ⟨_, rfl, by decide, _, Or.inl q1737, Or.inl rfl⟩
theorem fX7_144 : zFld RX7 144 6 61 := ⟨_, rfl, by decide, _, Or.inl q1738, Or.inl rfl⟩
theorem fX7_147 : zFld RX7 147 6 62 := ⟨_, rfl, by decide, _, Or.inl q1739, Or.inl rfl⟩
theorem fX7_463 : zFld RX7 463 6 55 := ⟨_, rfl, by decide, _, Or.inl q1732, Or.inl rfl⟩
theorem fX7_466 : zFld RX7 466 6 56 := ⟨_, rfl, by decide, _, Or.inl q1733, Or.inl rfl⟩
theorem hcee_X7_copyTo : zCee yX7_copyTo RX7 2 := ⟨rfl, by decide +kernel, by decide +kernel, by decide +kernel⟩
abbrev MX7_image : zM := (RX7, cX7_image, 1, none, "image", [])
noncomputable def F_X7_image (I : zId) : Option (zId) := zlet (zu I 1860 1 0) (fun I_1 => zlet (zu I_1 1860 54 1) (fun I_3 => zlet (zu I_3 1860 55 (I_3 1860 37)) (fun I_5 => zlet (zu I_5 1860 56 (I_5 1860 38)) (fun I_7 => zb1 (F_X7_pack 1896 57 0 I_7) (fun I_10 => zb1 (F_X7_copyTo 1897 2280 1883 2280 I_10) (fun I_12 => zb1 (F_X7_copyTo 1898 8 1890 8 I_12) (fun I_14 => zb1 (F_X7_copyTo 1899 8 1891 8 I_14) (fun I_16 => zb1 (F_X7_copyTo 1900 8 1892 8 I_16) (fun I_18 => zb1 (F_X7_copyTo 1901 3 1873 3 I_18) (fun I_20 => some I_20))))))))))
set_option maxHeartbeats 1000000 in
theorem C_X7_image {l : Launch} {G : zGt} (htr : l.stackTraces = false) {K : zKd} {F : zFd} {L : zLd} (hM : zMLay K F) {I : zId} {r : zId} (hF : F_X7_image I = some r) : zMet l G yX7_image (ws_ yX7_image cX7_image 1 none) 1 24 0 0 [.ref 1860] K F I L (zQe (.inl none) K F r L) := by
  refine zMet.of (by decide +kernel) htr (Nat.le_of_ble_eq_true rfl) ?_
  change zW l G MX7_image 1 24 0 0 0 [(0, .ref 1860)] [] K F I L (zQe (.inl none) K F r L)
  unfold F_X7_image at hF
  refine z_aload_n (n := 1) dX7_image_0 rfl 0 rfl rfl ?_
  refine z_iconst (n := 2) (v := 0) dX7_image_1 rfl (by decide) ?_
  obtain ⟨I_1, e_2, hF⟩ := zlet_ob hF
  refine z_putIE (n := 5) dX7_image_2 rfl zok6 fX7_150 (Or.inl ⟨_, rfl, rfl⟩) rfl ⟨rfl, rfl⟩ hM.1 (by decide) e_2 ?_
  refine z_aload_n (n := 6) dX7_image_5 rfl 0 rfl rfl ?_
  refine z_iconst (n := 7) (v := 1) dX7_image_6 rfl (by decide) ?_
  obtain ⟨I_3, e_4, hF⟩ := zlet_ob hF
  refine z_putIE (n := 10) dX7_image_7 rfl zok6 fX7_330 (Or.inl ⟨_, rfl, rfl⟩) rfl ⟨rfl, rfl⟩ hM.1 (by decide) e_4 ?_
  refine z_aload_n (n := 11) dX7_image_10 rfl 0 rfl rfl ?_
  refine z_aload_n (n := 12) dX7_image_11 rfl 0 rfl rfl ?_
  refine z_getI (n := 15) dX7_image_12 rfl zok6 fX7_324 rfl hM.1 (Or.inl (by decide)) ?_
  obtain ⟨I_5, e_6, hF⟩ := zlet_ob hF
  refine z_putIE (n := 18) dX7_image_15 rfl zok6 fX7_463 (Or.inl ⟨_, rfl, rfl⟩) rfl ⟨rfl, rfl⟩ hM.1 (by decide) e_6 ?_
  refine z_aload_n (n := 19) dX7_image_18 rfl 0 rfl rfl ?_
  refine z_aload_n (n := 20) dX7_image_19 rfl 0 rfl rfl ?_
  refine z_getI (n := 23) dX7_image_20 rfl zok6 fX7_327 rfl hM.1 (Or.inl (by decide)) ?_
  obtain ⟨I_7, e_8, hF⟩ := zlet_ob hF
  refine z_putIE (n := 26) dX7_image_23 rfl zok6 fX7_466 (Or.inl ⟨_, rfl, rfl⟩) rfl ⟨rfl, rfl⟩ hM.1 (by decide) e_8 ?_
  refine z_aload_n (n := 27) dX7_image_26 rfl 0 rfl rfl ?_
  refine z_aload_n (n := 28) dX7_image_27 rfl 0 rfl rfl ?_
  refine z_getRS (n := 31) dX7_image_28 rfl zok6 fX7_132 rfl hM.1 (Or.inl (by decide)) (mF_57 hM) ?_
  refine z_iconst (n := 32) (v := 0) dX7_image_31 rfl (by decide) ?_
  obtain ⟨I_10, c_9, hF⟩ := zb1_some hF
  refine z_cV (n := 35) (st := []) (C_X7_pack htr hM (mK_57 hM) (by decide) c_9) dX7_image_32 rfl (lw_V q2081 q2083 qs84 q131 q2084) hcee_X7_pack rfl (by decide) hM.1 rfl rfl rfl (Nat.le_of_ble_eq_true rfl) (Nat.le_refl _) (Nat.le_refl _) ?_
  refine z_aload_n (n := 36) dX7_image_35 rfl 0 rfl rfl ?_
  refine z_getRS (n := 39) dX7_image_36 rfl zok6 fX7_135 rfl hM.1 (Or.inl (by decide)) (mF_58 hM) ?_
  refine z_aload_n (n := 40) dX7_image_39 rfl 0 rfl rfl ?_
  refine z_getRS (n := 43) dX7_image_40 rfl zok6 fX7_93 rfl hM.1 (Or.inl (by decide)) (mF_33 hM) ?_
  obtain ⟨I_12, c_11, hF⟩ := zb1_some hF
  refine z_cS (n := 46) (st := []) (C_X7_copyTo htr (mK_58 hM) (by decide) (mK_33 hM) (by decide) c_11) dX7_image_43 rfl (lw_S q2283 q2284 q131 q2285) hcee_X7_copyTo rfl (by decide) rfl (Nat.le_of_ble_eq_true rfl) (Nat.le_refl _) (Nat.le_refl _) ?_
  refine z_aload_n (n := 47) dX7_image_46 rfl 0 rfl rfl ?_
  refine z_getRS (n := 50) dX7_image_47 rfl zok6 fX7_138 rfl hM.1 (Or.inl (by decide)) (mF_59 hM) ?_
  refine z_aload_n (n := 51) dX7_image_50 rfl 0 rfl rfl ?_
  refine z_getRS (n := 54) dX7_image_51 rfl zok6 fX7_114 rfl hM.1 (Or.inl (by decide)) (mF_46 hM) ?_
  obtain ⟨I_14, c_13, hF⟩ := zb1_some hF
  refine z_cS (n := 57) (st := []) (C_X7_copyTo htr (mK_59 hM) (by decide) (mK_46 hM) (by decide) c_13) dX7_image_54 rfl (lw_S q2283 q2284 q131 q2285) hcee_X7_copyTo rfl (by decide) rfl (Nat.le_of_ble_eq_true rfl) (Nat.le_refl _) (Nat.le_refl _) ?_
  refine z_aload_n (n := 58) dX7_image_57 rfl 0 rfl rfl ?_
  refine z_getRS (n := 61) dX7_image_58 rfl zok6 fX7_141 rfl hM.1 (Or.inl (by decide)) (mF_60 hM) ?_
  refine z_aload_n (n := 62) dX7_image_61 rfl 0 rfl rfl ?_
  refine z_getRS (n := 65) dX7_image_62 rfl zok6 fX7_117 rfl hM.1 (Or.inl (by decide)) (mF_47 hM) ?_
  obtain ⟨I_16, c_15, hF⟩ := zb1_some hF
  refine z_cS (n := 68) (st := []) (C_X7_copyTo htr (mK_60 hM) (by decide) (mK_47 hM) (by decide) c_15) dX7_image_65 rfl (lw_S q2283 q2284 q131 q2285) hcee_X7_copyTo rfl (by decide) rfl (Nat.le_of_ble_eq_true rfl) (Nat.le_refl _) (Nat.le_refl _) ?_
  refine z_aload_n (n := 69) dX7_image_68 rfl 0 rfl rfl ?_
  refine z_getRS (n := 72) dX7_image_69 rfl zok6 fX7_144 rfl hM.1 (Or.inl (by decide)) (mF_61 hM) ?_
  refine z_aload_n (n := 73) dX7_image_72 rfl 0 rfl rfl ?_
  refine z_getRS (n := 76) dX7_image_73 rfl zok6 fX7_120 rfl hM.1 (Or.inl (by decide)) (mF_48 hM) ?_
  obtain ⟨I_18, c_17, hF⟩ := zb1_some hF
  refine z_cS (n := 79) (st := []) (C_X7_copyTo htr (mK_61 hM) (by decide) (mK_48 hM) (by decide) c_17) dX7_image_76 rfl (lw_S q2283 q2284 q131 q2285) hcee_X7_copyTo rfl (by decide) rfl (Nat.le_of_ble_eq_true rfl) (Nat.le_refl _) (Nat.le_refl _) ?_
  refine z_aload_n (n := 80) dX7_image_79 rfl 0 rfl rfl ?_
  refine z_getRS (n := 83) dX7_image_80 rfl zok6 fX7_147 rfl hM.1 (Or.inl (by decide)) (mF_62 hM) ?_
  refine z_aload_n (n := 84) dX7_image_83 rfl 0 rfl rfl ?_
  refine z_getRS (n := 87) dX7_image_84 rfl zok6 fX7_62 rfl hM.1 (Or.inl (by decide)) (mF_13 hM) ?_
  obtain ⟨I_20, c_19, hF⟩ := zb1_some hF
  refine z_cS (n := 90) (st := []) (C_X7_copyTo htr (mK_62 hM) (by decide) (mK_13 hM) (by decide) c_19) dX7_image_87 rfl (lw_S q2283 q2284 q131 q2285) hcee_X7_copyTo rfl (by decide) rfl (Nat.le_of_ble_eq_true rfl) (Nat.le_refl _) (Nat.le_refl _) ?_
  have hF := Option.some.inj hF; subst hF
  exact z_vret dX7_image_90 rfl ⟨rfl, rfl, rfl, rfl, rfl⟩
abbrev MX7_restore : zM := (RX7, cX7_restore, 1, (some .boolean), "restore", [])
noncomputable def F_X7_restore (I : zId) : Option (Int32 × zId) := zlet (zu I 1860 1 0) (fun I_1 => if ¬ (I_1 1860 54) = 0 then zlet (zu I_1 1860 37 (I_1 1860 55)) (fun I_3 => zlet (zu I_3 1860 38 (I_3 1860 56)) (fun I_5 => zb1 (F_X7_unpack 1896 57 0 I_5) (fun I_8 => zb1 (F_X7_copyTo 1883 2280 1897 2280 I_8) (fun I_10 => zb1 (F_X7_copyTo 1890 8 1898 8 I_10) (fun I_12 => zb1 (F_X7_copyTo 1891 8 1899 8 I_12) (fun I_14 => zb1 (F_X7_copyTo 1892 8 1900 8 I_14) (fun I_16 => zb1 (F_X7_copyTo 1873 3 1901 3 I_16) (fun I_18 => some (1, I_18))))))))) else some (0, I_1))
set_option maxHeartbeats 1000000 in
theorem C_X7_restore {l : Launch} {G : zGt} (htr : l.stackTraces = false) {K : zKd} {F : zFd} {L : zLd} (hM : zMLay K F) {I : zId} {r : Int32 × zId} (hF : F_X7_restore I = some r) : zMet l G yX7_restore (ws_ yX7_restore cX7_restore 1 (some .boolean)) 1 24 0 0 [.ref 1860] K F I L (zQe (.inl (some (.int r.1))) K F r.2 L) := by
  refine zMet.of (by decide +kernel) htr (Nat.le_of_ble_eq_true rfl) ?_
  change zW l G MX7_restore 1 24 0 0 0 [(0, .ref 1860)] [] K F I L (zQe (.inl (some (.int r.1))) K F r.2 L)
  unfold F_X7_restore at hF
  refine z_aload_n (n := 1) dX7_restore_0 rfl 0 rfl rfl ?_
  refine z_iconst (n := 2) (v := 0) dX7_restore_1 rfl (by decide) ?_
  obtain ⟨I_1, e_2, hF⟩ := zlet_ob hF
  refine z_putIE (n := 5) dX7_restore_2 rfl zok6 fX7_150 (Or.inl ⟨_, rfl, rfl⟩) rfl ⟨rfl, rfl⟩ hM.1 (by decide) e_2 ?_
  refine z_aload_n (n := 6) dX7_restore_5 rfl 0 rfl rfl ?_
  refine z_getI (n := 9) dX7_restore_6 rfl zok6 fX7_330 rfl hM.1 (Or.inl (by decide)) ?_
  refine z_if_ne (n := 12) (t := 14) dX7_restore_9 rfl (by decide) (fun hc => ?_) (fun hc => ?_)
  · replace hF := (if_pos hc).symm.trans hF
    refine z_aload_n (n := 15) dX7_restore_14 rfl 0 rfl rfl ?_
    refine z_aload_n (n := 16) dX7_restore_15 rfl 0 rfl rfl ?_
    refine z_getI (n := 19) dX7_restore_16 rfl zok6 fX7_463 rfl hM.1 (Or.inl (by decide)) ?_
    obtain ⟨I_3, e_4, hF⟩ := zlet_ob hF
    refine z_putIE (n := 22) dX7_restore_19 rfl zok6 fX7_324 (Or.inl ⟨_, rfl, rfl⟩) rfl ⟨rfl, rfl⟩ hM.1 (by decide) e_4 ?_
    refine z_aload_n (n := 23) dX7_restore_22 rfl 0 rfl rfl ?_
    refine z_aload_n (n := 24) dX7_restore_23 rfl 0 rfl rfl ?_
    refine z_getI (n := 27) dX7_restore_24 rfl zok6 fX7_466 rfl hM.1 (Or.inl (by decide)) ?_
    obtain ⟨I_5, e_6, hF⟩ := zlet_ob hF
    refine z_putIE (n := 30) dX7_restore_27 rfl zok6 fX7_327 (Or.inl ⟨_, rfl, rfl⟩) rfl ⟨rfl, rfl⟩ hM.1 (by decide) e_6 ?_
    refine z_aload_n (n := 31) dX7_restore_30 rfl 0 rfl rfl ?_
    refine z_aload_n (n := 32) dX7_restore_31 rfl 0 rfl rfl ?_
    refine z_getRS (n := 35) dX7_restore_32 rfl zok6 fX7_132 rfl hM.1 (Or.inl (by decide)) (mF_57 hM) ?_
    refine z_iconst (n := 36) (v := 0) dX7_restore_35 rfl (by decide) ?_
    obtain ⟨I_8, c_7, hF⟩ := zb1_some hF
    refine z_cV (n := 39) (st := []) (C_X7_unpack htr hM (mK_57 hM) (by decide) c_7) dX7_restore_36 rfl (lw_V q2135 q2137 qs91 q131 q2138) hcee_X7_unpack rfl (by decide) hM.1 rfl rfl rfl (Nat.le_of_ble_eq_true rfl) (Nat.le_refl _) (Nat.le_refl _) ?_
    refine z_aload_n (n := 40) dX7_restore_39 rfl 0 rfl rfl ?_
    refine z_getRS (n := 43) dX7_restore_40 rfl zok6 fX7_93 rfl hM.1 (Or.inl (by decide)) (mF_33 hM) ?_
    refine z_aload_n (n := 44) dX7_restore_43 rfl 0 rfl rfl ?_
    refine z_getRS (n := 47) dX7_restore_44 rfl zok6 fX7_135 rfl hM.1 (Or.inl (by decide)) (mF_58 hM) ?_
    obtain ⟨I_10, c_9, hF⟩ := zb1_some hF
    refine z_cS (n := 50) (st := []) (C_X7_copyTo htr (mK_33 hM) (by decide) (mK_58 hM) (by decide) c_9) dX7_restore_47 rfl (lw_S q2283 q2284 q131 q2285) hcee_X7_copyTo rfl (by decide) rfl (Nat.le_of_ble_eq_true rfl) (Nat.le_refl _) (Nat.le_refl _) ?_
    refine z_aload_n (n := 51) dX7_restore_50 rfl 0 rfl rfl ?_
    refine z_getRS (n := 54) dX7_restore_51 rfl zok6 fX7_114 rfl hM.1 (Or.inl (by decide)) (mF_46 hM) ?_
    refine z_aload_n (n := 55) dX7_restore_54 rfl 0 rfl rfl ?_
    refine z_getRS (n := 58) dX7_restore_55 rfl zok6 fX7_138 rfl hM.1 (Or.inl (by decide)) (mF_59 hM) ?_
    obtain ⟨I_12, c_11, hF⟩ := zb1_some hF
    refine z_cS (n := 61) (st := []) (C_X7_copyTo htr (mK_46 hM) (by decide) (mK_59 hM) (by decide) c_11) dX7_restore_58 rfl (lw_S q2283 q2284 q131 q2285) hcee_X7_copyTo rfl (by decide) rfl (Nat.le_of_ble_eq_true rfl) (Nat.le_refl _) (Nat.le_refl _) ?_
    refine z_aload_n (n := 62) dX7_restore_61 rfl 0 rfl rfl ?_
    refine z_getRS (n := 65) dX7_restore_62 rfl zok6 fX7_117 rfl hM.1 (Or.inl (by decide)) (mF_47 hM) ?_
    refine z_aload_n (n := 66) dX7_restore_65 rfl 0 rfl rfl ?_
    refine z_getRS (n := 69) dX7_restore_66 rfl zok6 fX7_141 rfl hM.1 (Or.inl (by decide)) (mF_60 hM) ?_
    obtain ⟨I_14, c_13, hF⟩ := zb1_some hF
    refine z_cS (n := 72) (st := []) (C_X7_copyTo htr (mK_47 hM) (by decide) (mK_60 hM) (by decide) c_13) dX7_restore_69 rfl (lw_S q2283 q2284 q131 q2285) hcee_X7_copyTo rfl (by decide) rfl (Nat.le_of_ble_eq_true rfl) (Nat.le_refl _) (Nat.le_refl _) ?_
    refine z_aload_n (n := 73) dX7_restore_72 rfl 0 rfl rfl ?_
    refine z_getRS (n := 76) dX7_restore_73 rfl zok6 fX7_120 rfl hM.1 (Or.inl (by decide)) (mF_48 hM) ?_
    refine z_aload_n (n := 77) dX7_restore_76 rfl 0 rfl rfl ?_
    refine z_getRS (n := 80) dX7_restore_77 rfl zok6 fX7_144 rfl hM.1 (Or.inl (by decide)) (mF_61 hM) ?_
    obtain ⟨I_16, c_15, hF⟩ := zb1_some hF
    refine z_cS (n := 83) (st := []) (C_X7_copyTo htr (mK_48 hM) (by decide) (mK_61 hM) (by decide) c_15) dX7_restore_80 rfl (lw_S q2283 q2284 q131 q2285) hcee_X7_copyTo rfl (by decide) rfl (Nat.le_of_ble_eq_true rfl) (Nat.le_refl _) (Nat.le_refl _) ?_
    refine z_aload_n (n := 84) dX7_restore_83 rfl 0 rfl rfl ?_
    refine z_getRS (n := 87) dX7_restore_84 rfl zok6 fX7_62 rfl hM.1 (Or.inl (by decide)) (mF_13 hM) ?_
    refine z_aload_n (n := 88) dX7_restore_87 rfl 0 rfl rfl ?_
    refine z_getRS (n := 91) dX7_restore_88 rfl zok6 fX7_147 rfl hM.1 (Or.inl (by decide)) (mF_62 hM) ?_
    obtain ⟨I_18, c_17, hF⟩ := zb1_some hF
    refine z_cS (n := 94) (st := []) (C_X7_copyTo htr (mK_13 hM) (by decide) (mK_62 hM) (by decide) c_17) dX7_restore_91 rfl (lw_S q2283 q2284 q131 q2285) hcee_X7_copyTo rfl (by decide) rfl (Nat.le_of_ble_eq_true rfl) (Nat.le_refl _) (Nat.le_refl _) ?_
    refine z_iconst (n := 95) (v := 1) dX7_restore_94 rfl (by decide) ?_
    have hF := Option.some.inj hF; subst hF
    exact z_iret dX7_restore_95 rfl rfl ⟨rfl, rfl, rfl, rfl, rfl⟩
  · replace hF := (if_neg hc).symm.trans hF
    refine z_iconst (n := 13) (v := 0) dX7_restore_12 rfl (by decide) ?_
    have hF := Option.some.inj hF; subst hF
    exact z_iret dX7_restore_13 rfl rfl ⟨rfl, rfl, rfl, rfl, rfl⟩
