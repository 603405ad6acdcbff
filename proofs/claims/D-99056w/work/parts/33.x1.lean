theorem fX1_10_0 : zFld RX1 10 0 0 := ⟨_, rfl, by decide, _, Or.inl q733, Or.inl rfl⟩
theorem fX1_68_1 : zFld RX1 68 1 5 := ⟨_, rfl, by decide, _, Or.inr ⟨_, q542⟩, Or.inl rfl⟩
abbrev MX1_bands : zM := (RX1, cX1_bands, 1, (some .int), "bands", [])
noncomputable def F_X1_bands (K : zKd) (F : zFd) (o0 : Nat) (I : zId) : Option (Int32) := zka K o0 0 (fun n_1 => zg (decide (600 ≤ o0)) (zb1 (F o0 0) (fun o_4 => zka K o_4 1 (fun n_6 => zg (decide (600 ≤ o_4)) (zb1 (F o_4 5) (fun o_9 => zka K o_9 2 (fun n_11 => zb1 (F_J2_size K F o_9 I) (fun x_14 => some x_14))))))))
set_option maxHeartbeats 1000000 in
theorem C_X1_bands {l : Launch} {G : zGt} (htr : l.stackTraces = false) {K : zKd} {F : zFd} {L : zLd} {o0 : Nat} {I : zId} {r : Int32} (hF : F_X1_bands K F o0 I = some r) : zMet l G yX1_bands (ws_ yX1_bands cX1_bands 1 (some .int)) 1 20 0 0 [.ref o0] K F I L (zQe (.inl (some (.int r))) K F I L) := by
  refine zMet.of (by decide +kernel) htr (Nat.le_of_ble_eq_true rfl) ?_
  change zW l G MX1_bands 1 20 0 0 0 [(0, .ref o0)] [] K F I L (zQe (.inl (some (.int r))) K F I L)
  unfold F_X1_bands at hF
  refine z_aload_n (n := 1) dX1_bands_0 rfl 0 rfl rfl ?_
  obtain ⟨n_1, hk_2, hF⟩ := zka_some hF
  obtain ⟨hb_3, hF⟩ := zg_some hF
  obtain ⟨o_4, hr_5, hF⟩ := zb1_some hF
  refine z_getRS (n := 4) dX1_bands_1 rfl zok0 fX1_10_0 rfl hk_2 (Or.inl (zbig hb_3)) hr_5 ?_
  obtain ⟨n_6, hk_7, hF⟩ := zka_some hF
  obtain ⟨hb_8, hF⟩ := zg_some hF
  obtain ⟨o_9, hr_10, hF⟩ := zb1_some hF
  refine z_getRS (n := 7) dX1_bands_4 rfl zok1 fX1_68_1 rfl hk_7 (Or.inl (zbig hb_8)) hr_10 ?_
  obtain ⟨n_11, hk_12, hF⟩ := zka_some hF
  obtain ⟨x_14, c_13, hF⟩ := zb1_some hF
  refine z_cV (n := 10) (st := []) (C_J2_size htr c_13) dX1_bands_7 rfl (lw_V q927 q834 q835 q109 q836) hcee_J2_size rfl (by decide) hk_12 rfl rfl rfl (Nat.le_of_ble_eq_true rfl) (Nat.le_refl _) (Nat.le_refl _) ?_
  have hF := Option.some.inj hF; subst hF
  exact z_iret dX1_bands_10 rfl rfl ⟨rfl, rfl, rfl, rfl, rfl⟩
theorem zthr_X1_there_4 {l : Launch} {G : zGt} {fr lo mc ms : Nat} {lv : List (Nat × Value)} {K : zKd} {F : zFd} {I : zId} {L : zLd} {Q : zQt} (hfr : 8 ≤ fr) (hlo : 200 ≤ lo) (hmc : 1 ≤ mc) (hms : 6 ≤ ms) (hQ : Q (.inr ("java/util/NoSuchElementException", 0)) K F I L) : zW l G (RX1, cX1_there, 1, none, "there", []) fr lo mc ms 4 lv [] K F I L Q := by
  refine z_throw0 (cls := "java/util/NoSuchElementException") (names := ["java/lang/RuntimeException", "java/lang/Exception"]) (ik := 55) (ic := 57) (by decide +kernel) (by decide +kernel) q1370 q144 ?_ ?_ dX1_there_4 dX1_there_7 dX1_there_8 dX1_there_11 rfl ?_ ?_ hmc hms (by decide) hQ
  · exact zatt (by decide +kernel)
  · exact List.all_eq_true.mp (by decide +kernel)
  · exact Nat.lt_of_lt_of_le (by decide) hfr
  · exact Nat.le_trans (by decide) hlo
abbrev MX1_there : zM := (RX1, cX1_there, 1, none, "there", [])
noncomputable def F_X1_there (K : zKd) (F : zFd) (a0 : Int32) (I : zId) : Option ((Unit ⊕ (String × Nat)) × zId) := if ¬ a0 = 0 then some (.inl (), I) else some (.inr ("java/util/NoSuchElementException", 0), I)
set_option maxHeartbeats 1000000 in
theorem C_X1_there {l : Launch} {G : zGt} (htr : l.stackTraces = false) {K : zKd} {F : zFd} {L : zLd} {a0 : Int32} {I : zId} {r : (Unit ⊕ (String × Nat)) × zId} (hF : F_X1_there K F a0 I = some r) : zMet l G yX1_there (ws_ yX1_there cX1_there 1 none) 8 200 (zxc r.1) (zxs r.1) [.int a0] K F I L (zQe (zov r.1) K F r.2 L) := by
  refine zMet.of (by decide +kernel) htr (Nat.le_of_ble_eq_true rfl) ?_
  change zW l G MX1_there 8 200 (zxc r.1) (zxs r.1) 0 [(0, .int a0)] [] K F I L (zQe (zov r.1) K F r.2 L)
  unfold F_X1_there at hF
  refine z_iload_n (n := 1) dX1_there_0 rfl 0 rfl rfl ?_
  refine z_if_ne (n := 4) (t := 12) dX1_there_1 rfl (by decide) (fun hc => ?_) (fun hc => ?_)
  · replace hF := (if_pos hc).symm.trans hF
    have hF := Option.some.inj hF; subst hF
    exact z_vret dX1_there_12 rfl ⟨rfl, rfl, rfl, rfl, rfl⟩
  · replace hF := (if_neg hc).symm.trans hF
    have hF := Option.some.inj hF; subst hF
    exact zthr_X1_there_4 (by decide) (by decide) (Nat.le_refl _) (Nat.le_refl _) ⟨rfl, rfl, rfl, rfl, rfl⟩
theorem hcee_X1_bands : zCee yX1_bands RX1 0 := ⟨rfl, by decide +kernel, by decide +kernel, by decide +kernel⟩
theorem hcee_X1_there : zCee yX1_there RX1 1 := ⟨rfl, by decide +kernel, by decide +kernel, by decide +kernel⟩
abbrev MX1_bandAt : zM := (RX1, cX1_bandAt, 2, none, "bandAt", [])
noncomputable def F_X1_bandAt (K : zKd) (F : zFd) (o0 : Nat) (a0 : Int32) (I : zId) : Option ((Unit ⊕ (String × Nat)) × zId) := if a0 < 0 then zb2 (F_X1_there K F 0 I) (fun s_2 I_3 => zsum s_2 (fun x_5 => some (.inl (), I_3)) (fun w_6 => some (.inr w_6, I_3))) else zka K o0 0 (fun n_7 => zb1 (F_X1_bands K F o0 I) (fun x_10 => if x_10 ≤ a0 then zb2 (F_X1_there K F 0 I) (fun s_12 I_13 => zsum s_12 (fun x_15 => some (.inl (), I_13)) (fun w_16 => some (.inr w_16, I_13))) else zb2 (F_X1_there K F 1 I) (fun s_18 I_19 => zsum s_18 (fun x_21 => some (.inl (), I_19)) (fun w_22 => some (.inr w_22, I_19)))))
set_option maxHeartbeats 1000000 in
theorem C_X1_bandAt {l : Launch} {G : zGt} (htr : l.stackTraces = false) {K : zKd} {F : zFd} {L : zLd} {o0 : Nat} {a0 : Int32} {I : zId} {r : (Unit ⊕ (String × Nat)) × zId} (hF : F_X1_bandAt K F o0 a0 I = some r) : zMet l G yX1_bandAt (ws_ yX1_bandAt cX1_bandAt 2 none) 9 220 (zxc r.1) (zxs r.1) [.ref o0, .int a0] K F I L (zQe (zov r.1) K F r.2 L) := by
  refine zMet.of (by decide +kernel) htr (Nat.le_of_ble_eq_true rfl) ?_
  change zW l G MX1_bandAt 9 220 (zxc r.1) (zxs r.1) 0 [(0, .ref o0), (1, .int a0)] [] K F I L (zQe (zov r.1) K F r.2 L)
  unfold F_X1_bandAt at hF
  refine z_iload_n (n := 1) dX1_bandAt_0 rfl 1 rfl rfl ?_
  refine z_if_lt (n := 4) (t := 16) dX1_bandAt_1 rfl (by decide) (fun hc => ?_) (fun hc => ?_)
  · replace hF := (if_pos hc).symm.trans hF
    refine z_iconst (n := 17) (v := 0) dX1_bandAt_16 rfl (by decide) ?_
    obtain ⟨s_2, I_3, c_1, hF⟩ := zb2_some hF
    rcases zsum_some hF with ⟨x_5, e_4, hF⟩ | ⟨w_6, e_4, hF⟩
    rotate_left
    · first | rw [e_4] at c_1 ⊢ | rw [e_4] at c_1
      have hF := Option.some.inj hF; subst hF
      refine z_cSx (n := 20) (mc2 := 0) (ms2 := 0) (st := []) (C_X1_there htr c_1) dX1_bandAt_17 rfl (lw_S q1367 q1368 q105 q1369) hcee_X1_there rfl (by decide) rfl (Nat.le_of_ble_eq_true rfl) (Nat.le_refl _) (Nat.le_refl _) ?_
      exact z_out rfl ⟨rfl, rfl, rfl, rfl, rfl⟩
    first | rw [e_4] at c_1 ⊢ | rw [e_4] at c_1
    refine z_cS (n := 20) (st := []) (C_X1_there htr c_1) dX1_bandAt_17 rfl (lw_S q1367 q1368 q105 q1369) hcee_X1_there rfl (by decide) rfl (Nat.le_of_ble_eq_true rfl) (Nat.le_refl _) (Nat.le_refl _) ?_
    have hF := Option.some.inj hF; subst hF
    exact z_vret dX1_bandAt_20 rfl ⟨rfl, rfl, rfl, rfl, rfl⟩
  · replace hF := (if_neg hc).symm.trans hF
    refine z_iload_n (n := 5) dX1_bandAt_4 rfl 1 rfl rfl ?_
    refine z_aload_n (n := 6) dX1_bandAt_5 rfl 0 rfl rfl ?_
    obtain ⟨n_7, hk_8, hF⟩ := zka_some hF
    obtain ⟨x_10, c_9, hF⟩ := zb1_some hF
    refine z_cV (n := 9) (st := [.int a0]) (C_X1_bands htr c_9) dX1_bandAt_6 rfl (lw_V q1385 q1387 qs30 q105 q1388) hcee_X1_bands rfl (by decide) hk_8 rfl rfl rfl (Nat.le_of_ble_eq_true rfl) (Nat.le_refl _) (Nat.le_refl _) ?_
    refine z_icmp_ge (n := 12) (t := 16) dX1_bandAt_9 rfl (by decide) (fun hc => ?_) (fun hc => ?_)
    · replace hF := (if_pos hc).symm.trans hF
      refine z_iconst (n := 17) (v := 0) dX1_bandAt_16 rfl (by decide) ?_
      obtain ⟨s_12, I_13, c_11, hF⟩ := zb2_some hF
      rcases zsum_some hF with ⟨x_15, e_14, hF⟩ | ⟨w_16, e_14, hF⟩
      rotate_left
      · first | rw [e_14] at c_11 ⊢ | rw [e_14] at c_11
        have hF := Option.some.inj hF; subst hF
        refine z_cSx (n := 20) (mc2 := 0) (ms2 := 0) (st := []) (C_X1_there htr c_11) dX1_bandAt_17 rfl (lw_S q1367 q1368 q105 q1369) hcee_X1_there rfl (by decide) rfl (Nat.le_of_ble_eq_true rfl) (Nat.le_refl _) (Nat.le_refl _) ?_
        exact z_out rfl ⟨rfl, rfl, rfl, rfl, rfl⟩
      first | rw [e_14] at c_11 ⊢ | rw [e_14] at c_11
      refine z_cS (n := 20) (st := []) (C_X1_there htr c_11) dX1_bandAt_17 rfl (lw_S q1367 q1368 q105 q1369) hcee_X1_there rfl (by decide) rfl (Nat.le_of_ble_eq_true rfl) (Nat.le_refl _) (Nat.le_refl _) ?_
      have hF := Option.some.inj hF; subst hF
      exact z_vret dX1_bandAt_20 rfl ⟨rfl, rfl, rfl, rfl, rfl⟩
    · replace hF := (if_neg hc).symm.trans hF
      refine z_iconst (n := 13) (v := 1) dX1_bandAt_12 rfl (by decide) ?_
      refine z_goto (t := 17) dX1_bandAt_13 (by decide) ?_
      obtain ⟨s_18, I_19, c_17, hF⟩ := zb2_some hF
      rcases zsum_some hF with ⟨x_21, e_20, hF⟩ | ⟨w_22, e_20, hF⟩
      rotate_left
      · first | rw [e_20] at c_17 ⊢ | rw [e_20] at c_17
        have hF := Option.some.inj hF; subst hF
        refine z_cSx (n := 20) (mc2 := 0) (ms2 := 0) (st := []) (C_X1_there htr c_17) dX1_bandAt_17 rfl (lw_S q1367 q1368 q105 q1369) hcee_X1_there rfl (by decide) rfl (Nat.le_of_ble_eq_true rfl) (Nat.le_refl _) (Nat.le_refl _) ?_
        exact z_out rfl ⟨rfl, rfl, rfl, rfl, rfl⟩
      first | rw [e_20] at c_17 ⊢ | rw [e_20] at c_17
      refine z_cS (n := 20) (st := []) (C_X1_there htr c_17) dX1_bandAt_17 rfl (lw_S q1367 q1368 q105 q1369) hcee_X1_there rfl (by decide) rfl (Nat.le_of_ble_eq_true rfl) (Nat.le_refl _) (Nat.le_refl _) ?_
      have hF := Option.some.inj hF; subst hF
      exact z_vret dX1_bandAt_20 rfl ⟨rfl, rfl, rfl, rfl, rfl⟩
abbrev MX1_within : zM := (RX1, cX1_within, 3, (some .boolean), "within", [])
noncomputable def F_X1_within (K : zKd) (F : zFd) (a0 : Int32) (a1 : Int32) (a2 : Int32) (I : zId) : Option (Int32) := if a0 < a1 then some 0 else if a2 < a0 then some 0 else some 1
set_option maxHeartbeats 1000000 in
theorem C_X1_within {l : Launch} {G : zGt} (htr : l.stackTraces = false) {K : zKd} {F : zFd} {L : zLd} {a0 : Int32} {a1 : Int32} {a2 : Int32} {I : zId} {r : Int32} (hF : F_X1_within K F a0 a1 a2 I = some r) : zMet l G yX1_within (ws_ yX1_within cX1_within 3 (some .boolean)) 0 0 0 0 [.int a0, .int a1, .int a2] K F I L (zQe (.inl (some (.int r))) K F I L) := by
  refine zMet.of (by decide +kernel) htr (Nat.le_of_ble_eq_true rfl) ?_
  change zW l G MX1_within 0 0 0 0 0 [(0, .int a0), (1, .int a1), (2, .int a2)] [] K F I L (zQe (.inl (some (.int r))) K F I L)
  unfold F_X1_within at hF
  refine z_iload_n (n := 1) dX1_within_0 rfl 0 rfl rfl ?_
  refine z_iload_n (n := 2) dX1_within_1 rfl 1 rfl rfl ?_
  refine z_icmp_lt (n := 5) (t := 14) dX1_within_2 rfl (by decide) (fun hc => ?_) (fun hc => ?_)
  · replace hF := (if_pos hc).symm.trans hF
    refine z_iconst (n := 15) (v := 0) dX1_within_14 rfl (by decide) ?_
    have hF := Option.some.inj hF; subst hF
    exact z_iret dX1_within_15 rfl rfl ⟨rfl, rfl, rfl, rfl, rfl⟩
  · replace hF := (if_neg hc).symm.trans hF
    refine z_iload_n (n := 6) dX1_within_5 rfl 0 rfl rfl ?_
    refine z_iload_n (n := 7) dX1_within_6 rfl 2 rfl rfl ?_
    refine z_icmp_gt (n := 10) (t := 14) dX1_within_7 rfl (by decide) (fun hc => ?_) (fun hc => ?_)
    · replace hF := (if_pos hc).symm.trans hF
      refine z_iconst (n := 15) (v := 0) dX1_within_14 rfl (by decide) ?_
      have hF := Option.some.inj hF; subst hF
      exact z_iret dX1_within_15 rfl rfl ⟨rfl, rfl, rfl, rfl, rfl⟩
    · replace hF := (if_neg hc).symm.trans hF
      refine z_iconst (n := 11) (v := 1) dX1_within_10 rfl (by decide) ?_
      refine z_goto (t := 15) dX1_within_11 (by decide) ?_
      have hF := Option.some.inj hF; subst hF
      exact z_iret dX1_within_15 rfl rfl ⟨rfl, rfl, rfl, rfl, rfl⟩
theorem fX1_30_0 : zFld RX1 30 0 3 := ⟨_, rfl, by decide, _, Or.inl q736, Or.inl rfl⟩
theorem fX1_165_5 : zFld RX1 165 5 4 := ⟨_, rfl, by decide, _, Or.inr ⟨_, q598⟩, Or.inl rfl⟩
theorem fX1_200_5 : zFld RX1 200 5 3 := ⟨_, rfl, by decide, _, Or.inr ⟨_, q596⟩, Or.inl rfl⟩
theorem fX1_203_5 : zFld RX1 203 5 5 := ⟨_, rfl, by decide, _, Or.inr ⟨_, q600⟩, Or.inl rfl⟩
theorem fX1_206_5 : zFld RX1 206 5 6 := ⟨_, rfl, by decide, _, Or.inr ⟨_, q602⟩, Or.inl rfl⟩
theorem fX1_209_5 : zFld RX1 209 5 7 := ⟨_, rfl, by decide, _, Or.inr ⟨_, q604⟩, Or.inl rfl⟩
theorem fX1_212_5 : zFld RX1 212 5 8 := ⟨_, rfl, by decide, _, Or.inr ⟨_, q606⟩, Or.inl rfl⟩
theorem hcee_X1_bandAt : zCee yX1_bandAt RX1 1 := ⟨rfl, by decide +kernel, by decide +kernel, by decide +kernel⟩
theorem hcee_X1_within : zCee yX1_within RX1 3 := ⟨rfl, by decide +kernel, by decide +kernel, by decide +kernel⟩
abbrev MX1_band : zM := (RX1, cX1_band, 3, (some .int), "band", [])
noncomputable def F_X1_band (K : zKd) (F : zFd) (o0 : Nat) (a0 : Int32) (a1 : Int32) (I : zId) : Option ((Int32 ⊕ (String × Nat)) × zId) := zka K o0 0 (fun n_1 => zb2 (F_X1_bandAt K F o0 a0 I) (fun s_4 I_5 => zsum s_4 (fun x_7 => zb1 (F_X1_within K F a1 0 6 I_5) (fun x_10 => zb2 (F_X1_there K F x_10 I_5) (fun s_12 I_13 => zsum s_12 (fun x_15 => if a1 = 0 then zg (decide (600 ≤ o0)) (zb1 (F o0 3) (fun o_18 => zka K o_18 5 (fun n_20 => zg (decide (600 ≤ o_18)) (zb1 (F o_18 3) (fun o_23 => zka K o_23 64 (fun n_25 => zg (zin a0 n_25) (some (.inl (I_13 o_23 a0.toNatClampNeg), I_13)))))))) else if a1 = 1 then zg (decide (600 ≤ o0)) (zb1 (F o0 3) (fun o_29 => zka K o_29 5 (fun n_31 => zg (decide (600 ≤ o_29)) (zb1 (F o_29 4) (fun o_34 => zka K o_34 64 (fun n_36 => zg (zin a0 n_36) (some (.inl (I_13 o_34 a0.toNatClampNeg), I_13)))))))) else if a1 = 2 then zg (decide (600 ≤ o0)) (zb1 (F o0 3) (fun o_40 => zka K o_40 5 (fun n_42 => zg (decide (600 ≤ o_40)) (zb1 (F o_40 5) (fun o_45 => zka K o_45 64 (fun n_47 => zg (zin a0 n_47) (some (.inl (I_13 o_45 a0.toNatClampNeg), I_13)))))))) else if a1 = 3 then zg (decide (600 ≤ o0)) (zb1 (F o0 3) (fun o_51 => zka K o_51 5 (fun n_53 => zg (decide (600 ≤ o_51)) (zb1 (F o_51 6) (fun o_56 => zka K o_56 64 (fun n_58 => zg (zin a0 n_58) (some (.inl (I_13 o_56 a0.toNatClampNeg), I_13)))))))) else if a1 = 4 then zg (decide (600 ≤ o0)) (zb1 (F o0 3) (fun o_62 => zka K o_62 5 (fun n_64 => zg (decide (600 ≤ o_62)) (zb1 (F o_62 7) (fun o_67 => zka K o_67 64 (fun n_69 => zg (zin a0 n_69) (some (.inl (I_13 o_67 a0.toNatClampNeg), I_13)))))))) else if a1 = 5 then zg (decide (600 ≤ o0)) (zb1 (F o0 3) (fun o_73 => zka K o_73 5 (fun n_75 => zg (decide (600 ≤ o_73)) (zb1 (F o_73 8) (fun o_78 => zka K o_78 64 (fun n_80 => zg (zin a0 n_80) (some (.inl (I_13 o_78 a0.toNatClampNeg), I_13)))))))) else zg (decide (600 ≤ o0)) (zb1 (F o0 3) (fun o_84 => zb1 (F o0 0) (fun o_86 => zka K o_84 5 (fun n_88 => zb2 (F_X6_takes K F o_84 o_86 a0 I_13) (fun x_91 I_92 => some (.inl x_91, I_92))))))) (fun w_16 => some (.inr w_16, I_13))))) (fun w_8 => some (.inr w_8, I_5))))
set_option maxHeartbeats 1000000 in
theorem C_X1_band {l : Launch} {G : zGt} (htr : l.stackTraces = false) {K : zKd} {F : zFd} {L : zLd} {o0 : Nat} {a0 : Int32} {a1 : Int32} {I : zId} {r : (Int32 ⊕ (String × Nat)) × zId} (hF : F_X1_band K F o0 a0 a1 I = some r) : zMet l G yX1_band (ws_ yX1_band cX1_band 3 (some .int)) 1003 24024 (zxc r.1) (zxs r.1) [.ref o0, .int a0, .int a1] K F I L (zQe (zoi r.1) K F r.2 L) := by
  refine zMet.of (by decide +kernel) htr (Nat.le_of_ble_eq_true rfl) ?_
  change zW l G MX1_band 1003 24024 (zxc r.1) (zxs r.1) 0 [(0, .ref o0), (1, .int a0), (2, .int a1)] [] K F I L (zQe (zoi r.1) K F r.2 L)
  unfold F_X1_band at hF
  refine z_aload_n (n := 1) dX1_band_0 rfl 0 rfl rfl ?_
  refine z_iload_n (n := 2) dX1_band_1 rfl 1 rfl rfl ?_
  obtain ⟨n_1, hk_2, hF⟩ := zka_some hF
  obtain ⟨s_4, I_5, c_3, hF⟩ := zb2_some hF
  rcases zsum_some hF with ⟨x_7, e_6, hF⟩ | ⟨w_8, e_6, hF⟩
  rotate_left
  · first | rw [e_6] at c_3 ⊢ | rw [e_6] at c_3
    have hF := Option.some.inj hF; subst hF
    refine z_cVx (n := 5) (mc2 := 0) (ms2 := 0) (st := []) (C_X1_bandAt htr c_3) dX1_band_2 rfl (lw_V q1421 q1423 qs34 q105 q1424) hcee_X1_bandAt rfl (by decide) hk_2 rfl rfl rfl (Nat.le_of_ble_eq_true rfl) (Nat.le_refl _) (Nat.le_refl _) ?_
    exact z_out rfl ⟨rfl, rfl, rfl, rfl, rfl⟩
  first | rw [e_6] at c_3 ⊢ | rw [e_6] at c_3
  refine z_cV (n := 5) (st := []) (C_X1_bandAt htr c_3) dX1_band_2 rfl (lw_V q1421 q1423 qs34 q105 q1424) hcee_X1_bandAt rfl (by decide) hk_2 rfl rfl rfl (Nat.le_of_ble_eq_true rfl) (Nat.le_refl _) (Nat.le_refl _) ?_
  refine z_iload_n (n := 6) dX1_band_5 rfl 2 rfl rfl ?_
  refine z_iconst (n := 7) (v := 0) dX1_band_6 rfl (by decide) ?_
  refine z_bipush (n := 9) (v := 6) dX1_band_7 rfl (by decide) ?_
  obtain ⟨x_10, c_9, hF⟩ := zb1_some hF
  refine z_cS (n := 12) (st := []) (C_X1_within htr c_9) dX1_band_9 rfl (lw_S q786 q787 q105 q788) hcee_X1_within rfl (by decide) rfl (Nat.le_of_ble_eq_true rfl) (Nat.le_refl _) (Nat.le_refl _) ?_
  obtain ⟨s_12, I_13, c_11, hF⟩ := zb2_some hF
  rcases zsum_some hF with ⟨x_15, e_14, hF⟩ | ⟨w_16, e_14, hF⟩
  rotate_left
  · first | rw [e_14] at c_11 ⊢ | rw [e_14] at c_11
    have hF := Option.some.inj hF; subst hF
    refine z_cSx (n := 15) (mc2 := 0) (ms2 := 0) (st := []) (C_X1_there htr c_11) dX1_band_12 rfl (lw_S q1367 q1368 q105 q1369) hcee_X1_there rfl (by decide) rfl (Nat.le_of_ble_eq_true rfl) (Nat.le_refl _) (Nat.le_refl _) ?_
    exact z_out rfl ⟨rfl, rfl, rfl, rfl, rfl⟩
  first | rw [e_14] at c_11 ⊢ | rw [e_14] at c_11
  refine z_cS (n := 15) (st := []) (C_X1_there htr c_11) dX1_band_12 rfl (lw_S q1367 q1368 q105 q1369) hcee_X1_there rfl (by decide) rfl (Nat.le_of_ble_eq_true rfl) (Nat.le_refl _) (Nat.le_refl _) ?_
  refine z_iload_n (n := 16) dX1_band_15 rfl 2 rfl rfl ?_
  by_cases ht0 : a1 = 0
  · replace hF := (if_pos ht0).symm.trans hF
    refine z_tableIn (off := 40) (t := 56) dX1_band_16 (by rw [ht0]; decide) (by rw [ht0]; decide) (by rw [ht0]; rfl) (by decide) ?_
    refine z_aload_n (n := 57) dX1_band_56 rfl 0 rfl rfl ?_
    obtain ⟨hb_17, hF⟩ := zg_some hF
    obtain ⟨o_18, hr_19, hF⟩ := zb1_some hF
    refine z_getRS (n := 60) dX1_band_57 rfl zok0 fX1_30_0 rfl hk_2 (Or.inl (zbig hb_17)) hr_19 ?_
    obtain ⟨n_20, hk_21, hF⟩ := zka_some hF
    obtain ⟨hb_22, hF⟩ := zg_some hF
    obtain ⟨o_23, hr_24, hF⟩ := zb1_some hF
    refine z_getRS (n := 63) dX1_band_60 rfl zok5 fX1_200_5 rfl hk_21 (Or.inl (zbig hb_22)) hr_24 ?_
    refine z_iload_n (n := 64) dX1_band_63 rfl 1 rfl rfl ?_
    obtain ⟨n_25, hk_26, hF⟩ := zka_some hF
    obtain ⟨h_27, hF⟩ := zg_some hF
    refine z_ialdK (n := 65) a0.toNatClampNeg rfl dX1_band_64 rfl hk_26 (zin_ok h_27) ?_
    have hF := Option.some.inj hF; subst hF
    exact z_iret dX1_band_65 rfl rfl ⟨rfl, rfl, rfl, rfl, rfl⟩
  replace hF := (if_neg ht0).symm.trans hF
  by_cases ht1 : a1 = 1
  · replace hF := (if_pos ht1).symm.trans hF
    refine z_tableIn (off := 50) (t := 66) dX1_band_16 (by rw [ht1]; decide) (by rw [ht1]; decide) (by rw [ht1]; rfl) (by decide) ?_
    refine z_aload_n (n := 67) dX1_band_66 rfl 0 rfl rfl ?_
    obtain ⟨hb_28, hF⟩ := zg_some hF
    obtain ⟨o_29, hr_30, hF⟩ := zb1_some hF
    refine z_getRS (n := 70) dX1_band_67 rfl zok0 fX1_30_0 rfl hk_2 (Or.inl (zbig hb_28)) hr_30 ?_
    obtain ⟨n_31, hk_32, hF⟩ := zka_some hF
    obtain ⟨hb_33, hF⟩ := zg_some hF
    obtain ⟨o_34, hr_35, hF⟩ := zb1_some hF
    refine z_getRS (n := 73) dX1_band_70 rfl zok5 fX1_165_5 rfl hk_32 (Or.inl (zbig hb_33)) hr_35 ?_
    refine z_iload_n (n := 74) dX1_band_73 rfl 1 rfl rfl ?_
    obtain ⟨n_36, hk_37, hF⟩ := zka_some hF
    obtain ⟨h_38, hF⟩ := zg_some hF
    refine z_ialdK (n := 75) a0.toNatClampNeg rfl dX1_band_74 rfl hk_37 (zin_ok h_38) ?_
    have hF := Option.some.inj hF; subst hF
    exact z_iret dX1_band_75 rfl rfl ⟨rfl, rfl, rfl, rfl, rfl⟩
  replace hF := (if_neg ht1).symm.trans hF
  by_cases ht2 : a1 = 2
  · replace hF := (if_pos ht2).symm.trans hF
    refine z_tableIn (off := 60) (t := 76) dX1_band_16 (by rw [ht2]; decide) (by rw [ht2]; decide) (by rw [ht2]; rfl) (by decide) ?_
    refine z_aload_n (n := 77) dX1_band_76 rfl 0 rfl rfl ?_
    obtain ⟨hb_39, hF⟩ := zg_some hF
    obtain ⟨o_40, hr_41, hF⟩ := zb1_some hF
    refine z_getRS (n := 80) dX1_band_77 rfl zok0 fX1_30_0 rfl hk_2 (Or.inl (zbig hb_39)) hr_41 ?_
    obtain ⟨n_42, hk_43, hF⟩ := zka_some hF
    obtain ⟨hb_44, hF⟩ := zg_some hF
    obtain ⟨o_45, hr_46, hF⟩ := zb1_some hF
    refine z_getRS (n := 83) dX1_band_80 rfl zok5 fX1_203_5 rfl hk_43 (Or.inl (zbig hb_44)) hr_46 ?_
    refine z_iload_n (n := 84) dX1_band_83 rfl 1 rfl rfl ?_
    obtain ⟨n_47, hk_48, hF⟩ := zka_some hF
    obtain ⟨h_49, hF⟩ := zg_some hF
    refine z_ialdK (n := 85) a0.toNatClampNeg rfl dX1_band_84 rfl hk_48 (zin_ok h_49) ?_
    have hF := Option.some.inj hF; subst hF
    exact z_iret dX1_band_85 rfl rfl ⟨rfl, rfl, rfl, rfl, rfl⟩
  replace hF := (if_neg ht2).symm.trans hF
  by_cases ht3 : a1 = 3
  · replace hF := (if_pos ht3).symm.trans hF
    refine z_tableIn (off := 70) (t := 86) dX1_band_16 (by rw [ht3]; decide) (by rw [ht3]; decide) (by rw [ht3]; rfl) (by decide) ?_
    refine z_aload_n (n := 87) dX1_band_86 rfl 0 rfl rfl ?_
    obtain ⟨hb_50, hF⟩ := zg_some hF
    obtain ⟨o_51, hr_52, hF⟩ := zb1_some hF
    refine z_getRS (n := 90) dX1_band_87 rfl zok0 fX1_30_0 rfl hk_2 (Or.inl (zbig hb_50)) hr_52 ?_
    obtain ⟨n_53, hk_54, hF⟩ := zka_some hF
    obtain ⟨hb_55, hF⟩ := zg_some hF
    obtain ⟨o_56, hr_57, hF⟩ := zb1_some hF
    refine z_getRS (n := 93) dX1_band_90 rfl zok5 fX1_206_5 rfl hk_54 (Or.inl (zbig hb_55)) hr_57 ?_
    refine z_iload_n (n := 94) dX1_band_93 rfl 1 rfl rfl ?_
    obtain ⟨n_58, hk_59, hF⟩ := zka_some hF
    obtain ⟨h_60, hF⟩ := zg_some hF
    refine z_ialdK (n := 95) a0.toNatClampNeg rfl dX1_band_94 rfl hk_59 (zin_ok h_60) ?_
    have hF := Option.some.inj hF; subst hF
    exact z_iret dX1_band_95 rfl rfl ⟨rfl, rfl, rfl, rfl, rfl⟩
  replace hF := (if_neg ht3).symm.trans hF
  by_cases ht4 : a1 = 4
  · replace hF := (if_pos ht4).symm.trans hF
    refine z_tableIn (off := 80) (t := 96) dX1_band_16 (by rw [ht4]; decide) (by rw [ht4]; decide) (by rw [ht4]; rfl) (by decide) ?_
    refine z_aload_n (n := 97) dX1_band_96 rfl 0 rfl rfl ?_
    obtain ⟨hb_61, hF⟩ := zg_some hF
    obtain ⟨o_62, hr_63, hF⟩ := zb1_some hF
    refine z_getRS (n := 100) dX1_band_97 rfl zok0 fX1_30_0 rfl hk_2 (Or.inl (zbig hb_61)) hr_63 ?_
    obtain ⟨n_64, hk_65, hF⟩ := zka_some hF
    obtain ⟨hb_66, hF⟩ := zg_some hF
    obtain ⟨o_67, hr_68, hF⟩ := zb1_some hF
    refine z_getRS (n := 103) dX1_band_100 rfl zok5 fX1_209_5 rfl hk_65 (Or.inl (zbig hb_66)) hr_68 ?_
    refine z_iload_n (n := 104) dX1_band_103 rfl 1 rfl rfl ?_
    obtain ⟨n_69, hk_70, hF⟩ := zka_some hF
    obtain ⟨h_71, hF⟩ := zg_some hF
    refine z_ialdK (n := 105) a0.toNatClampNeg rfl dX1_band_104 rfl hk_70 (zin_ok h_71) ?_
    have hF := Option.some.inj hF; subst hF
    exact z_iret dX1_band_105 rfl rfl ⟨rfl, rfl, rfl, rfl, rfl⟩
  replace hF := (if_neg ht4).symm.trans hF
  by_cases ht5 : a1 = 5
  · replace hF := (if_pos ht5).symm.trans hF
    refine z_tableIn (off := 90) (t := 106) dX1_band_16 (by rw [ht5]; decide) (by rw [ht5]; decide) (by rw [ht5]; rfl) (by decide) ?_
    refine z_aload_n (n := 107) dX1_band_106 rfl 0 rfl rfl ?_
    obtain ⟨hb_72, hF⟩ := zg_some hF
    obtain ⟨o_73, hr_74, hF⟩ := zb1_some hF
    refine z_getRS (n := 110) dX1_band_107 rfl zok0 fX1_30_0 rfl hk_2 (Or.inl (zbig hb_72)) hr_74 ?_
    obtain ⟨n_75, hk_76, hF⟩ := zka_some hF
    obtain ⟨hb_77, hF⟩ := zg_some hF
    obtain ⟨o_78, hr_79, hF⟩ := zb1_some hF
    refine z_getRS (n := 113) dX1_band_110 rfl zok5 fX1_212_5 rfl hk_76 (Or.inl (zbig hb_77)) hr_79 ?_
    refine z_iload_n (n := 114) dX1_band_113 rfl 1 rfl rfl ?_
    obtain ⟨n_80, hk_81, hF⟩ := zka_some hF
    obtain ⟨h_82, hF⟩ := zg_some hF
    refine z_ialdK (n := 115) a0.toNatClampNeg rfl dX1_band_114 rfl hk_81 (zin_ok h_82) ?_
    have hF := Option.some.inj hF; subst hF
    exact z_iret dX1_band_115 rfl rfl ⟨rfl, rfl, rfl, rfl, rfl⟩
  replace hF := (if_neg ht5).symm.trans hF
  refine z_tableOut (t := 116) dX1_band_16 (by have := lv_neT (a := 0) ht0 (by decide); have := lv_neT (a := 1) ht1 (by decide); have := lv_neT (a := 2) ht2 (by decide); have := lv_neT (a := 3) ht3 (by decide); have := lv_neT (a := 4) ht4 (by decide); have := lv_neT (a := 5) ht5 (by decide); omega) (by decide) ?_
  refine z_aload_n (n := 117) dX1_band_116 rfl 0 rfl rfl ?_
  obtain ⟨hb_83, hF⟩ := zg_some hF
  obtain ⟨o_84, hr_85, hF⟩ := zb1_some hF
  refine z_getRS (n := 120) dX1_band_117 rfl zok0 fX1_30_0 rfl hk_2 (Or.inl (zbig hb_83)) hr_85 ?_
  refine z_aload_n (n := 121) dX1_band_120 rfl 0 rfl rfl ?_
  obtain ⟨o_86, hr_87, hF⟩ := zb1_some hF
  refine z_getRS (n := 124) dX1_band_121 rfl zok0 fX1_10_0 rfl hk_2 (Or.inl (zbig hb_83)) hr_87 ?_
  refine z_iload_n (n := 125) dX1_band_124 rfl 1 rfl rfl ?_
  obtain ⟨n_88, hk_89, hF⟩ := zka_some hF
  obtain ⟨x_91, I_92, c_90, hF⟩ := zb2_some hF
  refine z_cV (n := 128) (st := []) (C_X6_takes htr c_90) dX1_band_125 rfl (lw_V q1425 q842 q843 q130 q844) hcee_X6_takes rfl (by decide) hk_89 rfl rfl rfl (Nat.le_of_ble_eq_true rfl) (Nat.le_refl _) (Nat.le_refl _) ?_
  have hF := Option.some.inj hF; subst hF
  exact z_iret dX1_band_128 rfl rfl ⟨rfl, rfl, rfl, rfl, rfl⟩
abbrev MX1_bandsIn : zM := (RX1, cX1_bandsIn, 4, (some .int), "bandsIn", [])
noncomputable def F_X1_bandsIn_L4 (K : zKd) (F : zFd) (o0 : Nat) (a0 : Int32) (I : zId) (v2_1 : Int32) (v3_2 : Int32) : Option ((Int32 × Int32) ⊕ (Int32)) := zka K o0 0 (fun n_3 => zb1 (F_X1_bands K F o0 I) (fun x_6 => if x_6 ≤ v3_2 then some (.inr (v2_1)) else zg (decide (600 ≤ o0)) (zb1 (F o0 3) (fun o_8 => zka K o_8 5 (fun n_10 => zg (decide (600 ≤ o_8)) (zb1 (F o_8 4) (fun o_13 => zka K o_13 64 (fun n_15 => zg (zin v3_2 n_15) (if ¬ (I o_13 v3_2.toNatClampNeg) = a0 then zlet (v3_2 + 1) (fun v3_18 => some (.inl (v2_1, v3_18))) else zlet (v2_1 ||| ((1 : Int32) <<< (v3_2 &&& (31 : Int32)))) (fun v2_20 => zlet (v3_2 + 1) (fun v3_22 => some (.inl (v2_20, v3_22)))))))))))))
noncomputable def F_X1_bandsIn (K : zKd) (F : zFd) (o0 : Nat) (a0 : Int32) (I : zId) : Option (Int32) := zb1 (zloop (fun s : Int32 × Int32 => F_X1_bandsIn_L4 K F o0 a0 I s.1 s.2) (0, 0)) (fun v2_24 => some v2_24)
set_option maxHeartbeats 1000000 in
theorem W_X1_bandsIn_L4 {l : Launch} {G : zGt} (htr : l.stackTraces = false) {K : zKd} {F : zFd} {L : zLd} {Q : zQt} {o0 : Nat} {a0 : Int32} {I : zId} {v2_1 : Int32} {v3_2 : Int32} {r : (Int32 × Int32) ⊕ (Int32)} (hF : F_X1_bandsIn_L4 K F o0 a0 I v2_1 v3_2 = some r) (kl : ∀ (z0 : Int32) (z1 : Int32), r = .inl (z0, z1) → zW l G MX1_bandsIn 2 40 0 0 4 [(0, .ref o0), (1, .int a0), (2, .int z0), (3, .int z1)] [] K F I L Q) (kx : ∀ (y0 : Int32), r = .inr y0 → zW l G MX1_bandsIn 2 40 0 0 37 [(2, .int y0)] [] K F I L Q)  : zW l G MX1_bandsIn 2 40 0 0 4 [(0, .ref o0), (1, .int a0), (2, .int v2_1), (3, .int v3_2)] [] K F I L Q := by
  unfold F_X1_bandsIn_L4 at hF
  refine z_iload_n (n := 5) dX1_bandsIn_4 rfl 3 rfl rfl ?_
  refine z_aload_n (n := 6) dX1_bandsIn_5 rfl 0 rfl rfl ?_
  obtain ⟨n_3, hk_4, hF⟩ := zka_some hF
  obtain ⟨x_6, c_5, hF⟩ := zb1_some hF
  refine z_cV (n := 9) (st := [.int v3_2]) (C_X1_bands htr c_5) dX1_bandsIn_6 rfl (lw_V q1385 q1387 qs30 q105 q1388) hcee_X1_bands rfl (by decide) hk_4 rfl rfl rfl (Nat.le_of_ble_eq_true rfl) (Nat.le_refl _) (Nat.le_refl _) ?_
  refine z_icmp_ge (n := 12) (t := 37) dX1_bandsIn_9 rfl (by decide) (fun hc => ?_) (fun hc => ?_)
  · replace hF := (if_pos hc).symm.trans hF
    refine z_sub [2] rfl ?_
    have hF := Option.some.inj hF; subst hF
    exact kx v2_1 rfl
  · replace hF := (if_neg hc).symm.trans hF
    refine z_aload_n (n := 13) dX1_bandsIn_12 rfl 0 rfl rfl ?_
    obtain ⟨hb_7, hF⟩ := zg_some hF
    obtain ⟨o_8, hr_9, hF⟩ := zb1_some hF
    refine z_getRS (n := 16) dX1_bandsIn_13 rfl zok0 fX1_30_0 rfl hk_4 (Or.inl (zbig hb_7)) hr_9 ?_
    obtain ⟨n_10, hk_11, hF⟩ := zka_some hF
    obtain ⟨hb_12, hF⟩ := zg_some hF
    obtain ⟨o_13, hr_14, hF⟩ := zb1_some hF
    refine z_getRS (n := 19) dX1_bandsIn_16 rfl zok5 fX1_165_5 rfl hk_11 (Or.inl (zbig hb_12)) hr_14 ?_
    refine z_iload_n (n := 20) dX1_bandsIn_19 rfl 3 rfl rfl ?_
    obtain ⟨n_15, hk_16, hF⟩ := zka_some hF
    obtain ⟨h_17, hF⟩ := zg_some hF
    refine z_ialdK (n := 21) v3_2.toNatClampNeg rfl dX1_bandsIn_20 rfl hk_16 (zin_ok h_17) ?_
    refine z_iload_n (n := 22) dX1_bandsIn_21 rfl 1 rfl rfl ?_
    refine z_icmp_ne (n := 25) (t := 31) dX1_bandsIn_22 rfl (by decide) (fun hc => ?_) (fun hc => ?_)
    · replace hF := (if_pos hc).symm.trans hF
      obtain ⟨v3_18, e_19, hF⟩ := zlet_ob hF
      refine z_iincE (n := 34) (w := 1) (v := v3_18) (lv' := [(3, .int v3_18), (0, .ref o0), (1, .int a0), (2, .int v2_1)]) dX1_bandsIn_31 rfl 3 rfl (by decide) e_19 (by decide) rfl ?_
      refine z_goto (t := 4) dX1_bandsIn_34 (by decide) ?_
      refine z_sub [1, 2, 3, 0] rfl ?_
      have hF := Option.some.inj hF; subst hF
      exact kl v2_1 v3_18 rfl
    · replace hF := (if_neg hc).symm.trans hF
      refine z_iload_n (n := 26) dX1_bandsIn_25 rfl 2 rfl rfl ?_
      refine z_iconst (n := 27) (v := 1) dX1_bandsIn_26 rfl (by decide) ?_
      refine z_iload_n (n := 28) dX1_bandsIn_27 rfl 3 rfl rfl ?_
      refine z_ishl (n := 29) dX1_bandsIn_28 rfl ?_
      refine z_ior (n := 30) dX1_bandsIn_29 rfl ?_
      obtain ⟨v2_20, e_21, hF⟩ := zlet_ob hF
      refine z_istore_nE (n := 31) (lv' := [(2, .int v2_20), (0, .ref o0), (1, .int a0), (3, .int v3_2)]) dX1_bandsIn_30 rfl e_21 rfl (by decide) rfl ?_
      obtain ⟨v3_22, e_23, hF⟩ := zlet_ob hF
      refine z_iincE (n := 34) (w := 1) (v := v3_22) (lv' := [(3, .int v3_22), (2, .int v2_20), (0, .ref o0), (1, .int a0)]) dX1_bandsIn_31 rfl 3 rfl (by decide) e_23 (by decide) rfl ?_
      refine z_goto (t := 4) dX1_bandsIn_34 (by decide) ?_
      refine z_sub [2, 3, 1, 0] rfl ?_
      have hF := Option.some.inj hF; subst hF
      exact kl v2_20 v3_22 rfl
set_option maxHeartbeats 1000000 in
theorem C_X1_bandsIn {l : Launch} {G : zGt} (htr : l.stackTraces = false) {K : zKd} {F : zFd} {L : zLd} {o0 : Nat} {a0 : Int32} {I : zId} {r : Int32} (hF : F_X1_bandsIn K F o0 a0 I = some r) : zMet l G yX1_bandsIn (ws_ yX1_bandsIn cX1_bandsIn 4 (some .int)) 2 40 0 0 [.ref o0, .int a0] K F I L (zQe (.inl (some (.int r))) K F I L) := by
  refine zMet.of (by decide +kernel) htr (Nat.le_of_ble_eq_true rfl) ?_
  change zW l G MX1_bandsIn 2 40 0 0 0 [(0, .ref o0), (1, .int a0)] [] K F I L (zQe (.inl (some (.int r))) K F I L)
  unfold F_X1_bandsIn at hF
  refine z_iconst (n := 1) (v := 0) dX1_bandsIn_0 rfl (by decide) ?_
  refine z_istore_nE (n := 2) (lv' := [(2, .int 0), (0, .ref o0), (1, .int a0)]) dX1_bandsIn_1 rfl rfl rfl (by decide) rfl ?_
  refine z_iconst (n := 3) (v := 0) dX1_bandsIn_2 rfl (by decide) ?_
  refine z_istore_nE (n := 4) (lv' := [(3, .int 0), (2, .int 0), (0, .ref o0), (1, .int a0)]) dX1_bandsIn_3 rfl rfl rfl (by decide) rfl ?_
  refine z_sub [2, 3, 1, 0] rfl ?_
  obtain ⟨t_26, e_25, hF⟩ := zb1_some hF
  obtain ⟨v2_24, rfl⟩ : ∃ z, z = t_26 := ⟨_, rfl⟩
  have H_27 : zW l G MX1_bandsIn 2 40 0 0 37 [(2, .int v2_24)] [] K F I L (zQe (.inl (some (.int r))) K F I L) := by
    refine z_iload_n (n := 38) dX1_bandsIn_37 rfl 0 rfl rfl ?_
    have hF := Option.some.inj hF; subst hF
    exact z_iret dX1_bandsIn_38 rfl rfl ⟨rfl, rfl, rfl, rfl, rfl⟩
  refine zloop_ind (P := fun s : Int32 × Int32 => zW l G MX1_bandsIn 2 40 0 0 4 [(0, .ref o0), (1, .int a0), (2, .int s.1), (3, .int s.2)] [] K F I L (zQe (.inl (some (.int r))) K F I L)) (fun s r hb kl kr => ?_) e_25
  exact W_X1_bandsIn_L4 (o0 := o0) (a0 := a0) htr hb (fun z0 z1 e => kl _ e) (fun y0 e => by cases kr _ e; exact H_27)
theorem fX1_58_1 : zFld RX1 58 1 4 := ⟨_, rfl, by decide, _, Or.inr ⟨_, q538⟩, Or.inl rfl⟩
theorem fX1_176_5 : zFld RX1 176 5 0 := ⟨_, rfl, by decide, _, Or.inr ⟨_, q590⟩, Or.inl rfl⟩
abbrev MX1_bears : zM := (RX1, cX1_bears, 5, (some .boolean), "bears", [])
noncomputable def F_X1_bears_L13 (K : zKd) (F : zFd) (o0 : Nat) (a0 : Int32) (a1 : Int32) (I : zId) (v3_16 : Int32) (v4_17 : Int32) : Option ((Int32 × Int32) ⊕ ((Unit) ⊕ (Int32))) := if 30 ≤ v4_17 then some (.inr (.inl ())) else if a1 ≤ v3_16 then zka K o0 0 (fun n_18 => zg (decide (600 ≤ o0)) (zb1 (F o0 0) (fun o_21 => zka K o_21 1 (fun n_23 => zg (decide (600 ≤ o_21)) (zb1 (F o_21 4) (fun o_26 => zka K o_26 2 (fun n_28 => zb1 (F_J2_get K F o_26 a0 I) (fun q_31 => zb1 q_31 (fun o_32 => zka K o_32 9 (fun n_34 => zb1 (F_X10_grown K F o_32 (v3_16 - a1) I) (fun x_37 => zlet (v4_17 + 1) (fun v4_38 => some (.inl (x_37, v4_38)))))))))))))) else some (.inr (.inr 0))
noncomputable def F_X1_bears (K : zKd) (F : zFd) (o0 : Nat) (a0 : Int32) (a1 : Int32) (I : zId) : Option (Int32) := zka K o0 0 (fun n_1 => zg (decide (600 ≤ o0)) (zb1 (F o0 3) (fun o_4 => zka K o_4 5 (fun n_6 => zg (decide (600 ≤ o_4)) (zb1 (F o_4 0) (fun o_9 => zka K o_9 64 (fun n_11 => zg (zin a0 n_11) (zlet (I o_9 a0.toNatClampNeg) (fun v3_14 => zs1 (zloop (fun s : Int32 × Int32 => F_X1_bears_L13 K F o0 a0 a1 I s.1 s.2) (v3_14, 0)) (fun u_40 => some 1) (fun z_42 => some z_42))))))))))
set_option maxHeartbeats 1000000 in
theorem W_X1_bears_L13 {l : Launch} {G : zGt} (htr : l.stackTraces = false) {K : zKd} {F : zFd} {L : zLd} {Q : zQt} {o0 : Nat} {a0 : Int32} {a1 : Int32} {I : zId} {v3_16 : Int32} {v4_17 : Int32} {r : (Int32 × Int32) ⊕ ((Unit) ⊕ (Int32))} (hF : F_X1_bears_L13 K F o0 a0 a1 I v3_16 v4_17 = some r) (kl : ∀ (z0 : Int32) (z1 : Int32), r = .inl (z0, z1) → zW l G MX1_bears 3 64 0 0 13 [(0, .ref o0), (1, .int a0), (2, .int a1), (3, .int z0), (4, .int z1)] [] K F I L Q) (kx : ∀ (y0 : Unit), r = .inr (.inl y0) → zW l G MX1_bears 3 64 0 0 54 [] [] K F I L Q) (kq : ∀ z : Int32, r = .inr (.inr z) → Q (.inl (some (.int z))) K F I L) : zW l G MX1_bears 3 64 0 0 13 [(0, .ref o0), (1, .int a0), (2, .int a1), (3, .int v3_16), (4, .int v4_17)] [] K F I L Q := by
  unfold F_X1_bears_L13 at hF
  refine z_iload (n := 15) dX1_bears_13 rfl 4 rfl ?_
  refine z_bipush (n := 17) (v := 30) dX1_bears_15 rfl (by decide) ?_
  refine z_icmp_ge (n := 20) (t := 54) dX1_bears_17 rfl (by decide) (fun hc => ?_) (fun hc => ?_)
  · replace hF := (if_pos hc).symm.trans hF
    refine z_sub [] rfl ?_
    have hF := Option.some.inj hF; subst hF
    exact kx () rfl
  · replace hF := (if_neg hc).symm.trans hF
    refine z_iload_n (n := 21) dX1_bears_20 rfl 3 rfl rfl ?_
    refine z_iload_n (n := 22) dX1_bears_21 rfl 2 rfl rfl ?_
    refine z_icmp_ge (n := 25) (t := 27) dX1_bears_22 rfl (by decide) (fun hc => ?_) (fun hc => ?_)
    · replace hF := (if_pos hc).symm.trans hF
      refine z_aload_n (n := 28) dX1_bears_27 rfl 0 rfl rfl ?_
      obtain ⟨n_18, hk_19, hF⟩ := zka_some hF
      obtain ⟨hb_20, hF⟩ := zg_some hF
      obtain ⟨o_21, hr_22, hF⟩ := zb1_some hF
      refine z_getRS (n := 31) dX1_bears_28 rfl zok0 fX1_10_0 rfl hk_19 (Or.inl (zbig hb_20)) hr_22 ?_
      obtain ⟨n_23, hk_24, hF⟩ := zka_some hF
      obtain ⟨hb_25, hF⟩ := zg_some hF
      obtain ⟨o_26, hr_27, hF⟩ := zb1_some hF
      refine z_getRS (n := 34) dX1_bears_31 rfl zok1 fX1_58_1 rfl hk_24 (Or.inl (zbig hb_25)) hr_27 ?_
      refine z_iload_n (n := 35) dX1_bears_34 rfl 1 rfl rfl ?_
      obtain ⟨n_28, hk_29, hF⟩ := zka_some hF
      obtain ⟨q_31, c_30, hF⟩ := zb1_some hF
      refine z_cV (n := 38) (st := []) (C_J2_get htr c_30) dX1_bears_35 rfl (lw_V q917 q813 q814 q109 q815) hcee_J2_get rfl (by decide) hk_29 rfl rfl rfl (Nat.le_of_ble_eq_true rfl) (Nat.le_refl _) (Nat.le_refl _) ?_
      obtain ⟨o_32, hr_33, hF⟩ := zb1_some hF
      rw [hr_33]
      obtain ⟨n_34, hk_35, hF⟩ := zka_some hF
      refine z_castS (n := 41) dX1_bears_38 rfl hk_35 rfl q1404 rfl ?_
      refine z_iload_n (n := 42) dX1_bears_41 rfl 3 rfl rfl ?_
      refine z_iload_n (n := 43) dX1_bears_42 rfl 2 rfl rfl ?_
      refine z_isub (n := 44) dX1_bears_43 rfl ?_
      obtain ⟨x_37, c_36, hF⟩ := zb1_some hF
      refine z_cV (n := 47) (st := []) (C_X10_grown htr c_36) dX1_bears_44 rfl (lw_V q1523 q904 q905 q135 q906) hcee_X10_grown rfl (by decide) hk_35 rfl rfl rfl (Nat.le_of_ble_eq_true rfl) (Nat.le_refl _) (Nat.le_refl _) ?_
      refine z_istore_nE (n := 48) (lv' := [(3, .int x_37), (0, .ref o0), (1, .int a0), (2, .int a1), (4, .int v4_17)]) dX1_bears_47 rfl rfl rfl (by decide) rfl ?_
      obtain ⟨v4_38, e_39, hF⟩ := zlet_ob hF
      refine z_iincE (n := 51) (w := 1) (v := v4_38) (lv' := [(4, .int v4_38), (3, .int x_37), (0, .ref o0), (1, .int a0), (2, .int a1)]) dX1_bears_48 rfl 4 rfl (by decide) e_39 (by decide) rfl ?_
      refine z_goto (t := 13) dX1_bears_51 (by decide) ?_
      refine z_sub [2, 3, 4, 1, 0] rfl ?_
      have hF := Option.some.inj hF; subst hF
      exact kl x_37 v4_38 rfl
    · replace hF := (if_neg hc).symm.trans hF
      refine z_iconst (n := 26) (v := 0) dX1_bears_25 rfl (by decide) ?_
      have hF := Option.some.inj hF; subst hF
      exact z_iret dX1_bears_26 rfl rfl (kq _ rfl)
set_option maxHeartbeats 1000000 in
theorem C_X1_bears {l : Launch} {G : zGt} (htr : l.stackTraces = false) {K : zKd} {F : zFd} {L : zLd} {o0 : Nat} {a0 : Int32} {a1 : Int32} {I : zId} {r : Int32} (hF : F_X1_bears K F o0 a0 a1 I = some r) : zMet l G yX1_bears (ws_ yX1_bears cX1_bears 5 (some .boolean)) 3 64 0 0 [.ref o0, .int a0, .int a1] K F I L (zQe (.inl (some (.int r))) K F I L) := by
  refine zMet.of (by decide +kernel) htr (Nat.le_of_ble_eq_true rfl) ?_
  change zW l G MX1_bears 3 64 0 0 0 [(0, .ref o0), (1, .int a0), (2, .int a1)] [] K F I L (zQe (.inl (some (.int r))) K F I L)
  unfold F_X1_bears at hF
  refine z_aload_n (n := 1) dX1_bears_0 rfl 0 rfl rfl ?_
  obtain ⟨n_1, hk_2, hF⟩ := zka_some hF
  obtain ⟨hb_3, hF⟩ := zg_some hF
  obtain ⟨o_4, hr_5, hF⟩ := zb1_some hF
  refine z_getRS (n := 4) dX1_bears_1 rfl zok0 fX1_30_0 rfl hk_2 (Or.inl (zbig hb_3)) hr_5 ?_
  obtain ⟨n_6, hk_7, hF⟩ := zka_some hF
  obtain ⟨hb_8, hF⟩ := zg_some hF
  obtain ⟨o_9, hr_10, hF⟩ := zb1_some hF
  refine z_getRS (n := 7) dX1_bears_4 rfl zok5 fX1_176_5 rfl hk_7 (Or.inl (zbig hb_8)) hr_10 ?_
  refine z_iload_n (n := 8) dX1_bears_7 rfl 1 rfl rfl ?_
  obtain ⟨n_11, hk_12, hF⟩ := zka_some hF
  obtain ⟨h_13, hF⟩ := zg_some hF
  refine z_ialdK (n := 9) a0.toNatClampNeg rfl dX1_bears_8 rfl hk_12 (zin_ok h_13) ?_
  obtain ⟨v3_14, e_15, hF⟩ := zlet_ob hF
  refine z_istore_nE (n := 10) (lv' := [(3, .int v3_14), (0, .ref o0), (1, .int a0), (2, .int a1)]) dX1_bears_9 rfl e_15 rfl (by decide) rfl ?_
  refine z_iconst (n := 11) (v := 0) dX1_bears_10 rfl (by decide) ?_
  refine z_istoreE (n := 13) (lv' := [(4, .int 0), (3, .int v3_14), (0, .ref o0), (1, .int a0), (2, .int a1)]) dX1_bears_11 rfl rfl (by decide) rfl ?_
  refine z_sub [2, 3, 4, 1, 0] rfl ?_
  rcases zs1_some hF with ⟨t_43, e_41, hF⟩ | ⟨t_43, e_41, hF⟩
  · skip
    obtain ⟨u_40, rfl⟩ : ∃ z, z = t_43 := ⟨_, rfl⟩
    have H_44 : zW l G MX1_bears 3 64 0 0 54 [] [] K F I L (zQe (.inl (some (.int r))) K F I L) := by
      refine z_iconst (n := 55) (v := 1) dX1_bears_54 rfl (by decide) ?_
      have hF := Option.some.inj hF; subst hF
      exact z_iret dX1_bears_55 rfl rfl ⟨rfl, rfl, rfl, rfl, rfl⟩
    refine zloop_ind (P := fun s : Int32 × Int32 => zW l G MX1_bears 3 64 0 0 13 [(0, .ref o0), (1, .int a0), (2, .int a1), (3, .int s.1), (4, .int s.2)] [] K F I L (zQe (.inl (some (.int r))) K F I L)) (fun s r hb kl kr => ?_) e_41
    exact W_X1_bears_L13 (o0 := o0) (a0 := a0) (a1 := a1) htr hb (fun z0 z1 e => kl _ e) (fun y0 e => by cases kr _ e; exact H_44) (fun z e => by cases kr _ e)
  · skip
    have hq := Option.some.inj hF
    refine zloop_ind (P := fun s : Int32 × Int32 => zW l G MX1_bears 3 64 0 0 13 [(0, .ref o0), (1, .int a0), (2, .int a1), (3, .int s.1), (4, .int s.2)] [] K F I L (zQe (.inl (some (.int r))) K F I L)) (fun s r hb kl kr => ?_) e_41
    exact W_X1_bears_L13 (o0 := o0) (a0 := a0) (a1 := a1) htr hb (fun z0 z1 e => kl _ e) (fun y0 e => by cases kr _ e) (fun z e => by cases kr _ e; subst hq; exact ⟨rfl, rfl, rfl, rfl, rfl⟩)
abbrev MX1_forests : zM := (RX1, cX1_forests, 1, (some .int), "forests", [])
noncomputable def F_X1_forests (K : zKd) (F : zFd) (o0 : Nat) (I : zId) : Option (Int32) := zka K o0 0 (fun n_1 => zg (decide (600 ≤ o0)) (zb1 (F o0 0) (fun o_4 => zka K o_4 1 (fun n_6 => zg (decide (600 ≤ o_4)) (zb1 (F o_4 4) (fun o_9 => zka K o_9 2 (fun n_11 => zb1 (F_J2_size K F o_9 I) (fun x_14 => some x_14))))))))
set_option maxHeartbeats 1000000 in
theorem C_X1_forests {l : Launch} {G : zGt} (htr : l.stackTraces = false) {K : zKd} {F : zFd} {L : zLd} {o0 : Nat} {I : zId} {r : Int32} (hF : F_X1_forests K F o0 I = some r) : zMet l G yX1_forests (ws_ yX1_forests cX1_forests 1 (some .int)) 1 20 0 0 [.ref o0] K F I L (zQe (.inl (some (.int r))) K F I L) := by
  refine zMet.of (by decide +kernel) htr (Nat.le_of_ble_eq_true rfl) ?_
  change zW l G MX1_forests 1 20 0 0 0 [(0, .ref o0)] [] K F I L (zQe (.inl (some (.int r))) K F I L)
  unfold F_X1_forests at hF
  refine z_aload_n (n := 1) dX1_forests_0 rfl 0 rfl rfl ?_
  obtain ⟨n_1, hk_2, hF⟩ := zka_some hF
  obtain ⟨hb_3, hF⟩ := zg_some hF
  obtain ⟨o_4, hr_5, hF⟩ := zb1_some hF
  refine z_getRS (n := 4) dX1_forests_1 rfl zok0 fX1_10_0 rfl hk_2 (Or.inl (zbig hb_3)) hr_5 ?_
  obtain ⟨n_6, hk_7, hF⟩ := zka_some hF
  obtain ⟨hb_8, hF⟩ := zg_some hF
  obtain ⟨o_9, hr_10, hF⟩ := zb1_some hF
  refine z_getRS (n := 7) dX1_forests_4 rfl zok1 fX1_58_1 rfl hk_7 (Or.inl (zbig hb_8)) hr_10 ?_
  obtain ⟨n_11, hk_12, hF⟩ := zka_some hF
  obtain ⟨x_14, c_13, hF⟩ := zb1_some hF
  refine z_cV (n := 10) (st := []) (C_J2_size htr c_13) dX1_forests_7 rfl (lw_V q927 q834 q835 q109 q836) hcee_J2_size rfl (by decide) hk_12 rfl rfl rfl (Nat.le_of_ble_eq_true rfl) (Nat.le_refl _) (Nat.le_refl _) ?_
  have hF := Option.some.inj hF; subst hF
  exact z_iret dX1_forests_10 rfl rfl ⟨rfl, rfl, rfl, rfl, rfl⟩
theorem fX1_179_5 : zFld RX1 179 5 1 := ⟨_, rfl, by decide, _, Or.inr ⟨_, q592⟩, Or.inl rfl⟩
theorem hcee_X1_forests : zCee yX1_forests RX1 0 := ⟨rfl, by decide +kernel, by decide +kernel, by decide +kernel⟩
abbrev MX1_blackest : zM := (RX1, cX1_blackest, 3, (some .int), "blackest", [])
noncomputable def F_X1_blackest_L9 (K : zKd) (F : zFd) (o0 : Nat) (I : zId) (v1_7 : Int32) (v2_8 : Int32) : Option ((Int32 × Int32) ⊕ (Int32)) := if v2_8 < 0 then some (.inr (v1_7)) else zka K o0 0 (fun n_9 => zg (decide (600 ≤ o0)) (zb1 (F o0 3) (fun o_12 => zka K o_12 5 (fun n_14 => zg (decide (600 ≤ o_12)) (zb1 (F o_12 1) (fun o_17 => zka K o_17 64 (fun n_19 => zg (zin v2_8 n_19) (if ¬ (I o_17 v2_8.toNatClampNeg) = 0 then if v1_7 = (-1) then zlet (v2_8 + (-1)) (fun v2_22 => some (.inl (v2_8, v2_22))) else zb1 (F o0 3) (fun o_24 => zka K o_24 5 (fun n_26 => zg (decide (600 ≤ o_24)) (zb1 (F o_24 1) (fun o_29 => zka K o_29 64 (fun n_31 => zg (zin v2_8 n_31) (zb1 (F o0 3) (fun o_34 => zka K o_34 5 (fun n_36 => zg (decide (600 ≤ o_34)) (zb1 (F o_34 1) (fun o_39 => zka K o_39 64 (fun n_41 => zg (zin v1_7 n_41) (if (I o_29 v2_8.toNatClampNeg) < (I o_39 v1_7.toNatClampNeg) then zlet (v2_8 + (-1)) (fun v2_44 => some (.inl (v1_7, v2_44))) else zlet (v2_8 + (-1)) (fun v2_46 => some (.inl (v2_8, v2_46))))))))))))))) else zlet (v2_8 + (-1)) (fun v2_48 => some (.inl (v1_7, v2_48)))))))))))
noncomputable def F_X1_blackest (K : zKd) (F : zFd) (o0 : Nat) (I : zId) : Option (Int32) := zka K o0 0 (fun n_1 => zb1 (F_X1_forests K F o0 I) (fun x_4 => zlet (x_4 - 1) (fun v2_5 => zb1 (zloop (fun s : Int32 × Int32 => F_X1_blackest_L9 K F o0 I s.1 s.2) ((-1), v2_5)) (fun v1_50 => some v1_50))))
set_option maxHeartbeats 1000000 in
theorem W_X1_blackest_L9 {l : Launch} {G : zGt} (htr : l.stackTraces = false) {K : zKd} {F : zFd} {L : zLd} {Q : zQt} {o0 : Nat} {I : zId} {v1_7 : Int32} {v2_8 : Int32} {r : (Int32 × Int32) ⊕ (Int32)} (hF : F_X1_blackest_L9 K F o0 I v1_7 v2_8 = some r) (kl : ∀ (z0 : Int32) (z1 : Int32), r = .inl (z0, z1) → zW l G MX1_blackest 2 40 0 0 9 [(0, .ref o0), (1, .int z0), (2, .int z1)] [] K F I L Q) (kx : ∀ (y0 : Int32), r = .inr y0 → zW l G MX1_blackest 2 40 0 0 62 [(1, .int y0)] [] K F I L Q)  : zW l G MX1_blackest 2 40 0 0 9 [(0, .ref o0), (1, .int v1_7), (2, .int v2_8)] [] K F I L Q := by
  unfold F_X1_blackest_L9 at hF
  refine z_iload_n (n := 10) dX1_blackest_9 rfl 2 rfl rfl ?_
  refine z_if_lt (n := 13) (t := 62) dX1_blackest_10 rfl (by decide) (fun hc => ?_) (fun hc => ?_)
  · replace hF := (if_pos hc).symm.trans hF
    refine z_sub [1] rfl ?_
    have hF := Option.some.inj hF; subst hF
    exact kx v1_7 rfl
  · replace hF := (if_neg hc).symm.trans hF
    refine z_aload_n (n := 14) dX1_blackest_13 rfl 0 rfl rfl ?_
    obtain ⟨n_9, hk_10, hF⟩ := zka_some hF
    obtain ⟨hb_11, hF⟩ := zg_some hF
    obtain ⟨o_12, hr_13, hF⟩ := zb1_some hF
    refine z_getRS (n := 17) dX1_blackest_14 rfl zok0 fX1_30_0 rfl hk_10 (Or.inl (zbig hb_11)) hr_13 ?_
    obtain ⟨n_14, hk_15, hF⟩ := zka_some hF
    obtain ⟨hb_16, hF⟩ := zg_some hF
    obtain ⟨o_17, hr_18, hF⟩ := zb1_some hF
    refine z_getRS (n := 20) dX1_blackest_17 rfl zok5 fX1_179_5 rfl hk_15 (Or.inl (zbig hb_16)) hr_18 ?_
    refine z_iload_n (n := 21) dX1_blackest_20 rfl 2 rfl rfl ?_
    obtain ⟨n_19, hk_20, hF⟩ := zka_some hF
    obtain ⟨h_21, hF⟩ := zg_some hF
    refine z_ialdK (n := 22) v2_8.toNatClampNeg rfl dX1_blackest_21 rfl hk_20 (zin_ok h_21) ?_
    refine z_if_ne (n := 25) (t := 28) dX1_blackest_22 rfl (by decide) (fun hc => ?_) (fun hc => ?_)
    · replace hF := (if_pos hc).symm.trans hF
      refine z_iload_n (n := 29) dX1_blackest_28 rfl 1 rfl rfl ?_
      refine z_iconst (n := 30) (v := (-1)) dX1_blackest_29 rfl (by decide) ?_
      refine z_icmp_eq (n := 33) (t := 54) dX1_blackest_30 rfl (by decide) (fun hc => ?_) (fun hc => ?_)
      · replace hF := (if_pos hc).symm.trans hF
        refine z_iload_n (n := 55) dX1_blackest_54 rfl 2 rfl rfl ?_
        refine z_istore_nE (n := 56) (lv' := [(1, .int v2_8), (0, .ref o0), (2, .int v2_8)]) dX1_blackest_55 rfl rfl rfl (by decide) rfl ?_
        obtain ⟨v2_22, e_23, hF⟩ := zlet_ob hF
        refine z_iincE (n := 59) (w := (-1)) (v := v2_22) (lv' := [(2, .int v2_22), (1, .int v2_8), (0, .ref o0)]) dX1_blackest_56 rfl 2 rfl (by decide) e_23 (by decide) rfl ?_
        refine z_goto (t := 9) dX1_blackest_59 (by decide) ?_
        refine z_sub [2, 1, 0] rfl ?_
        have hF := Option.some.inj hF; subst hF
        exact kl v2_8 v2_22 rfl
      · replace hF := (if_neg hc).symm.trans hF
        refine z_aload_n (n := 34) dX1_blackest_33 rfl 0 rfl rfl ?_
        obtain ⟨o_24, hr_25, hF⟩ := zb1_some hF
        refine z_getRS (n := 37) dX1_blackest_34 rfl zok0 fX1_30_0 rfl hk_10 (Or.inl (zbig hb_11)) hr_25 ?_
        obtain ⟨n_26, hk_27, hF⟩ := zka_some hF
        obtain ⟨hb_28, hF⟩ := zg_some hF
        obtain ⟨o_29, hr_30, hF⟩ := zb1_some hF
        refine z_getRS (n := 40) dX1_blackest_37 rfl zok5 fX1_179_5 rfl hk_27 (Or.inl (zbig hb_28)) hr_30 ?_
        refine z_iload_n (n := 41) dX1_blackest_40 rfl 2 rfl rfl ?_
        obtain ⟨n_31, hk_32, hF⟩ := zka_some hF
        obtain ⟨h_33, hF⟩ := zg_some hF
        refine z_ialdK (n := 42) v2_8.toNatClampNeg rfl dX1_blackest_41 rfl hk_32 (zin_ok h_33) ?_
        refine z_aload_n (n := 43) dX1_blackest_42 rfl 0 rfl rfl ?_
        obtain ⟨o_34, hr_35, hF⟩ := zb1_some hF
        refine z_getRS (n := 46) dX1_blackest_43 rfl zok0 fX1_30_0 rfl hk_10 (Or.inl (zbig hb_11)) hr_35 ?_
        obtain ⟨n_36, hk_37, hF⟩ := zka_some hF
        obtain ⟨hb_38, hF⟩ := zg_some hF
        obtain ⟨o_39, hr_40, hF⟩ := zb1_some hF
        refine z_getRS (n := 49) dX1_blackest_46 rfl zok5 fX1_179_5 rfl hk_37 (Or.inl (zbig hb_38)) hr_40 ?_
        refine z_iload_n (n := 50) dX1_blackest_49 rfl 1 rfl rfl ?_
        obtain ⟨n_41, hk_42, hF⟩ := zka_some hF
        obtain ⟨h_43, hF⟩ := zg_some hF
        refine z_ialdK (n := 51) v1_7.toNatClampNeg rfl dX1_blackest_50 rfl hk_42 (zin_ok h_43) ?_
        refine z_icmp_lt (n := 54) (t := 56) dX1_blackest_51 rfl (by decide) (fun hc => ?_) (fun hc => ?_)
        · replace hF := (if_pos hc).symm.trans hF
          obtain ⟨v2_44, e_45, hF⟩ := zlet_ob hF
          refine z_iincE (n := 59) (w := (-1)) (v := v2_44) (lv' := [(2, .int v2_44), (0, .ref o0), (1, .int v1_7)]) dX1_blackest_56 rfl 2 rfl (by decide) e_45 (by decide) rfl ?_
          refine z_goto (t := 9) dX1_blackest_59 (by decide) ?_
          refine z_sub [1, 2, 0] rfl ?_
          have hF := Option.some.inj hF; subst hF
          exact kl v1_7 v2_44 rfl
        · replace hF := (if_neg hc).symm.trans hF
          refine z_iload_n (n := 55) dX1_blackest_54 rfl 2 rfl rfl ?_
          refine z_istore_nE (n := 56) (lv' := [(1, .int v2_8), (0, .ref o0), (2, .int v2_8)]) dX1_blackest_55 rfl rfl rfl (by decide) rfl ?_
          obtain ⟨v2_46, e_47, hF⟩ := zlet_ob hF
          refine z_iincE (n := 59) (w := (-1)) (v := v2_46) (lv' := [(2, .int v2_46), (1, .int v2_8), (0, .ref o0)]) dX1_blackest_56 rfl 2 rfl (by decide) e_47 (by decide) rfl ?_
          refine z_goto (t := 9) dX1_blackest_59 (by decide) ?_
          refine z_sub [2, 1, 0] rfl ?_
          have hF := Option.some.inj hF; subst hF
          exact kl v2_8 v2_46 rfl
    · replace hF := (if_neg hc).symm.trans hF
      refine z_goto (t := 56) dX1_blackest_25 (by decide) ?_
      obtain ⟨v2_48, e_49, hF⟩ := zlet_ob hF
      refine z_iincE (n := 59) (w := (-1)) (v := v2_48) (lv' := [(2, .int v2_48), (0, .ref o0), (1, .int v1_7)]) dX1_blackest_56 rfl 2 rfl (by decide) e_49 (by decide) rfl ?_
      refine z_goto (t := 9) dX1_blackest_59 (by decide) ?_
      refine z_sub [1, 2, 0] rfl ?_
      have hF := Option.some.inj hF; subst hF
      exact kl v1_7 v2_48 rfl
set_option maxHeartbeats 1000000 in
theorem C_X1_blackest {l : Launch} {G : zGt} (htr : l.stackTraces = false) {K : zKd} {F : zFd} {L : zLd} {o0 : Nat} {I : zId} {r : Int32} (hF : F_X1_blackest K F o0 I = some r) : zMet l G yX1_blackest (ws_ yX1_blackest cX1_blackest 3 (some .int)) 2 40 0 0 [.ref o0] K F I L (zQe (.inl (some (.int r))) K F I L) := by
  refine zMet.of (by decide +kernel) htr (Nat.le_of_ble_eq_true rfl) ?_
  change zW l G MX1_blackest 2 40 0 0 0 [(0, .ref o0)] [] K F I L (zQe (.inl (some (.int r))) K F I L)
  unfold F_X1_blackest at hF
  refine z_iconst (n := 1) (v := (-1)) dX1_blackest_0 rfl (by decide) ?_
  refine z_istore_nE (n := 2) (lv' := [(1, .int (-1)), (0, .ref o0)]) dX1_blackest_1 rfl rfl rfl (by decide) rfl ?_
  refine z_aload_n (n := 3) dX1_blackest_2 rfl 1 rfl rfl ?_
  obtain ⟨n_1, hk_2, hF⟩ := zka_some hF
  obtain ⟨x_4, c_3, hF⟩ := zb1_some hF
  refine z_cV (n := 6) (st := []) (C_X1_forests htr c_3) dX1_blackest_3 rfl (lw_V q923 q925 qs12 q105 q926) hcee_X1_forests rfl (by decide) hk_2 rfl rfl rfl (Nat.le_of_ble_eq_true rfl) (Nat.le_refl _) (Nat.le_refl _) ?_
  refine z_iconst (n := 7) (v := 1) dX1_blackest_6 rfl (by decide) ?_
  refine z_isub (n := 8) dX1_blackest_7 rfl ?_
  obtain ⟨v2_5, e_6, hF⟩ := zlet_ob hF
  refine z_istore_nE (n := 9) (lv' := [(2, .int v2_5), (1, .int (-1)), (0, .ref o0)]) dX1_blackest_8 rfl e_6 rfl (by decide) rfl ?_
  refine z_sub [2, 1, 0] rfl ?_
  obtain ⟨t_52, e_51, hF⟩ := zb1_some hF
  obtain ⟨v1_50, rfl⟩ : ∃ z, z = t_52 := ⟨_, rfl⟩
  have H_53 : zW l G MX1_blackest 2 40 0 0 62 [(1, .int v1_50)] [] K F I L (zQe (.inl (some (.int r))) K F I L) := by
    refine z_iload_n (n := 63) dX1_blackest_62 rfl 0 rfl rfl ?_
    have hF := Option.some.inj hF; subst hF
    exact z_iret dX1_blackest_63 rfl rfl ⟨rfl, rfl, rfl, rfl, rfl⟩
  refine zloop_ind (P := fun s : Int32 × Int32 => zW l G MX1_blackest 2 40 0 0 9 [(0, .ref o0), (1, .int s.1), (2, .int s.2)] [] K F I L (zQe (.inl (some (.int r))) K F I L)) (fun s r hb kl kr => ?_) e_51
  exact W_X1_blackest_L9 (o0 := o0) htr hb (fun z0 z1 e => kl _ e) (fun y0 e => by cases kr _ e; exact H_53)
theorem fX1_19_0 : zFld RX1 19 0 1 := ⟨_, rfl, by decide, _, Or.inl q734, Or.inl rfl⟩
theorem fX1_116_4 : zFld RX1 116 4 5 := ⟨_, rfl, by decide, _, Or.inr ⟨_, q709⟩, Or.inl rfl⟩
abbrev MX1_refuses : zM := (RX1, cX1_refuses, 2, (some .int), "refuses", [])
noncomputable def F_X1_refuses (K : zKd) (F : zFd) (o0 : Nat) (a0 : Int32) (I : zId) : Option (Int32 × zId) := zka K o0 0 (fun n_1 => zg (decide (600 ≤ o0)) (zb1 (F o0 1) (fun o_4 => zka K o_4 4 (fun n_6 => zg (decide (600 ≤ o_4)) (zb1 (F o_4 5) (fun o_9 => zka K o_9 64 (fun n_11 => zg (zin a0 n_11) (zg (zin a0 n_11) (zg (decide (600 ≤ o_9)) (zlet (zu I o_9 a0.toNatClampNeg ((I o_9 a0.toNatClampNeg) + 1)) (fun I_16 => some ((-1), I_16))))))))))))
set_option maxHeartbeats 1000000 in
theorem C_X1_refuses {l : Launch} {G : zGt} (htr : l.stackTraces = false) {K : zKd} {F : zFd} {L : zLd} {o0 : Nat} {a0 : Int32} {I : zId} {r : Int32 × zId} (hF : F_X1_refuses K F o0 a0 I = some r) : zMet l G yX1_refuses (ws_ yX1_refuses cX1_refuses 2 (some .int)) 0 0 0 0 [.ref o0, .int a0] K F I L (zQe (.inl (some (.int r.1))) K F r.2 L) := by
  refine zMet.of (by decide +kernel) htr (Nat.le_of_ble_eq_true rfl) ?_
  change zW l G MX1_refuses 0 0 0 0 0 [(0, .ref o0), (1, .int a0)] [] K F I L (zQe (.inl (some (.int r.1))) K F r.2 L)
  unfold F_X1_refuses at hF
  refine z_aload_n (n := 1) dX1_refuses_0 rfl 0 rfl rfl ?_
  obtain ⟨n_1, hk_2, hF⟩ := zka_some hF
  obtain ⟨hb_3, hF⟩ := zg_some hF
  obtain ⟨o_4, hr_5, hF⟩ := zb1_some hF
  refine z_getRS (n := 4) dX1_refuses_1 rfl zok0 fX1_19_0 rfl hk_2 (Or.inl (zbig hb_3)) hr_5 ?_
  obtain ⟨n_6, hk_7, hF⟩ := zka_some hF
  obtain ⟨hb_8, hF⟩ := zg_some hF
  obtain ⟨o_9, hr_10, hF⟩ := zb1_some hF
  refine z_getRS (n := 7) dX1_refuses_4 rfl zok4 fX1_116_4 rfl hk_7 (Or.inl (zbig hb_8)) hr_10 ?_
  refine z_iload_n (n := 8) dX1_refuses_7 rfl 1 rfl rfl ?_
  refine z_dup2 (n := 9) dX1_refuses_8 rfl rfl rfl ?_
  obtain ⟨n_11, hk_12, hF⟩ := zka_some hF
  obtain ⟨h_13, hF⟩ := zg_some hF
  refine z_ialdK (n := 10) a0.toNatClampNeg rfl dX1_refuses_9 rfl hk_12 (zin_ok h_13) ?_
  refine z_iconst (n := 11) (v := 1) dX1_refuses_10 rfl (by decide) ?_
  refine z_iadd (n := 12) dX1_refuses_11 rfl ?_
  obtain ⟨h_14, hF⟩ := zg_some hF
  obtain ⟨hb_15, hF⟩ := zg_some hF
  obtain ⟨I_16, e_17, hF⟩ := zlet_ob hF
  refine z_iastK (n := 13) a0.toNatClampNeg rfl dX1_refuses_12 rfl hk_12 (zbig hb_15) (zin_ok h_14) e_17 ?_
  refine z_iconst (n := 14) (v := (-1)) dX1_refuses_13 rfl (by decide) ?_
  have hF := Option.some.inj hF; subst hF
  exact z_iret dX1_refuses_14 rfl rfl ⟨rfl, rfl, rfl, rfl, rfl⟩
theorem hcee_X1_refuses : zCee yX1_refuses RX1 1 := ⟨rfl, by decide +kernel, by decide +kernel, by decide +kernel⟩
theorem hcee_X5_keeps : zCee yX5_keeps RX5 0 := ⟨rfl, by decide +kernel, by decide +kernel, by decide +kernel⟩
abbrev MX1_does : zM := (RX1, cX1_does, 2, (some .boolean), "does", [])
noncomputable def F_X1_does (o0 : Nat) (a0 : Int32) (h : zSt) : Option ((Nat × Nat) × (Int32 × zSt)) := if a0 = 0 then zka (hK h) o0 0 (fun n_1 => zb2 (F_X1_refuses (hK h) (jF h) o0 1 (hI h)) (fun x_4 I_5 => zlet (zsFI h (jF h) I_5) (fun h_6 => zg (zfitsZ a0) (some ((0, 0), (a0, h_6)))))) else zka (hK h) o0 0 (fun n_9 => zg (decide (600 ≤ o0)) (zb1 ((jF h) o0 1) (fun o_12 => zka (hK h) o_12 4 (fun n_14 => zc1 (F_X5_keeps o_12 h) (fun c_18 h_17 => zpay c_18 (zg (zfitsZ a0) (some ((0, 0), (a0, h_17)))))))))
set_option maxHeartbeats 1000000 in
theorem C_X1_does {l : Launch} {G : zGt} (htr : l.stackTraces = false) {o0 : Nat} {a0 : Int32} {h : zSt} {cc : Nat × Nat} {r : Int32 × zSt} (hF : F_X1_does o0 a0 h = some (cc, r)) : zMet l G yX1_does (ws_ yX1_does cX1_does 2 (some .boolean)) 8 211 (cc.1 + 0) (cc.2 + 0) [.ref o0, .int a0] (hK h) (jF h) (hI h) (hL h) (zQe (.inl (some (.int r.1))) (hK r.2) (jF r.2) (hI r.2) (hL r.2)) := by
  refine zMet.of (by decide +kernel) htr (Nat.le_of_ble_eq_true rfl) ?_
  change zW l G MX1_does 8 211 (cc.1 + 0) (cc.2 + 0) 0 [(0, .ref o0), (1, .int a0)] [] (hK h) (jF h) (hI h) (hL h) (zQe (.inl (some (.int r.1))) (hK r.2) (jF r.2) (hI r.2) (hL r.2))
  unfold F_X1_does at hF
  refine z_iload_n (n := 1) dX1_does_0 rfl 1 rfl rfl ?_
  refine z_if_eq (n := 4) (t := 14) dX1_does_1 rfl (by decide) (fun hc => ?_) (fun hc => ?_)
  · replace hF := (if_pos hc).symm.trans hF
    refine z_aload_n (n := 15) dX1_does_14 rfl 0 rfl rfl ?_
    refine z_iconst (n := 16) (v := 1) dX1_does_15 rfl (by decide) ?_
    obtain ⟨n_1, hk_2, hF⟩ := zka_some hF
    obtain ⟨x_4, I_5, c_3, hF⟩ := zb2_some hF
    refine z_cV (n := 19) (mc2 := (cc.1 + 0)) (ms2 := (cc.2 + 0)) (st := []) (C_X1_refuses htr c_3) dX1_does_16 rfl (lw_V q825 q827 qs7 q105 q828) hcee_X1_refuses rfl (by decide) hk_2 rfl rfl rfl (Nat.le_of_ble_eq_true rfl) (Nat.le_refl _) (Nat.le_refl _) ?_
    obtain ⟨h_6, e_7, hF⟩ := zlet_ob hF
    refine z_toFI e_7 ?_
    refine z_pop (n := 20) dX1_does_19 rfl rfl ?_
    refine z_iload_n (n := 21) dX1_does_20 rfl 1 rfl rfl ?_
    obtain ⟨h_8, hF⟩ := zg_some hF
    obtain ⟨rfl, rfl⟩ := zpair hF
    exact z_iret dX1_does_21 rfl (zfitsZ_ok h_8).1 ⟨rfl, rfl, rfl, rfl, rfl⟩
  · replace hF := (if_neg hc).symm.trans hF
    refine z_aload_n (n := 5) dX1_does_4 rfl 0 rfl rfl ?_
    obtain ⟨n_9, hk_10, hF⟩ := zka_some hF
    obtain ⟨hb_11, hF⟩ := zg_some hF
    obtain ⟨o_12, hr_13, hF⟩ := zb1_some hF
    refine z_getRS (n := 8) dX1_does_5 rfl zok0 fX1_19_0 rfl hk_10 (Or.inl (zbig hb_11)) hr_13 ?_
    obtain ⟨n_14, hk_15, hF⟩ := zka_some hF
    obtain ⟨c_18, h_17, c_16, hF⟩ := zc1_some hF
    obtain ⟨cc, hF, hcc⟩ := zpay_some hF
    refine z_payE hcc ?_
    refine z_cV (n := 11) (mc2 := (cc.1 + 0)) (ms2 := (cc.2 + 0)) (st := []) (C_X5_keeps htr c_16) dX1_does_8 rfl (lw_V q793 q794 q795 q129 q796) hcee_X5_keeps rfl (by decide) hk_15 rfl rfl rfl (Nat.le_of_ble_eq_true rfl) (Nat.le_of_eq (Nat.add_comm _ _)) (Nat.le_of_eq (Nat.add_comm _ _)) ?_
    refine z_goto (t := 20) dX1_does_11 (by decide) ?_
    refine z_iload_n (n := 21) dX1_does_20 rfl 1 rfl rfl ?_
    obtain ⟨h_19, hF⟩ := zg_some hF
    obtain ⟨rfl, rfl⟩ := zpair hF
    exact z_iret dX1_does_21 rfl (zfitsZ_ok h_19).1 ⟨rfl, rfl, rfl, rfl, rfl⟩
theorem hcee_X1_does : zCee yX1_does RX1 1 := ⟨rfl, by decide +kernel, by decide +kernel, by decide +kernel⟩
abbrev MX1_bows : zM := (RX1, cX1_bows, 4, (some .int), "bows", [])
noncomputable def F_X1_bows (o0 : Nat) (a0 : Int32) (a1 : Int32) (h : zSt) : Option ((Nat × Nat) × ((Int32 ⊕ (String × Nat)) × zSt)) := zka (hK h) o0 0 (fun n_1 => zb2 (F_X1_bandAt (hK h) (jF h) o0 a0 (hI h)) (fun s_4 I_5 => zpay (zxc s_4, zxs s_4) (zlet (zsFI h (jF h) I_5) (fun h_7 => zsum s_4 (fun x_9 => zb1 (F_X1_within (hK h_7) (jF h_7) a1 0 30 (hI h_7)) (fun x_12 => zka (hK h_7) o0 0 (fun n_13 => zc1 (F_X1_does o0 x_12 h_7) (fun c_18 => zn2 (fun x_16 h_17 => zpay c_18 (if ¬ x_16 = 0 then zka (hK h_17) o0 0 (fun n_20 => zg (decide (600 ≤ o0)) (zb1 ((jF h_17) o0 3) (fun o_23 => zka (hK h_17) o_23 5 (fun n_25 => zg (decide (600 ≤ o_23)) (zb1 ((jF h_17) o_23 5) (fun o_28 => zka (hK h_17) o_28 64 (fun n_30 => zg (zin a0 n_30) (zlet ((hI h_17) o_28 a0.toNatClampNeg) (fun v3_33 => zb1 ((jF h_17) o0 3) (fun o_35 => zka (hK h_17) o_35 5 (fun n_37 => zg (decide (600 ≤ o_35)) (zb1 ((jF h_17) o_35 5) (fun o_40 => zka (hK h_17) o_40 64 (fun n_42 => zg (zin a0 n_42) (zg (decide (600 ≤ o_40)) (zlet (zsI h_17 (zu (hI h_17) o_40 a0.toNatClampNeg a1)) (fun h_46 => some ((0, 0), (.inl v3_33, h_46))))))))))))))))))) else some ((0, 0), (.inl (-1), h_17)))))))) (fun w_10 => some ((0, 0), (.inr w_10, h_7)))))))
set_option maxHeartbeats 1000000 in
theorem C_X1_bows {l : Launch} {G : zGt} (htr : l.stackTraces = false) {o0 : Nat} {a0 : Int32} {a1 : Int32} {h : zSt} {cc : Nat × Nat} {r : (Int32 ⊕ (String × Nat)) × zSt} (hF : F_X1_bows o0 a0 a1 h = some (cc, r)) : zMet l G yX1_bows (ws_ yX1_bows cX1_bows 4 (some .int)) 10 241 (cc.1 + 0) (cc.2 + 0) [.ref o0, .int a0, .int a1] (hK h) (jF h) (hI h) (hL h) (zQe (zoi r.1) (hK r.2) (jF r.2) (hI r.2) (hL r.2)) := by
  refine zMet.of (by decide +kernel) htr (Nat.le_of_ble_eq_true rfl) ?_
  change zW l G MX1_bows 10 241 (cc.1 + 0) (cc.2 + 0) 0 [(0, .ref o0), (1, .int a0), (2, .int a1)] [] (hK h) (jF h) (hI h) (hL h) (zQe (zoi r.1) (hK r.2) (jF r.2) (hI r.2) (hL r.2))
  unfold F_X1_bows at hF
  refine z_aload_n (n := 1) dX1_bows_0 rfl 0 rfl rfl ?_
  refine z_iload_n (n := 2) dX1_bows_1 rfl 1 rfl rfl ?_
  obtain ⟨n_1, hk_2, hF⟩ := zka_some hF
  obtain ⟨s_4, I_5, c_3, hF⟩ := zb2_some hF
  obtain ⟨cc, hF, hcc⟩ := zpay_some hF
  refine z_payE hcc ?_
  obtain ⟨h_7, e_8, hF⟩ := zlet_ob hF
  rcases zsum_some hF with ⟨x_9, e_6, hF⟩ | ⟨w_10, e_6, hF⟩
  rotate_left
  · first | rw [e_6] at c_3 ⊢ | rw [e_6] at c_3
    obtain ⟨rfl, rfl⟩ := zpair hF
    refine z_cVx (n := 5) (mc2 := (((0, 0) : Nat × Nat).1 + 0)) (ms2 := (((0, 0) : Nat × Nat).2 + 0)) (st := []) (C_X1_bandAt htr c_3) dX1_bows_2 rfl (lw_V q1421 q1423 qs34 q105 q1424) hcee_X1_bandAt rfl (by decide) hk_2 rfl rfl rfl (Nat.le_of_ble_eq_true rfl) (Nat.le_of_eq (Nat.add_comm _ _)) (Nat.le_of_eq (Nat.add_comm _ _)) ?_
    exact z_out rfl (by subst e_8; exact ⟨rfl, rfl, rfl, rfl, rfl⟩)
  first | rw [e_6] at c_3 ⊢ | rw [e_6] at c_3
  refine z_cV (n := 5) (mc2 := (cc.1 + 0)) (ms2 := (cc.2 + 0)) (st := []) (C_X1_bandAt htr c_3) dX1_bows_2 rfl (lw_V q1421 q1423 qs34 q105 q1424) hcee_X1_bandAt rfl (by decide) hk_2 rfl rfl rfl (Nat.le_of_ble_eq_true rfl) (Nat.le_of_eq (Nat.add_comm _ _)) (Nat.le_of_eq (Nat.add_comm _ _)) ?_
  refine z_toFI e_8 ?_
  refine z_aload_n (n := 6) dX1_bows_5 rfl 0 rfl rfl ?_
  refine z_iload_n (n := 7) dX1_bows_6 rfl 2 rfl rfl ?_
  refine z_iconst (n := 8) (v := 0) dX1_bows_7 rfl (by decide) ?_
  refine z_bipush (n := 10) (v := 30) dX1_bows_8 rfl (by decide) ?_
  obtain ⟨x_12, c_11, hF⟩ := zb1_some hF
  refine z_cS (n := 13) (mc2 := (cc.1 + 0)) (ms2 := (cc.2 + 0)) (st := [.ref o0]) (C_X1_within htr c_11) dX1_bows_10 rfl (lw_S q786 q787 q105 q788) hcee_X1_within rfl (by decide) rfl (Nat.le_of_ble_eq_true rfl) (Nat.le_refl _) (Nat.le_refl _) ?_
  obtain ⟨n_13, hk_14, hF⟩ := zka_some hF
  obtain ⟨c_18, t_19, c_15, hF⟩ := zc1_some hF
  obtain ⟨x_16, h_17⟩ := t_19
  dsimp only [zn2] at hF
  obtain ⟨cc, hF, hcc⟩ := zpay_some hF
  refine z_payE hcc ?_
  refine z_cV (n := 16) (mc2 := (cc.1 + 0)) (ms2 := (cc.2 + 0)) (st := []) (C_X1_does htr c_15) dX1_bows_13 rfl (lw_V q789 q791 qs5 q105 q792) hcee_X1_does rfl (by decide) hk_14 rfl rfl rfl (Nat.le_of_ble_eq_true rfl) (Nat.le_of_eq (Nat.add_comm _ _)) (Nat.le_of_eq (Nat.add_comm _ _)) ?_
  refine z_if_ne (n := 19) (t := 21) dX1_bows_16 rfl (by decide) (fun hc => ?_) (fun hc => ?_)
  · replace hF := (if_pos hc).symm.trans hF
    refine z_aload_n (n := 22) dX1_bows_21 rfl 0 rfl rfl ?_
    obtain ⟨n_20, hk_21, hF⟩ := zka_some hF
    obtain ⟨hb_22, hF⟩ := zg_some hF
    obtain ⟨o_23, hr_24, hF⟩ := zb1_some hF
    refine z_getRS (n := 25) dX1_bows_22 rfl zok0 fX1_30_0 rfl hk_21 (Or.inl (zbig hb_22)) hr_24 ?_
    obtain ⟨n_25, hk_26, hF⟩ := zka_some hF
    obtain ⟨hb_27, hF⟩ := zg_some hF
    obtain ⟨o_28, hr_29, hF⟩ := zb1_some hF
    refine z_getRS (n := 28) dX1_bows_25 rfl zok5 fX1_203_5 rfl hk_26 (Or.inl (zbig hb_27)) hr_29 ?_
    refine z_iload_n (n := 29) dX1_bows_28 rfl 1 rfl rfl ?_
    obtain ⟨n_30, hk_31, hF⟩ := zka_some hF
    obtain ⟨h_32, hF⟩ := zg_some hF
    refine z_ialdK (n := 30) a0.toNatClampNeg rfl dX1_bows_29 rfl hk_31 (zin_ok h_32) ?_
    obtain ⟨v3_33, e_34, hF⟩ := zlet_ob hF
    refine z_istore_nE (n := 31) (lv' := [(3, .int v3_33), (0, .ref o0), (1, .int a0), (2, .int a1)]) dX1_bows_30 rfl e_34 rfl (by decide) rfl ?_
    refine z_aload_n (n := 32) dX1_bows_31 rfl 1 rfl rfl ?_
    obtain ⟨o_35, hr_36, hF⟩ := zb1_some hF
    refine z_getRS (n := 35) dX1_bows_32 rfl zok0 fX1_30_0 rfl hk_21 (Or.inl (zbig hb_22)) hr_36 ?_
    obtain ⟨n_37, hk_38, hF⟩ := zka_some hF
    obtain ⟨hb_39, hF⟩ := zg_some hF
    obtain ⟨o_40, hr_41, hF⟩ := zb1_some hF
    refine z_getRS (n := 38) dX1_bows_35 rfl zok5 fX1_203_5 rfl hk_38 (Or.inl (zbig hb_39)) hr_41 ?_
    refine z_iload_n (n := 39) dX1_bows_38 rfl 2 rfl rfl ?_
    refine z_iload_n (n := 40) dX1_bows_39 rfl 3 rfl rfl ?_
    obtain ⟨n_42, hk_43, hF⟩ := zka_some hF
    obtain ⟨h_44, hF⟩ := zg_some hF
    obtain ⟨hb_45, hF⟩ := zg_some hF
    obtain ⟨h_46, e_47, hF⟩ := zlet_ob hF
    refine z_iastK (n := 41) a0.toNatClampNeg rfl dX1_bows_40 rfl hk_43 (zbig hb_45) (zin_ok h_44) rfl ?_
    refine z_toI e_47 ?_
    refine z_iload_n (n := 42) dX1_bows_41 rfl 0 rfl rfl ?_
    obtain ⟨rfl, rfl⟩ := zpair hF
    exact z_iret dX1_bows_42 rfl rfl ⟨rfl, rfl, rfl, rfl, rfl⟩
  · replace hF := (if_neg hc).symm.trans hF
    refine z_iconst (n := 20) (v := (-1)) dX1_bows_19 rfl (by decide) ?_
    obtain ⟨rfl, rfl⟩ := zpair hF
    exact z_iret dX1_bows_20 rfl rfl ⟨rfl, rfl, rfl, rfl, rfl⟩
abbrev MX1_camps : zM := (RX1, cX1_camps, 3, (some .int), "camps", [])
noncomputable def F_X1_camps_L4 (K : zKd) (F : zFd) (o0 : Nat) (I : zId) (v1_1 : Int32) (v2_2 : Int32) : Option ((Int32 × Int32) ⊕ (Int32)) := zka K o0 0 (fun n_3 => zb1 (F_X1_bands K F o0 I) (fun x_6 => if x_6 ≤ v2_2 then some (.inr (v1_1)) else zg (decide (600 ≤ o0)) (zb1 (F o0 3) (fun o_8 => zka K o_8 5 (fun n_10 => zg (decide (600 ≤ o_8)) (zb1 (F o_8 4) (fun o_13 => zka K o_13 64 (fun n_15 => zg (zin v2_2 n_15) (zlet (v1_1 ||| ((1 : Int32) <<< ((I o_13 v2_2.toNatClampNeg) &&& (31 : Int32)))) (fun v1_18 => zlet (v2_2 + 1) (fun v2_20 => some (.inl (v1_18, v2_20)))))))))))))
noncomputable def F_X1_camps (K : zKd) (F : zFd) (o0 : Nat) (I : zId) : Option (Int32) := zb1 (zloop (fun s : Int32 × Int32 => F_X1_camps_L4 K F o0 I s.1 s.2) (0, 0)) (fun v1_22 => some v1_22)
set_option maxHeartbeats 1000000 in
theorem W_X1_camps_L4 {l : Launch} {G : zGt} (htr : l.stackTraces = false) {K : zKd} {F : zFd} {L : zLd} {Q : zQt} {o0 : Nat} {I : zId} {v1_1 : Int32} {v2_2 : Int32} {r : (Int32 × Int32) ⊕ (Int32)} (hF : F_X1_camps_L4 K F o0 I v1_1 v2_2 = some r) (kl : ∀ (z0 : Int32) (z1 : Int32), r = .inl (z0, z1) → zW l G MX1_camps 2 40 0 0 4 [(0, .ref o0), (1, .int z0), (2, .int z1)] [] K F I L Q) (kx : ∀ (y0 : Int32), r = .inr y0 → zW l G MX1_camps 2 40 0 0 32 [(1, .int y0)] [] K F I L Q)  : zW l G MX1_camps 2 40 0 0 4 [(0, .ref o0), (1, .int v1_1), (2, .int v2_2)] [] K F I L Q := by
  unfold F_X1_camps_L4 at hF
  refine z_iload_n (n := 5) dX1_camps_4 rfl 2 rfl rfl ?_
  refine z_aload_n (n := 6) dX1_camps_5 rfl 0 rfl rfl ?_
  obtain ⟨n_3, hk_4, hF⟩ := zka_some hF
  obtain ⟨x_6, c_5, hF⟩ := zb1_some hF
  refine z_cV (n := 9) (st := [.int v2_2]) (C_X1_bands htr c_5) dX1_camps_6 rfl (lw_V q1385 q1387 qs30 q105 q1388) hcee_X1_bands rfl (by decide) hk_4 rfl rfl rfl (Nat.le_of_ble_eq_true rfl) (Nat.le_refl _) (Nat.le_refl _) ?_
  refine z_icmp_ge (n := 12) (t := 32) dX1_camps_9 rfl (by decide) (fun hc => ?_) (fun hc => ?_)
  · replace hF := (if_pos hc).symm.trans hF
    refine z_sub [1] rfl ?_
    have hF := Option.some.inj hF; subst hF
    exact kx v1_1 rfl
  · replace hF := (if_neg hc).symm.trans hF
    refine z_iload_n (n := 13) dX1_camps_12 rfl 1 rfl rfl ?_
    refine z_iconst (n := 14) (v := 1) dX1_camps_13 rfl (by decide) ?_
    refine z_aload_n (n := 15) dX1_camps_14 rfl 0 rfl rfl ?_
    obtain ⟨hb_7, hF⟩ := zg_some hF
    obtain ⟨o_8, hr_9, hF⟩ := zb1_some hF
    refine z_getRS (n := 18) dX1_camps_15 rfl zok0 fX1_30_0 rfl hk_4 (Or.inl (zbig hb_7)) hr_9 ?_
    obtain ⟨n_10, hk_11, hF⟩ := zka_some hF
    obtain ⟨hb_12, hF⟩ := zg_some hF
    obtain ⟨o_13, hr_14, hF⟩ := zb1_some hF
    refine z_getRS (n := 21) dX1_camps_18 rfl zok5 fX1_165_5 rfl hk_11 (Or.inl (zbig hb_12)) hr_14 ?_
    refine z_iload_n (n := 22) dX1_camps_21 rfl 2 rfl rfl ?_
    obtain ⟨n_15, hk_16, hF⟩ := zka_some hF
    obtain ⟨h_17, hF⟩ := zg_some hF
    refine z_ialdK (n := 23) v2_2.toNatClampNeg rfl dX1_camps_22 rfl hk_16 (zin_ok h_17) ?_
    refine z_ishl (n := 24) dX1_camps_23 rfl ?_
    refine z_ior (n := 25) dX1_camps_24 rfl ?_
    obtain ⟨v1_18, e_19, hF⟩ := zlet_ob hF
    refine z_istore_nE (n := 26) (lv' := [(1, .int v1_18), (0, .ref o0), (2, .int v2_2)]) dX1_camps_25 rfl e_19 rfl (by decide) rfl ?_
    obtain ⟨v2_20, e_21, hF⟩ := zlet_ob hF
    refine z_iincE (n := 29) (w := 1) (v := v2_20) (lv' := [(2, .int v2_20), (1, .int v1_18), (0, .ref o0)]) dX1_camps_26 rfl 2 rfl (by decide) e_21 (by decide) rfl ?_
    refine z_goto (t := 4) dX1_camps_29 (by decide) ?_
    refine z_sub [2, 1, 0] rfl ?_
    have hF := Option.some.inj hF; subst hF
    exact kl v1_18 v2_20 rfl
set_option maxHeartbeats 1000000 in
theorem C_X1_camps {l : Launch} {G : zGt} (htr : l.stackTraces = false) {K : zKd} {F : zFd} {L : zLd} {o0 : Nat} {I : zId} {r : Int32} (hF : F_X1_camps K F o0 I = some r) : zMet l G yX1_camps (ws_ yX1_camps cX1_camps 3 (some .int)) 2 40 0 0 [.ref o0] K F I L (zQe (.inl (some (.int r))) K F I L) := by
  refine zMet.of (by decide +kernel) htr (Nat.le_of_ble_eq_true rfl) ?_
  change zW l G MX1_camps 2 40 0 0 0 [(0, .ref o0)] [] K F I L (zQe (.inl (some (.int r))) K F I L)
  unfold F_X1_camps at hF
  refine z_iconst (n := 1) (v := 0) dX1_camps_0 rfl (by decide) ?_
  refine z_istore_nE (n := 2) (lv' := [(1, .int 0), (0, .ref o0)]) dX1_camps_1 rfl rfl rfl (by decide) rfl ?_
  refine z_iconst (n := 3) (v := 0) dX1_camps_2 rfl (by decide) ?_
  refine z_istore_nE (n := 4) (lv' := [(2, .int 0), (1, .int 0), (0, .ref o0)]) dX1_camps_3 rfl rfl rfl (by decide) rfl ?_
  refine z_sub [2, 1, 0] rfl ?_
  obtain ⟨t_24, e_23, hF⟩ := zb1_some hF
  obtain ⟨v1_22, rfl⟩ : ∃ z, z = t_24 := ⟨_, rfl⟩
  have H_25 : zW l G MX1_camps 2 40 0 0 32 [(1, .int v1_22)] [] K F I L (zQe (.inl (some (.int r))) K F I L) := by
    refine z_iload_n (n := 33) dX1_camps_32 rfl 0 rfl rfl ?_
    have hF := Option.some.inj hF; subst hF
    exact z_iret dX1_camps_33 rfl rfl ⟨rfl, rfl, rfl, rfl, rfl⟩
  refine zloop_ind (P := fun s : Int32 × Int32 => zW l G MX1_camps 2 40 0 0 4 [(0, .ref o0), (1, .int s.1), (2, .int s.2)] [] K F I L (zQe (.inl (some (.int r))) K F I L)) (fun s r hb kl kr => ?_) e_23
  exact W_X1_camps_L4 (o0 := o0) htr hb (fun z0 z1 e => kl _ e) (fun y0 e => by cases kr _ e; exact H_25)
theorem fX1_85_1 : zFld RX1 85 1 6 := ⟨_, rfl, by decide, _, Or.inr ⟨_, q545⟩, Or.inl rfl⟩
theorem fX1_93_0 : zFld RX1 93 0 7 := ⟨_, rfl, by decide, _, Or.inl q740, Or.inl rfl⟩
theorem fX1_126_4 : zFld RX1 126 4 6 := ⟨_, rfl, by decide, _, Or.inr ⟨_, q711⟩, Or.inl rfl⟩
theorem fX1_129_4 : zFld RX1 129 4 7 := ⟨_, rfl, by decide, _, Or.inr ⟨_, q713⟩, Or.inl rfl⟩
theorem fX1_140_1 : zFld RX1 140 1 3 := ⟨_, rfl, by decide, _, Or.inr ⟨_, q534⟩, Or.inl rfl⟩
theorem fX1_143_1 : zFld RX1 143 1 0 := ⟨_, rfl, by decide, _, Or.inr ⟨_, q524⟩, Or.inl rfl⟩
theorem fX1_146_1 : zFld RX1 146 1 1 := ⟨_, rfl, by decide, _, Or.inr ⟨_, q528⟩, Or.inl rfl⟩
theorem fX1_149_1 : zFld RX1 149 1 2 := ⟨_, rfl, by decide, _, Or.inr ⟨_, q532⟩, Or.inl rfl⟩
theorem fX1_152_5 : zFld RX1 152 5 9 := ⟨_, rfl, by decide, _, Or.inr ⟨_, q608⟩, Or.inl rfl⟩
theorem fX1_159_5 : zFld RX1 159 5 10 := ⟨_, rfl, by decide, _, Or.inr ⟨_, q610⟩, Or.inl rfl⟩
theorem fX1_162_5 : zFld RX1 162 5 11 := ⟨_, rfl, by decide, _, Or.inr ⟨_, q612⟩, Or.inl rfl⟩
theorem hcee_X6_all : zCee yX6_all RX6 1 := ⟨rfl, by decide +kernel, by decide +kernel, by decide +kernel⟩
abbrev MX1_count : zM := (RX1, cX1_count, 2, (some .int), "count", [])
noncomputable def F_X1_count (K : zKd) (F : zFd) (o0 : Nat) (a0 : Int32) (I : zId) : Option ((Int32 ⊕ (String × Nat)) × zId) := zb1 (F_X1_within K F a0 0 16 I) (fun x_2 => zb2 (F_X1_there K F x_2 I) (fun s_4 I_5 => zsum s_4 (fun x_7 => if a0 = 0 then zka K o0 0 (fun n_9 => zb1 (F_X1_forests K F o0 I_5) (fun x_12 => some (.inl x_12, I_5))) else if a0 = 1 then zka K o0 0 (fun n_13 => zg (decide (600 ≤ o0)) (zb1 (F o0 0) (fun o_16 => zka K o_16 1 (fun n_18 => zg (decide (600 ≤ o_16)) (some (.inl (I_5 o_16 3), I_5)))))) else if a0 = 2 then zka K o0 0 (fun n_21 => zb1 (F_X1_bands K F o0 I_5) (fun x_24 => some (.inl x_24, I_5))) else if a0 = 3 then zka K o0 0 (fun n_25 => zg (decide (600 ≤ o0)) (zb1 (F o0 0) (fun o_28 => zka K o_28 1 (fun n_30 => zg (decide (600 ≤ o_28)) (zb1 (F o_28 6) (fun o_33 => zka K o_33 2 (fun n_35 => zb1 (F_J2_size K F o_33 I_5) (fun x_38 => some (.inl x_38, I_5))))))))) else if a0 = 4 then zka K o0 0 (fun n_39 => zg (decide (600 ≤ o0)) (zb1 (F o0 0) (fun o_42 => zka K o_42 1 (fun n_44 => zg (decide (600 ≤ o_42)) (some (.inl (I_5 o_42 0), I_5)))))) else if a0 = 5 then zka K o0 0 (fun n_47 => zg (decide (600 ≤ o0)) (zb1 (F o0 0) (fun o_50 => zka K o_50 1 (fun n_52 => zg (decide (600 ≤ o_50)) (some (.inl (I_5 o_50 1), I_5)))))) else if a0 = 6 then zka K o0 0 (fun n_55 => zg (decide (600 ≤ o0)) (zb1 (F o0 0) (fun o_58 => zka K o_58 1 (fun n_60 => zg (decide (600 ≤ o_58)) (some (.inl (I_5 o_58 2), I_5)))))) else if a0 = 7 then zka K o0 0 (fun n_63 => zg (decide (600 ≤ o0)) (zb1 (F o0 3) (fun o_66 => zka K o_66 5 (fun n_68 => zg (decide (600 ≤ o_66)) (some (.inl (I_5 o_66 9), I_5)))))) else if a0 = 8 then zka K o0 0 (fun n_71 => zg (decide (600 ≤ o0)) (zb1 (F o0 3) (fun o_74 => zb1 (F_X1_forests K F o0 I_5) (fun x_77 => zka K o_74 5 (fun n_78 => zb1 (F_X6_all K F o_74 x_77 I_5) (fun x_81 => some (.inl x_81, I_5))))))) else if a0 = 9 then zka K o0 0 (fun n_82 => zg (decide (600 ≤ o0)) (zb1 (F o0 3) (fun o_85 => zka K o_85 5 (fun n_87 => zg (decide (600 ≤ o_85)) (some (.inl (I_5 o_85 10), I_5)))))) else if a0 = 10 then zka K o0 0 (fun n_90 => zg (decide (600 ≤ o0)) (zb1 (F o0 3) (fun o_93 => zka K o_93 5 (fun n_95 => zg (decide (600 ≤ o_93)) (some (.inl (I_5 o_93 11), I_5)))))) else if a0 = 11 then zka K o0 0 (fun n_98 => zg (decide (600 ≤ o0)) (zb1 (F o0 1) (fun o_101 => zka K o_101 4 (fun n_103 => zg (decide (600 ≤ o_101)) (some (.inl (I_5 o_101 6), I_5)))))) else if a0 = 12 then zka K o0 0 (fun n_106 => zg (decide (600 ≤ o0)) (zb1 (F o0 1) (fun o_109 => zka K o_109 4 (fun n_111 => zg (decide (600 ≤ o_109)) (some (.inl (I_5 o_109 7), I_5)))))) else if a0 = 13 then zka K o0 0 (fun n_114 => zg (decide (600 ≤ o0)) (some (.inl (I_5 o0 7), I_5))) else zka K o0 0 (fun n_117 => zg (decide (600 ≤ o0)) (zb1 (F o0 1) (fun o_120 => zka K o_120 4 (fun n_122 => zg (decide (600 ≤ o_120)) (zb1 (F o_120 5) (fun o_125 => zka K o_125 64 (fun n_127 => zg (zin (a0 - 14) n_127) (some (.inl (I_5 o_125 ((a0 - 14).toNatClampNeg)), I_5)))))))))) (fun w_8 => some (.inr w_8, I_5))))
set_option maxHeartbeats 1000000 in
theorem C_X1_count {l : Launch} {G : zGt} (htr : l.stackTraces = false) {K : zKd} {F : zFd} {L : zLd} {o0 : Nat} {a0 : Int32} {I : zId} {r : (Int32 ⊕ (String × Nat)) × zId} (hF : F_X1_count K F o0 a0 I = some r) : zMet l G yX1_count (ws_ yX1_count cX1_count 2 (some .int)) 9 220 (zxc r.1) (zxs r.1) [.ref o0, .int a0] K F I L (zQe (zoi r.1) K F r.2 L) := by
  refine zMet.of (by decide +kernel) htr (Nat.le_of_ble_eq_true rfl) ?_
  change zW l G MX1_count 9 220 (zxc r.1) (zxs r.1) 0 [(0, .ref o0), (1, .int a0)] [] K F I L (zQe (zoi r.1) K F r.2 L)
  unfold F_X1_count at hF
  refine z_iload_n (n := 1) dX1_count_0 rfl 1 rfl rfl ?_
  refine z_iconst (n := 2) (v := 0) dX1_count_1 rfl (by decide) ?_
  refine z_bipush (n := 4) (v := 16) dX1_count_2 rfl (by decide) ?_
  obtain ⟨x_2, c_1, hF⟩ := zb1_some hF
  refine z_cS (n := 7) (st := []) (C_X1_within htr c_1) dX1_count_4 rfl (lw_S q786 q787 q105 q788) hcee_X1_within rfl (by decide) rfl (Nat.le_of_ble_eq_true rfl) (Nat.le_refl _) (Nat.le_refl _) ?_
  obtain ⟨s_4, I_5, c_3, hF⟩ := zb2_some hF
  rcases zsum_some hF with ⟨x_7, e_6, hF⟩ | ⟨w_8, e_6, hF⟩
  rotate_left
  · first | rw [e_6] at c_3 ⊢ | rw [e_6] at c_3
    have hF := Option.some.inj hF; subst hF
    refine z_cSx (n := 10) (mc2 := 0) (ms2 := 0) (st := []) (C_X1_there htr c_3) dX1_count_7 rfl (lw_S q1367 q1368 q105 q1369) hcee_X1_there rfl (by decide) rfl (Nat.le_of_ble_eq_true rfl) (Nat.le_refl _) (Nat.le_refl _) ?_
    exact z_out rfl ⟨rfl, rfl, rfl, rfl, rfl⟩
  first | rw [e_6] at c_3 ⊢ | rw [e_6] at c_3
  refine z_cS (n := 10) (st := []) (C_X1_there htr c_3) dX1_count_7 rfl (lw_S q1367 q1368 q105 q1369) hcee_X1_there rfl (by decide) rfl (Nat.le_of_ble_eq_true rfl) (Nat.le_refl _) (Nat.le_refl _) ?_
  refine z_iload_n (n := 11) dX1_count_10 rfl 1 rfl rfl ?_
  by_cases ht0 : a0 = 0
  · replace hF := (if_pos ht0).symm.trans hF
    refine z_tableIn (off := 69) (t := 80) dX1_count_11 (by rw [ht0]; decide) (by rw [ht0]; decide) (by rw [ht0]; rfl) (by decide) ?_
    refine z_aload_n (n := 81) dX1_count_80 rfl 0 rfl rfl ?_
    obtain ⟨n_9, hk_10, hF⟩ := zka_some hF
    obtain ⟨x_12, c_11, hF⟩ := zb1_some hF
    refine z_cV (n := 84) (st := []) (C_X1_forests htr c_11) dX1_count_81 rfl (lw_V q923 q925 qs12 q105 q926) hcee_X1_forests rfl (by decide) hk_10 rfl rfl rfl (Nat.le_of_ble_eq_true rfl) (Nat.le_refl _) (Nat.le_refl _) ?_
    have hF := Option.some.inj hF; subst hF
    exact z_iret dX1_count_84 rfl rfl ⟨rfl, rfl, rfl, rfl, rfl⟩
  replace hF := (if_neg ht0).symm.trans hF
  by_cases ht1 : a0 = 1
  · replace hF := (if_pos ht1).symm.trans hF
    refine z_tableIn (off := 74) (t := 85) dX1_count_11 (by rw [ht1]; decide) (by rw [ht1]; decide) (by rw [ht1]; rfl) (by decide) ?_
    refine z_aload_n (n := 86) dX1_count_85 rfl 0 rfl rfl ?_
    obtain ⟨n_13, hk_14, hF⟩ := zka_some hF
    obtain ⟨hb_15, hF⟩ := zg_some hF
    obtain ⟨o_16, hr_17, hF⟩ := zb1_some hF
    refine z_getRS (n := 89) dX1_count_86 rfl zok0 fX1_10_0 rfl hk_14 (Or.inl (zbig hb_15)) hr_17 ?_
    obtain ⟨n_18, hk_19, hF⟩ := zka_some hF
    obtain ⟨hb_20, hF⟩ := zg_some hF
    refine z_getI (n := 92) dX1_count_89 rfl zok1 fX1_140_1 rfl hk_19 (Or.inl (zbig hb_20)) ?_
    have hF := Option.some.inj hF; subst hF
    exact z_iret dX1_count_92 rfl rfl ⟨rfl, rfl, rfl, rfl, rfl⟩
  replace hF := (if_neg ht1).symm.trans hF
  by_cases ht2 : a0 = 2
  · replace hF := (if_pos ht2).symm.trans hF
    refine z_tableIn (off := 82) (t := 93) dX1_count_11 (by rw [ht2]; decide) (by rw [ht2]; decide) (by rw [ht2]; rfl) (by decide) ?_
    refine z_aload_n (n := 94) dX1_count_93 rfl 0 rfl rfl ?_
    obtain ⟨n_21, hk_22, hF⟩ := zka_some hF
    obtain ⟨x_24, c_23, hF⟩ := zb1_some hF
    refine z_cV (n := 97) (st := []) (C_X1_bands htr c_23) dX1_count_94 rfl (lw_V q1385 q1387 qs30 q105 q1388) hcee_X1_bands rfl (by decide) hk_22 rfl rfl rfl (Nat.le_of_ble_eq_true rfl) (Nat.le_refl _) (Nat.le_refl _) ?_
    have hF := Option.some.inj hF; subst hF
    exact z_iret dX1_count_97 rfl rfl ⟨rfl, rfl, rfl, rfl, rfl⟩
  replace hF := (if_neg ht2).symm.trans hF
  by_cases ht3 : a0 = 3
  · replace hF := (if_pos ht3).symm.trans hF
    refine z_tableIn (off := 87) (t := 98) dX1_count_11 (by rw [ht3]; decide) (by rw [ht3]; decide) (by rw [ht3]; rfl) (by decide) ?_
    refine z_aload_n (n := 99) dX1_count_98 rfl 0 rfl rfl ?_
    obtain ⟨n_25, hk_26, hF⟩ := zka_some hF
    obtain ⟨hb_27, hF⟩ := zg_some hF
    obtain ⟨o_28, hr_29, hF⟩ := zb1_some hF
    refine z_getRS (n := 102) dX1_count_99 rfl zok0 fX1_10_0 rfl hk_26 (Or.inl (zbig hb_27)) hr_29 ?_
    obtain ⟨n_30, hk_31, hF⟩ := zka_some hF
    obtain ⟨hb_32, hF⟩ := zg_some hF
    obtain ⟨o_33, hr_34, hF⟩ := zb1_some hF
    refine z_getRS (n := 105) dX1_count_102 rfl zok1 fX1_85_1 rfl hk_31 (Or.inl (zbig hb_32)) hr_34 ?_
    obtain ⟨n_35, hk_36, hF⟩ := zka_some hF
    obtain ⟨x_38, c_37, hF⟩ := zb1_some hF
    refine z_cV (n := 108) (st := []) (C_J2_size htr c_37) dX1_count_105 rfl (lw_V q927 q834 q835 q109 q836) hcee_J2_size rfl (by decide) hk_36 rfl rfl rfl (Nat.le_of_ble_eq_true rfl) (Nat.le_refl _) (Nat.le_refl _) ?_
    have hF := Option.some.inj hF; subst hF
    exact z_iret dX1_count_108 rfl rfl ⟨rfl, rfl, rfl, rfl, rfl⟩
  replace hF := (if_neg ht3).symm.trans hF
  by_cases ht4 : a0 = 4
  · replace hF := (if_pos ht4).symm.trans hF
    refine z_tableIn (off := 98) (t := 109) dX1_count_11 (by rw [ht4]; decide) (by rw [ht4]; decide) (by rw [ht4]; rfl) (by decide) ?_
    refine z_aload_n (n := 110) dX1_count_109 rfl 0 rfl rfl ?_
    obtain ⟨n_39, hk_40, hF⟩ := zka_some hF
    obtain ⟨hb_41, hF⟩ := zg_some hF
    obtain ⟨o_42, hr_43, hF⟩ := zb1_some hF
    refine z_getRS (n := 113) dX1_count_110 rfl zok0 fX1_10_0 rfl hk_40 (Or.inl (zbig hb_41)) hr_43 ?_
    obtain ⟨n_44, hk_45, hF⟩ := zka_some hF
    obtain ⟨hb_46, hF⟩ := zg_some hF
    refine z_getI (n := 116) dX1_count_113 rfl zok1 fX1_143_1 rfl hk_45 (Or.inl (zbig hb_46)) ?_
    have hF := Option.some.inj hF; subst hF
    exact z_iret dX1_count_116 rfl rfl ⟨rfl, rfl, rfl, rfl, rfl⟩
  replace hF := (if_neg ht4).symm.trans hF
  by_cases ht5 : a0 = 5
  · replace hF := (if_pos ht5).symm.trans hF
    refine z_tableIn (off := 106) (t := 117) dX1_count_11 (by rw [ht5]; decide) (by rw [ht5]; decide) (by rw [ht5]; rfl) (by decide) ?_
    refine z_aload_n (n := 118) dX1_count_117 rfl 0 rfl rfl ?_
    obtain ⟨n_47, hk_48, hF⟩ := zka_some hF
    obtain ⟨hb_49, hF⟩ := zg_some hF
    obtain ⟨o_50, hr_51, hF⟩ := zb1_some hF
    refine z_getRS (n := 121) dX1_count_118 rfl zok0 fX1_10_0 rfl hk_48 (Or.inl (zbig hb_49)) hr_51 ?_
    obtain ⟨n_52, hk_53, hF⟩ := zka_some hF
    obtain ⟨hb_54, hF⟩ := zg_some hF
    refine z_getI (n := 124) dX1_count_121 rfl zok1 fX1_146_1 rfl hk_53 (Or.inl (zbig hb_54)) ?_
    have hF := Option.some.inj hF; subst hF
    exact z_iret dX1_count_124 rfl rfl ⟨rfl, rfl, rfl, rfl, rfl⟩
  replace hF := (if_neg ht5).symm.trans hF
  by_cases ht6 : a0 = 6
  · replace hF := (if_pos ht6).symm.trans hF
    refine z_tableIn (off := 114) (t := 125) dX1_count_11 (by rw [ht6]; decide) (by rw [ht6]; decide) (by rw [ht6]; rfl) (by decide) ?_
    refine z_aload_n (n := 126) dX1_count_125 rfl 0 rfl rfl ?_
    obtain ⟨n_55, hk_56, hF⟩ := zka_some hF
    obtain ⟨hb_57, hF⟩ := zg_some hF
    obtain ⟨o_58, hr_59, hF⟩ := zb1_some hF
    refine z_getRS (n := 129) dX1_count_126 rfl zok0 fX1_10_0 rfl hk_56 (Or.inl (zbig hb_57)) hr_59 ?_
    obtain ⟨n_60, hk_61, hF⟩ := zka_some hF
    obtain ⟨hb_62, hF⟩ := zg_some hF
    refine z_getI (n := 132) dX1_count_129 rfl zok1 fX1_149_1 rfl hk_61 (Or.inl (zbig hb_62)) ?_
    have hF := Option.some.inj hF; subst hF
    exact z_iret dX1_count_132 rfl rfl ⟨rfl, rfl, rfl, rfl, rfl⟩
  replace hF := (if_neg ht6).symm.trans hF
  by_cases ht7 : a0 = 7
  · replace hF := (if_pos ht7).symm.trans hF
    refine z_tableIn (off := 122) (t := 133) dX1_count_11 (by rw [ht7]; decide) (by rw [ht7]; decide) (by rw [ht7]; rfl) (by decide) ?_
    refine z_aload_n (n := 134) dX1_count_133 rfl 0 rfl rfl ?_
    obtain ⟨n_63, hk_64, hF⟩ := zka_some hF
    obtain ⟨hb_65, hF⟩ := zg_some hF
    obtain ⟨o_66, hr_67, hF⟩ := zb1_some hF
    refine z_getRS (n := 137) dX1_count_134 rfl zok0 fX1_30_0 rfl hk_64 (Or.inl (zbig hb_65)) hr_67 ?_
    obtain ⟨n_68, hk_69, hF⟩ := zka_some hF
    obtain ⟨hb_70, hF⟩ := zg_some hF
    refine z_getI (n := 140) dX1_count_137 rfl zok5 fX1_152_5 rfl hk_69 (Or.inl (zbig hb_70)) ?_
    have hF := Option.some.inj hF; subst hF
    exact z_iret dX1_count_140 rfl rfl ⟨rfl, rfl, rfl, rfl, rfl⟩
  replace hF := (if_neg ht7).symm.trans hF
  by_cases ht8 : a0 = 8
  · replace hF := (if_pos ht8).symm.trans hF
    refine z_tableIn (off := 130) (t := 141) dX1_count_11 (by rw [ht8]; decide) (by rw [ht8]; decide) (by rw [ht8]; rfl) (by decide) ?_
    refine z_aload_n (n := 142) dX1_count_141 rfl 0 rfl rfl ?_
    obtain ⟨n_71, hk_72, hF⟩ := zka_some hF
    obtain ⟨hb_73, hF⟩ := zg_some hF
    obtain ⟨o_74, hr_75, hF⟩ := zb1_some hF
    refine z_getRS (n := 145) dX1_count_142 rfl zok0 fX1_30_0 rfl hk_72 (Or.inl (zbig hb_73)) hr_75 ?_
    refine z_aload_n (n := 146) dX1_count_145 rfl 0 rfl rfl ?_
    obtain ⟨x_77, c_76, hF⟩ := zb1_some hF
    refine z_cV (n := 149) (st := [.ref o_74]) (C_X1_forests htr c_76) dX1_count_146 rfl (lw_V q923 q925 qs12 q105 q926) hcee_X1_forests rfl (by decide) hk_72 rfl rfl rfl (Nat.le_of_ble_eq_true rfl) (Nat.le_refl _) (Nat.le_refl _) ?_
    obtain ⟨n_78, hk_79, hF⟩ := zka_some hF
    obtain ⟨x_81, c_80, hF⟩ := zb1_some hF
    refine z_cV (n := 152) (st := []) (C_X6_all htr c_80) dX1_count_149 rfl (lw_V q1389 q1390 q1391 q130 q1392) hcee_X6_all rfl (by decide) hk_79 rfl rfl rfl (Nat.le_of_ble_eq_true rfl) (Nat.le_refl _) (Nat.le_refl _) ?_
    have hF := Option.some.inj hF; subst hF
    exact z_iret dX1_count_152 rfl rfl ⟨rfl, rfl, rfl, rfl, rfl⟩
  replace hF := (if_neg ht8).symm.trans hF
  by_cases ht9 : a0 = 9
  · replace hF := (if_pos ht9).symm.trans hF
    refine z_tableIn (off := 142) (t := 153) dX1_count_11 (by rw [ht9]; decide) (by rw [ht9]; decide) (by rw [ht9]; rfl) (by decide) ?_
    refine z_aload_n (n := 154) dX1_count_153 rfl 0 rfl rfl ?_
    obtain ⟨n_82, hk_83, hF⟩ := zka_some hF
    obtain ⟨hb_84, hF⟩ := zg_some hF
    obtain ⟨o_85, hr_86, hF⟩ := zb1_some hF
    refine z_getRS (n := 157) dX1_count_154 rfl zok0 fX1_30_0 rfl hk_83 (Or.inl (zbig hb_84)) hr_86 ?_
    obtain ⟨n_87, hk_88, hF⟩ := zka_some hF
    obtain ⟨hb_89, hF⟩ := zg_some hF
    refine z_getI (n := 160) dX1_count_157 rfl zok5 fX1_159_5 rfl hk_88 (Or.inl (zbig hb_89)) ?_
    have hF := Option.some.inj hF; subst hF
    exact z_iret dX1_count_160 rfl rfl ⟨rfl, rfl, rfl, rfl, rfl⟩
  replace hF := (if_neg ht9).symm.trans hF
  by_cases ht10 : a0 = 10
  · replace hF := (if_pos ht10).symm.trans hF
    refine z_tableIn (off := 150) (t := 161) dX1_count_11 (by rw [ht10]; decide) (by rw [ht10]; decide) (by rw [ht10]; rfl) (by decide) ?_
    refine z_aload_n (n := 162) dX1_count_161 rfl 0 rfl rfl ?_
    obtain ⟨n_90, hk_91, hF⟩ := zka_some hF
    obtain ⟨hb_92, hF⟩ := zg_some hF
    obtain ⟨o_93, hr_94, hF⟩ := zb1_some hF
    refine z_getRS (n := 165) dX1_count_162 rfl zok0 fX1_30_0 rfl hk_91 (Or.inl (zbig hb_92)) hr_94 ?_
    obtain ⟨n_95, hk_96, hF⟩ := zka_some hF
    obtain ⟨hb_97, hF⟩ := zg_some hF
    refine z_getI (n := 168) dX1_count_165 rfl zok5 fX1_162_5 rfl hk_96 (Or.inl (zbig hb_97)) ?_
    have hF := Option.some.inj hF; subst hF
    exact z_iret dX1_count_168 rfl rfl ⟨rfl, rfl, rfl, rfl, rfl⟩
  replace hF := (if_neg ht10).symm.trans hF
  by_cases ht11 : a0 = 11
  · replace hF := (if_pos ht11).symm.trans hF
    refine z_tableIn (off := 158) (t := 169) dX1_count_11 (by rw [ht11]; decide) (by rw [ht11]; decide) (by rw [ht11]; rfl) (by decide) ?_
    refine z_aload_n (n := 170) dX1_count_169 rfl 0 rfl rfl ?_
    obtain ⟨n_98, hk_99, hF⟩ := zka_some hF
    obtain ⟨hb_100, hF⟩ := zg_some hF
    obtain ⟨o_101, hr_102, hF⟩ := zb1_some hF
    refine z_getRS (n := 173) dX1_count_170 rfl zok0 fX1_19_0 rfl hk_99 (Or.inl (zbig hb_100)) hr_102 ?_
    obtain ⟨n_103, hk_104, hF⟩ := zka_some hF
    obtain ⟨hb_105, hF⟩ := zg_some hF
    refine z_getI (n := 176) dX1_count_173 rfl zok4 fX1_126_4 rfl hk_104 (Or.inl (zbig hb_105)) ?_
    have hF := Option.some.inj hF; subst hF
    exact z_iret dX1_count_176 rfl rfl ⟨rfl, rfl, rfl, rfl, rfl⟩
  replace hF := (if_neg ht11).symm.trans hF
  by_cases ht12 : a0 = 12
  · replace hF := (if_pos ht12).symm.trans hF
    refine z_tableIn (off := 166) (t := 177) dX1_count_11 (by rw [ht12]; decide) (by rw [ht12]; decide) (by rw [ht12]; rfl) (by decide) ?_
    refine z_aload_n (n := 178) dX1_count_177 rfl 0 rfl rfl ?_
    obtain ⟨n_106, hk_107, hF⟩ := zka_some hF
    obtain ⟨hb_108, hF⟩ := zg_some hF
    obtain ⟨o_109, hr_110, hF⟩ := zb1_some hF
    refine z_getRS (n := 181) dX1_count_178 rfl zok0 fX1_19_0 rfl hk_107 (Or.inl (zbig hb_108)) hr_110 ?_
    obtain ⟨n_111, hk_112, hF⟩ := zka_some hF
    obtain ⟨hb_113, hF⟩ := zg_some hF
    refine z_getI (n := 184) dX1_count_181 rfl zok4 fX1_129_4 rfl hk_112 (Or.inl (zbig hb_113)) ?_
    have hF := Option.some.inj hF; subst hF
    exact z_iret dX1_count_184 rfl rfl ⟨rfl, rfl, rfl, rfl, rfl⟩
  replace hF := (if_neg ht12).symm.trans hF
  by_cases ht13 : a0 = 13
  · replace hF := (if_pos ht13).symm.trans hF
    refine z_tableIn (off := 174) (t := 185) dX1_count_11 (by rw [ht13]; decide) (by rw [ht13]; decide) (by rw [ht13]; rfl) (by decide) ?_
    refine z_aload_n (n := 186) dX1_count_185 rfl 0 rfl rfl ?_
    obtain ⟨n_114, hk_115, hF⟩ := zka_some hF
    obtain ⟨hb_116, hF⟩ := zg_some hF
    refine z_getI (n := 189) dX1_count_186 rfl zok0 fX1_93_0 rfl hk_115 (Or.inl (zbig hb_116)) ?_
    have hF := Option.some.inj hF; subst hF
    exact z_iret dX1_count_189 rfl rfl ⟨rfl, rfl, rfl, rfl, rfl⟩
  replace hF := (if_neg ht13).symm.trans hF
  refine z_tableOut (t := 190) dX1_count_11 (by have := lv_neT (a := 0) ht0 (by decide); have := lv_neT (a := 1) ht1 (by decide); have := lv_neT (a := 2) ht2 (by decide); have := lv_neT (a := 3) ht3 (by decide); have := lv_neT (a := 4) ht4 (by decide); have := lv_neT (a := 5) ht5 (by decide); have := lv_neT (a := 6) ht6 (by decide); have := lv_neT (a := 7) ht7 (by decide); have := lv_neT (a := 8) ht8 (by decide); have := lv_neT (a := 9) ht9 (by decide); have := lv_neT (a := 10) ht10 (by decide); have := lv_neT (a := 11) ht11 (by decide); have := lv_neT (a := 12) ht12 (by decide); have := lv_neT (a := 13) ht13 (by decide); omega) (by decide) ?_
  refine z_aload_n (n := 191) dX1_count_190 rfl 0 rfl rfl ?_
  obtain ⟨n_117, hk_118, hF⟩ := zka_some hF
  obtain ⟨hb_119, hF⟩ := zg_some hF
  obtain ⟨o_120, hr_121, hF⟩ := zb1_some hF
  refine z_getRS (n := 194) dX1_count_191 rfl zok0 fX1_19_0 rfl hk_118 (Or.inl (zbig hb_119)) hr_121 ?_
  obtain ⟨n_122, hk_123, hF⟩ := zka_some hF
  obtain ⟨hb_124, hF⟩ := zg_some hF
  obtain ⟨o_125, hr_126, hF⟩ := zb1_some hF
  refine z_getRS (n := 197) dX1_count_194 rfl zok4 fX1_116_4 rfl hk_123 (Or.inl (zbig hb_124)) hr_126 ?_
  refine z_iload_n (n := 198) dX1_count_197 rfl 1 rfl rfl ?_
  refine z_bipush (n := 200) (v := 14) dX1_count_198 rfl (by decide) ?_
  refine z_isub (n := 201) dX1_count_200 rfl ?_
  obtain ⟨n_127, hk_128, hF⟩ := zka_some hF
  obtain ⟨h_129, hF⟩ := zg_some hF
  refine z_ialdK (n := 202) ((a0 - 14).toNatClampNeg) rfl dX1_count_201 rfl hk_128 (zin_ok h_129) ?_
  have hF := Option.some.inj hF; subst hF
  exact z_iret dX1_count_202 rfl rfl ⟨rfl, rfl, rfl, rfl, rfl⟩
theorem zthr_X1_right_4 {l : Launch} {G : zGt} {fr lo mc ms : Nat} {lv : List (Nat × Value)} {K : zKd} {F : zFd} {I : zId} {L : zLd} {Q : zQt} (hfr : 8 ≤ fr) (hlo : 200 ≤ lo) (hmc : 1 ≤ mc) (hms : 6 ≤ ms) (hQ : Q (.inr ("java/lang/IllegalArgumentException", 0)) K F I L) : zW l G (RX1, cX1_right, 1, none, "right", []) fr lo mc ms 4 lv [] K F I L Q := by
  refine z_throw0 (cls := "java/lang/IllegalArgumentException") (names := ["java/lang/RuntimeException", "java/lang/Exception"]) (ik := 52) (ic := 54) (by decide +kernel) (by decide +kernel) q957 q113 ?_ ?_ dX1_right_4 dX1_right_7 dX1_right_8 dX1_right_11 rfl ?_ ?_ hmc hms (by decide) hQ
  · exact zatt (by decide +kernel)
  · exact List.all_eq_true.mp (by decide +kernel)
  · exact Nat.lt_of_lt_of_le (by decide) hfr
  · exact Nat.le_trans (by decide) hlo
abbrev MX1_right : zM := (RX1, cX1_right, 1, none, "right", [])
noncomputable def F_X1_right (K : zKd) (F : zFd) (a0 : Int32) (I : zId) : Option ((Unit ⊕ (String × Nat)) × zId) := if ¬ a0 = 0 then some (.inl (), I) else some (.inr ("java/lang/IllegalArgumentException", 0), I)
set_option maxHeartbeats 1000000 in
theorem C_X1_right {l : Launch} {G : zGt} (htr : l.stackTraces = false) {K : zKd} {F : zFd} {L : zLd} {a0 : Int32} {I : zId} {r : (Unit ⊕ (String × Nat)) × zId} (hF : F_X1_right K F a0 I = some r) : zMet l G yX1_right (ws_ yX1_right cX1_right 1 none) 8 200 (zxc r.1) (zxs r.1) [.int a0] K F I L (zQe (zov r.1) K F r.2 L) := by
  refine zMet.of (by decide +kernel) htr (Nat.le_of_ble_eq_true rfl) ?_
  change zW l G MX1_right 8 200 (zxc r.1) (zxs r.1) 0 [(0, .int a0)] [] K F I L (zQe (zov r.1) K F r.2 L)
  unfold F_X1_right at hF
  refine z_iload_n (n := 1) dX1_right_0 rfl 0 rfl rfl ?_
  refine z_if_ne (n := 4) (t := 12) dX1_right_1 rfl (by decide) (fun hc => ?_) (fun hc => ?_)
  · replace hF := (if_pos hc).symm.trans hF
    have hF := Option.some.inj hF; subst hF
    exact z_vret dX1_right_12 rfl ⟨rfl, rfl, rfl, rfl, rfl⟩
  · replace hF := (if_neg hc).symm.trans hF
    have hF := Option.some.inj hF; subst hF
    exact zthr_X1_right_4 (by decide) (by decide) (Nat.le_refl _) (Nat.le_refl _) ⟨rfl, rfl, rfl, rfl, rfl⟩
theorem fX1_34_0 : zFld RX1 34 0 4 := ⟨_, rfl, by decide, _, Or.inl q737, Or.inl rfl⟩
theorem hcee_X6_goes : zCee yX6_goes RX6 1 := ⟨rfl, by decide +kernel, by decide +kernel, by decide +kernel⟩
abbrev MX1_goesBy : zM := (RX1, cX1_goesBy, 3, none, "goesBy", [])
noncomputable def F_X1_goesBy_L2 (K : zKd) (F : zFd) (o0 : Nat) (a0 : Int32) (v2_1 : Int32) (I_2 : zId) : Option ((Int32 × zId) ⊕ (zId)) := if a0 ≤ v2_1 then some (.inr (I_2)) else zka K o0 0 (fun n_3 => zg (decide (600 ≤ o0)) (zb1 (F o0 4) (fun o_6 => zb1 (F o0 0) (fun o_8 => zka K o_6 5 (fun n_10 => zb1 (F_X6_goes K F o_6 o_8 I_2) (fun I_13 => zlet (v2_1 + 1) (fun v2_14 => some (.inl (v2_14, I_13)))))))))
noncomputable def F_X1_goesBy (K : zKd) (F : zFd) (o0 : Nat) (a0 : Int32) (I : zId) : Option (zId) := zb1 (zloop (fun s : Int32 × zId => F_X1_goesBy_L2 K F o0 a0 s.1 s.2) (0, I)) (fun I_16 => some I_16)
set_option maxHeartbeats 1000000 in
theorem W_X1_goesBy_L2 {l : Launch} {G : zGt} (htr : l.stackTraces = false) {K : zKd} {F : zFd} {L : zLd} {Q : zQt} {o0 : Nat} {a0 : Int32} {v2_1 : Int32} {I_2 : zId} {r : (Int32 × zId) ⊕ (zId)} (hF : F_X1_goesBy_L2 K F o0 a0 v2_1 I_2 = some r) (kl : ∀ (z0 : Int32) (z1 : zId), r = .inl (z0, z1) → zW l G MX1_goesBy 1005 24071 0 0 2 [(0, .ref o0), (1, .int a0), (2, .int z0)] [] K F z1 L Q) (kx : ∀ (y0 : zId), r = .inr y0 → zW l G MX1_goesBy 1005 24071 0 0 24 [] [] K F y0 L Q)  : zW l G MX1_goesBy 1005 24071 0 0 2 [(0, .ref o0), (1, .int a0), (2, .int v2_1)] [] K F I_2 L Q := by
  unfold F_X1_goesBy_L2 at hF
  refine z_iload_n (n := 3) dX1_goesBy_2 rfl 2 rfl rfl ?_
  refine z_iload_n (n := 4) dX1_goesBy_3 rfl 1 rfl rfl ?_
  refine z_icmp_ge (n := 7) (t := 24) dX1_goesBy_4 rfl (by decide) (fun hc => ?_) (fun hc => ?_)
  · replace hF := (if_pos hc).symm.trans hF
    refine z_sub [] rfl ?_
    have hF := Option.some.inj hF; subst hF
    exact kx I_2 rfl
  · replace hF := (if_neg hc).symm.trans hF
    refine z_aload_n (n := 8) dX1_goesBy_7 rfl 0 rfl rfl ?_
    obtain ⟨n_3, hk_4, hF⟩ := zka_some hF
    obtain ⟨hb_5, hF⟩ := zg_some hF
    obtain ⟨o_6, hr_7, hF⟩ := zb1_some hF
    refine z_getRS (n := 11) dX1_goesBy_8 rfl zok0 fX1_34_0 rfl hk_4 (Or.inl (zbig hb_5)) hr_7 ?_
    refine z_aload_n (n := 12) dX1_goesBy_11 rfl 0 rfl rfl ?_
    obtain ⟨o_8, hr_9, hF⟩ := zb1_some hF
    refine z_getRS (n := 15) dX1_goesBy_12 rfl zok0 fX1_10_0 rfl hk_4 (Or.inl (zbig hb_5)) hr_9 ?_
    obtain ⟨n_10, hk_11, hF⟩ := zka_some hF
    obtain ⟨I_13, c_12, hF⟩ := zb1_some hF
    refine z_cV (n := 18) (st := []) (C_X6_goes htr c_12) dX1_goesBy_15 rfl (lw_V q829 q830 q831 q130 q832) hcee_X6_goes rfl (by decide) hk_11 rfl rfl rfl (Nat.le_of_ble_eq_true rfl) (Nat.le_refl _) (Nat.le_refl _) ?_
    obtain ⟨v2_14, e_15, hF⟩ := zlet_ob hF
    refine z_iincE (n := 21) (w := 1) (v := v2_14) (lv' := [(2, .int v2_14), (0, .ref o0), (1, .int a0)]) dX1_goesBy_18 rfl 2 rfl (by decide) e_15 (by decide) rfl ?_
    refine z_goto (t := 2) dX1_goesBy_21 (by decide) ?_
    refine z_sub [1, 2, 0] rfl ?_
    have hF := Option.some.inj hF; subst hF
    exact kl v2_14 I_13 rfl
set_option maxHeartbeats 1000000 in
theorem C_X1_goesBy {l : Launch} {G : zGt} (htr : l.stackTraces = false) {K : zKd} {F : zFd} {L : zLd} {o0 : Nat} {a0 : Int32} {I : zId} {r : zId} (hF : F_X1_goesBy K F o0 a0 I = some r) : zMet l G yX1_goesBy (ws_ yX1_goesBy cX1_goesBy 3 none) 1005 24071 0 0 [.ref o0, .int a0] K F I L (zQe (.inl none) K F r L) := by
  refine zMet.of (by decide +kernel) htr (Nat.le_of_ble_eq_true rfl) ?_
  change zW l G MX1_goesBy 1005 24071 0 0 0 [(0, .ref o0), (1, .int a0)] [] K F I L (zQe (.inl none) K F r L)
  unfold F_X1_goesBy at hF
  refine z_iconst (n := 1) (v := 0) dX1_goesBy_0 rfl (by decide) ?_
  refine z_istore_nE (n := 2) (lv' := [(2, .int 0), (0, .ref o0), (1, .int a0)]) dX1_goesBy_1 rfl rfl rfl (by decide) rfl ?_
  refine z_sub [1, 2, 0] rfl ?_
  obtain ⟨t_18, e_17, hF⟩ := zb1_some hF
  obtain ⟨I_16, rfl⟩ : ∃ z, z = t_18 := ⟨_, rfl⟩
  have H_19 : zW l G MX1_goesBy 1005 24071 0 0 24 [] [] K F I_16 L (zQe (.inl none) K F r L) := by
    have hF := Option.some.inj hF; subst hF
    exact z_vret dX1_goesBy_24 rfl ⟨rfl, rfl, rfl, rfl, rfl⟩
  refine zloop_ind (P := fun s : Int32 × zId => zW l G MX1_goesBy 1005 24071 0 0 2 [(0, .ref o0), (1, .int a0), (2, .int s.1)] [] K F s.2 L (zQe (.inl none) K F r L)) (fun s r hb kl kr => ?_) e_17
  exact W_X1_goesBy_L2 (o0 := o0) (a0 := a0) htr hb (fun z0 z1 e => kl _ e) (fun y0 e => by cases kr _ e; exact H_19)
theorem hcee_X1_goesBy : zCee yX1_goesBy RX1 1 := ⟨rfl, by decide +kernel, by decide +kernel, by decide +kernel⟩
abbrev MX1_owesBy : zM := (RX1, cX1_owesBy, 5, (some .int), "owesBy", [])
noncomputable def F_X1_owesBy (K : zKd) (F : zFd) (o0 : Nat) (a0 : Int32) (a1 : Int32) (a2 : Int32) (a3 : Int32) (I : zId) : Option (Int32 × zId) := zka K o0 0 (fun n_1 => zg (decide (600 ≤ o0)) (zb1 (F o0 4) (fun o_4 => zb1 (F o0 3) (fun o_6 => zka K o_4 5 (fun n_8 => zb1 (F_X6_like K F o_4 o_6 I) (fun I_11 => zb1 (F o0 4) (fun o_12 => zka K o_12 5 (fun n_14 => zg (decide (600 ≤ o_12)) (zb1 (F o_12 4) (fun o_17 => zka K o_17 64 (fun n_19 => zg (zin a0 n_19) (zg (decide (600 ≤ o_17)) (zlet (zu I_11 o_17 a0.toNatClampNeg a1) (fun I_23 => zb1 (F o0 4) (fun o_25 => zka K o_25 5 (fun n_27 => zg (decide (600 ≤ o_25)) (zb1 (F o_25 5) (fun o_30 => zka K o_30 64 (fun n_32 => zg (zin a0 n_32) (zg (decide (600 ≤ o_30)) (zlet (zu I_23 o_30 a0.toNatClampNeg a2) (fun I_36 => zb1 (F_X1_goesBy K F o0 a3 I_36) (fun I_39 => zb1 (F o0 4) (fun o_40 => zka K o_40 5 (fun n_42 => zg (decide (600 ≤ o_40)) (zb1 (F o_40 7) (fun o_45 => zka K o_45 64 (fun n_47 => zg (zin a0 n_47) (some (I_39 o_45 a0.toNatClampNeg, I_39))))))))))))))))))))))))))))))
set_option maxHeartbeats 1000000 in
theorem C_X1_owesBy {l : Launch} {G : zGt} (htr : l.stackTraces = false) {K : zKd} {F : zFd} {L : zLd} {o0 : Nat} {a0 : Int32} {a1 : Int32} {a2 : Int32} {a3 : Int32} {I : zId} {r : Int32 × zId} (hF : F_X1_owesBy K F o0 a0 a1 a2 a3 I = some r) : zMet l G yX1_owesBy (ws_ yX1_owesBy cX1_owesBy 5 (some .int)) 1006 24093 0 0 [.ref o0, .int a0, .int a1, .int a2, .int a3] K F I L (zQe (.inl (some (.int r.1))) K F r.2 L) := by
  refine zMet.of (by decide +kernel) htr (Nat.le_of_ble_eq_true rfl) ?_
  change zW l G MX1_owesBy 1006 24093 0 0 0 [(0, .ref o0), (1, .int a0), (2, .int a1), (3, .int a2), (4, .int a3)] [] K F I L (zQe (.inl (some (.int r.1))) K F r.2 L)
  unfold F_X1_owesBy at hF
  refine z_aload_n (n := 1) dX1_owesBy_0 rfl 0 rfl rfl ?_
  obtain ⟨n_1, hk_2, hF⟩ := zka_some hF
  obtain ⟨hb_3, hF⟩ := zg_some hF
  obtain ⟨o_4, hr_5, hF⟩ := zb1_some hF
  refine z_getRS (n := 4) dX1_owesBy_1 rfl zok0 fX1_34_0 rfl hk_2 (Or.inl (zbig hb_3)) hr_5 ?_
  refine z_aload_n (n := 5) dX1_owesBy_4 rfl 0 rfl rfl ?_
  obtain ⟨o_6, hr_7, hF⟩ := zb1_some hF
  refine z_getRS (n := 8) dX1_owesBy_5 rfl zok0 fX1_30_0 rfl hk_2 (Or.inl (zbig hb_3)) hr_7 ?_
  obtain ⟨n_8, hk_9, hF⟩ := zka_some hF
  obtain ⟨I_11, c_10, hF⟩ := zb1_some hF
  refine z_cV (n := 11) (st := []) (C_X6_like htr c_10) dX1_owesBy_8 rfl (lw_V q918 q821 q822 q130 q823) hcee_X6_like rfl (by decide) hk_9 rfl rfl rfl (Nat.le_of_ble_eq_true rfl) (Nat.le_refl _) (Nat.le_refl _) ?_
  refine z_aload_n (n := 12) dX1_owesBy_11 rfl 0 rfl rfl ?_
  obtain ⟨o_12, hr_13, hF⟩ := zb1_some hF
  refine z_getRS (n := 15) dX1_owesBy_12 rfl zok0 fX1_34_0 rfl hk_2 (Or.inl (zbig hb_3)) hr_13 ?_
  obtain ⟨n_14, hk_15, hF⟩ := zka_some hF
  obtain ⟨hb_16, hF⟩ := zg_some hF
  obtain ⟨o_17, hr_18, hF⟩ := zb1_some hF
  refine z_getRS (n := 18) dX1_owesBy_15 rfl zok5 fX1_165_5 rfl hk_15 (Or.inl (zbig hb_16)) hr_18 ?_
  refine z_iload_n (n := 19) dX1_owesBy_18 rfl 1 rfl rfl ?_
  refine z_iload_n (n := 20) dX1_owesBy_19 rfl 2 rfl rfl ?_
  obtain ⟨n_19, hk_20, hF⟩ := zka_some hF
  obtain ⟨h_21, hF⟩ := zg_some hF
  obtain ⟨hb_22, hF⟩ := zg_some hF
  obtain ⟨I_23, e_24, hF⟩ := zlet_ob hF
  refine z_iastK (n := 21) a0.toNatClampNeg rfl dX1_owesBy_20 rfl hk_20 (zbig hb_22) (zin_ok h_21) e_24 ?_
  refine z_aload_n (n := 22) dX1_owesBy_21 rfl 0 rfl rfl ?_
  obtain ⟨o_25, hr_26, hF⟩ := zb1_some hF
  refine z_getRS (n := 25) dX1_owesBy_22 rfl zok0 fX1_34_0 rfl hk_2 (Or.inl (zbig hb_3)) hr_26 ?_
  obtain ⟨n_27, hk_28, hF⟩ := zka_some hF
  obtain ⟨hb_29, hF⟩ := zg_some hF
  obtain ⟨o_30, hr_31, hF⟩ := zb1_some hF
  refine z_getRS (n := 28) dX1_owesBy_25 rfl zok5 fX1_203_5 rfl hk_28 (Or.inl (zbig hb_29)) hr_31 ?_
  refine z_iload_n (n := 29) dX1_owesBy_28 rfl 1 rfl rfl ?_
  refine z_iload_n (n := 30) dX1_owesBy_29 rfl 3 rfl rfl ?_
  obtain ⟨n_32, hk_33, hF⟩ := zka_some hF
  obtain ⟨h_34, hF⟩ := zg_some hF
  obtain ⟨hb_35, hF⟩ := zg_some hF
  obtain ⟨I_36, e_37, hF⟩ := zlet_ob hF
  refine z_iastK (n := 31) a0.toNatClampNeg rfl dX1_owesBy_30 rfl hk_33 (zbig hb_35) (zin_ok h_34) e_37 ?_
  refine z_aload_n (n := 32) dX1_owesBy_31 rfl 0 rfl rfl ?_
  refine z_iload (n := 34) dX1_owesBy_32 rfl 4 rfl ?_
  obtain ⟨I_39, c_38, hF⟩ := zb1_some hF
  refine z_cV (n := 37) (st := []) (C_X1_goesBy htr c_38) dX1_owesBy_34 rfl (lw_V q1469 q1471 qs35 q105 q1472) hcee_X1_goesBy rfl (by decide) hk_2 rfl rfl rfl (Nat.le_of_ble_eq_true rfl) (Nat.le_refl _) (Nat.le_refl _) ?_
  refine z_aload_n (n := 38) dX1_owesBy_37 rfl 0 rfl rfl ?_
  obtain ⟨o_40, hr_41, hF⟩ := zb1_some hF
  refine z_getRS (n := 41) dX1_owesBy_38 rfl zok0 fX1_34_0 rfl hk_2 (Or.inl (zbig hb_3)) hr_41 ?_
  obtain ⟨n_42, hk_43, hF⟩ := zka_some hF
  obtain ⟨hb_44, hF⟩ := zg_some hF
  obtain ⟨o_45, hr_46, hF⟩ := zb1_some hF
  refine z_getRS (n := 44) dX1_owesBy_41 rfl zok5 fX1_209_5 rfl hk_43 (Or.inl (zbig hb_44)) hr_46 ?_
  refine z_iload_n (n := 45) dX1_owesBy_44 rfl 1 rfl rfl ?_
  obtain ⟨n_47, hk_48, hF⟩ := zka_some hF
  obtain ⟨h_49, hF⟩ := zg_some hF
  refine z_ialdK (n := 46) a0.toNatClampNeg rfl dX1_owesBy_45 rfl hk_48 (zin_ok h_49) ?_
  have hF := Option.some.inj hF; subst hF
  exact z_iret dX1_owesBy_46 rfl rfl ⟨rfl, rfl, rfl, rfl, rfl⟩
theorem hcee_X1_owesBy : zCee yX1_owesBy RX1 4 := ⟨rfl, by decide +kernel, by decide +kernel, by decide +kernel⟩
theorem hcee_X1_right : zCee yX1_right RX1 1 := ⟨rfl, by decide +kernel, by decide +kernel, by decide +kernel⟩
abbrev MX1_counted : zM := (RX1, cX1_counted, 4, (some .int), "counted", [])
noncomputable def F_X1_counted_L18 (K : zKd) (F : zFd) (o0 : Nat) (a0 : Int32) (a1 : Int32) (v3_17 : Int32) (I_18 : zId) : Option ((Int32 × zId) ⊕ ((zId) ⊕ ((Int32 ⊕ (String × Nat)) × zId))) := if v3_17 < 0 then some (.inr (.inl I_18)) else zka K o0 0 (fun n_19 => zg (decide (600 ≤ o0)) (zb1 (F o0 3) (fun o_22 => zka K o_22 5 (fun n_24 => zg (decide (600 ≤ o_22)) (zb1 (F o_22 4) (fun o_27 => zka K o_27 64 (fun n_29 => zg (zin a0 n_29) (zb2 (F_X1_owesBy K F o0 a0 (I_18 o_27 a0.toNatClampNeg) v3_17 a1 I_18) (fun x_33 I_34 => if ¬ x_33 = 0 then zlet (v3_17 + (-1)) (fun v3_35 => some (.inl (v3_35, I_34))) else some (.inr (.inr (.inl v3_17, I_34))))))))))))
noncomputable def F_X1_counted (K : zKd) (F : zFd) (o0 : Nat) (a0 : Int32) (a1 : Int32) (I : zId) : Option ((Int32 ⊕ (String × Nat)) × zId) := zka K o0 0 (fun n_1 => zb2 (F_X1_bandAt K F o0 a0 I) (fun s_4 I_5 => zsum s_4 (fun x_7 => zb1 (F_X1_within K F a1 1 20 I_5) (fun x_10 => zb2 (F_X1_right K F x_10 I_5) (fun s_12 I_13 => zsum s_12 (fun x_15 => zs1 (zloop (fun s : Int32 × zId => F_X1_counted_L18 K F o0 a0 a1 s.1 s.2) (30, I_13)) (fun I_37 => some (.inl (-1), I_37)) (fun z_39 => some z_39)) (fun w_16 => some (.inr w_16, I_13))))) (fun w_8 => some (.inr w_8, I_5))))
set_option maxHeartbeats 1000000 in
theorem W_X1_counted_L18 {l : Launch} {G : zGt} (htr : l.stackTraces = false) {K : zKd} {F : zFd} {L : zLd} {Q : zQt} {mE wE : Nat} {o0 : Nat} {a0 : Int32} {a1 : Int32} {v3_17 : Int32} {I_18 : zId} {r : (Int32 × zId) ⊕ ((zId) ⊕ ((Int32 ⊕ (String × Nat)) × zId))} (hF : F_X1_counted_L18 K F o0 a0 a1 v3_17 I_18 = some r) (kl : ∀ (z0 : Int32) (z1 : zId), r = .inl (z0, z1) → zW l G MX1_counted 1007 24117 mE wE 18 [(0, .ref o0), (1, .int a0), (2, .int a1), (3, .int z0)] [] K F z1 L Q) (kx : ∀ (y0 : zId), r = .inr (.inl y0) → zW l G MX1_counted 1007 24117 mE wE 49 [] [] K F y0 L Q) (kq : ∀ z : (Int32 ⊕ (String × Nat)) × zId, r = .inr (.inr z) → Q (zoi z.1) K F z.2 L)(kb : ∀ z : (Int32 ⊕ (String × Nat)) × zId, r = .inr (.inr z) → zxc z.1 ≤ mE ∧ zxs z.1 ≤ wE) : zW l G MX1_counted 1007 24117 mE wE 18 [(0, .ref o0), (1, .int a0), (2, .int a1), (3, .int v3_17)] [] K F I_18 L Q := by
  unfold F_X1_counted_L18 at hF
  refine z_iload_n (n := 19) dX1_counted_18 rfl 3 rfl rfl ?_
  refine z_if_lt (n := 22) (t := 49) dX1_counted_19 rfl (by decide) (fun hc => ?_) (fun hc => ?_)
  · replace hF := (if_pos hc).symm.trans hF
    refine z_sub [] rfl ?_
    have hF := Option.some.inj hF; subst hF
    exact kx I_18 rfl
  · replace hF := (if_neg hc).symm.trans hF
    refine z_aload_n (n := 23) dX1_counted_22 rfl 0 rfl rfl ?_
    refine z_iload_n (n := 24) dX1_counted_23 rfl 1 rfl rfl ?_
    refine z_aload_n (n := 25) dX1_counted_24 rfl 0 rfl rfl ?_
    obtain ⟨n_19, hk_20, hF⟩ := zka_some hF
    obtain ⟨hb_21, hF⟩ := zg_some hF
    obtain ⟨o_22, hr_23, hF⟩ := zb1_some hF
    refine z_getRS (n := 28) dX1_counted_25 rfl zok0 fX1_30_0 rfl hk_20 (Or.inl (zbig hb_21)) hr_23 ?_
    obtain ⟨n_24, hk_25, hF⟩ := zka_some hF
    obtain ⟨hb_26, hF⟩ := zg_some hF
    obtain ⟨o_27, hr_28, hF⟩ := zb1_some hF
    refine z_getRS (n := 31) dX1_counted_28 rfl zok5 fX1_165_5 rfl hk_25 (Or.inl (zbig hb_26)) hr_28 ?_
    refine z_iload_n (n := 32) dX1_counted_31 rfl 1 rfl rfl ?_
    obtain ⟨n_29, hk_30, hF⟩ := zka_some hF
    obtain ⟨h_31, hF⟩ := zg_some hF
    refine z_ialdK (n := 33) a0.toNatClampNeg rfl dX1_counted_32 rfl hk_30 (zin_ok h_31) ?_
    refine z_iload_n (n := 34) dX1_counted_33 rfl 3 rfl rfl ?_
    refine z_iload_n (n := 35) dX1_counted_34 rfl 2 rfl rfl ?_
    obtain ⟨x_33, I_34, c_32, hF⟩ := zb2_some hF
    refine z_cV (n := 38) (st := []) (C_X1_owesBy htr c_32) dX1_counted_35 rfl (lw_V q1586 q1588 qs40 q105 q1589) hcee_X1_owesBy rfl (by decide) hk_20 rfl rfl rfl (Nat.le_of_ble_eq_true rfl) (Nat.le_refl _) (Nat.le_refl _) ?_
    refine z_if_ne (n := 41) (t := 43) dX1_counted_38 rfl (by decide) (fun hc => ?_) (fun hc => ?_)
    · replace hF := (if_pos hc).symm.trans hF
      obtain ⟨v3_35, e_36, hF⟩ := zlet_ob hF
      refine z_iincE (n := 46) (w := (-1)) (v := v3_35) (lv' := [(3, .int v3_35), (0, .ref o0), (1, .int a0), (2, .int a1)]) dX1_counted_43 rfl 3 rfl (by decide) e_36 (by decide) rfl ?_
      refine z_goto (t := 18) dX1_counted_46 (by decide) ?_
      refine z_sub [1, 2, 3, 0] rfl ?_
      have hF := Option.some.inj hF; subst hF
      exact kl v3_35 I_34 rfl
    · replace hF := (if_neg hc).symm.trans hF
      refine z_iload_n (n := 42) dX1_counted_41 rfl 3 rfl rfl ?_
      have hF := Option.some.inj hF; subst hF
      exact z_iret dX1_counted_42 rfl rfl (kq _ rfl)
set_option maxHeartbeats 1000000 in
theorem C_X1_counted {l : Launch} {G : zGt} (htr : l.stackTraces = false) {K : zKd} {F : zFd} {L : zLd} {o0 : Nat} {a0 : Int32} {a1 : Int32} {I : zId} {r : (Int32 ⊕ (String × Nat)) × zId} (hF : F_X1_counted K F o0 a0 a1 I = some r) : zMet l G yX1_counted (ws_ yX1_counted cX1_counted 4 (some .int)) 1007 24117 (zxc r.1) (zxs r.1) [.ref o0, .int a0, .int a1] K F I L (zQe (zoi r.1) K F r.2 L) := by
  refine zMet.of (by decide +kernel) htr (Nat.le_of_ble_eq_true rfl) ?_
  change zW l G MX1_counted 1007 24117 (zxc r.1) (zxs r.1) 0 [(0, .ref o0), (1, .int a0), (2, .int a1)] [] K F I L (zQe (zoi r.1) K F r.2 L)
  unfold F_X1_counted at hF
  refine z_aload_n (n := 1) dX1_counted_0 rfl 0 rfl rfl ?_
  refine z_iload_n (n := 2) dX1_counted_1 rfl 1 rfl rfl ?_
  obtain ⟨n_1, hk_2, hF⟩ := zka_some hF
  obtain ⟨s_4, I_5, c_3, hF⟩ := zb2_some hF
  rcases zsum_some hF with ⟨x_7, e_6, hF⟩ | ⟨w_8, e_6, hF⟩
  rotate_left
  · first | rw [e_6] at c_3 ⊢ | rw [e_6] at c_3
    have hF := Option.some.inj hF; subst hF
    refine z_cVx (n := 5) (mc2 := 0) (ms2 := 0) (st := []) (C_X1_bandAt htr c_3) dX1_counted_2 rfl (lw_V q1421 q1423 qs34 q105 q1424) hcee_X1_bandAt rfl (by decide) hk_2 rfl rfl rfl (Nat.le_of_ble_eq_true rfl) (Nat.le_refl _) (Nat.le_refl _) ?_
    exact z_out rfl ⟨rfl, rfl, rfl, rfl, rfl⟩
  first | rw [e_6] at c_3 ⊢ | rw [e_6] at c_3
  refine z_cV (n := 5) (st := []) (C_X1_bandAt htr c_3) dX1_counted_2 rfl (lw_V q1421 q1423 qs34 q105 q1424) hcee_X1_bandAt rfl (by decide) hk_2 rfl rfl rfl (Nat.le_of_ble_eq_true rfl) (Nat.le_refl _) (Nat.le_refl _) ?_
  refine z_iload_n (n := 6) dX1_counted_5 rfl 2 rfl rfl ?_
  refine z_iconst (n := 7) (v := 1) dX1_counted_6 rfl (by decide) ?_
  refine z_bipush (n := 9) (v := 20) dX1_counted_7 rfl (by decide) ?_
  obtain ⟨x_10, c_9, hF⟩ := zb1_some hF
  refine z_cS (n := 12) (st := []) (C_X1_within htr c_9) dX1_counted_9 rfl (lw_S q786 q787 q105 q788) hcee_X1_within rfl (by decide) rfl (Nat.le_of_ble_eq_true rfl) (Nat.le_refl _) (Nat.le_refl _) ?_
  obtain ⟨s_12, I_13, c_11, hF⟩ := zb2_some hF
  rcases zsum_some hF with ⟨x_15, e_14, hF⟩ | ⟨w_16, e_14, hF⟩
  rotate_left
  · first | rw [e_14] at c_11 ⊢ | rw [e_14] at c_11
    have hF := Option.some.inj hF; subst hF
    refine z_cSx (n := 15) (mc2 := 0) (ms2 := 0) (st := []) (C_X1_right htr c_11) dX1_counted_12 rfl (lw_S q954 q955 q105 q956) hcee_X1_right rfl (by decide) rfl (Nat.le_of_ble_eq_true rfl) (Nat.le_refl _) (Nat.le_refl _) ?_
    exact z_out rfl ⟨rfl, rfl, rfl, rfl, rfl⟩
  first | rw [e_14] at c_11 ⊢ | rw [e_14] at c_11
  refine z_cS (n := 15) (st := []) (C_X1_right htr c_11) dX1_counted_12 rfl (lw_S q954 q955 q105 q956) hcee_X1_right rfl (by decide) rfl (Nat.le_of_ble_eq_true rfl) (Nat.le_refl _) (Nat.le_refl _) ?_
  refine z_bipush (n := 17) (v := 30) dX1_counted_15 rfl (by decide) ?_
  refine z_istore_nE (n := 18) (lv' := [(3, .int 30), (0, .ref o0), (1, .int a0), (2, .int a1)]) dX1_counted_17 rfl rfl rfl (by decide) rfl ?_
  refine z_sub [1, 2, 3, 0] rfl ?_
  rcases zs1_some hF with ⟨t_40, e_38, hF⟩ | ⟨t_40, e_38, hF⟩
  · skip
    obtain ⟨I_37, rfl⟩ : ∃ z, z = t_40 := ⟨_, rfl⟩
    have H_41 : zW l G MX1_counted 1007 24117 (zxc r.1) (zxs r.1) 49 [] [] K F I_37 L (zQe (zoi r.1) K F r.2 L) := by
      refine z_iconst (n := 50) (v := (-1)) dX1_counted_49 rfl (by decide) ?_
      have hF := Option.some.inj hF; subst hF
      exact z_iret dX1_counted_50 rfl rfl ⟨rfl, rfl, rfl, rfl, rfl⟩
    refine zloop_ind (P := fun s : Int32 × zId => zW l G MX1_counted 1007 24117 (zxc r.1) (zxs r.1) 18 [(0, .ref o0), (1, .int a0), (2, .int a1), (3, .int s.1)] [] K F s.2 L (zQe (zoi r.1) K F r.2 L)) (fun s r hb kl kr => ?_) e_38
    exact W_X1_counted_L18 (o0 := o0) (a0 := a0) (a1 := a1) htr hb (fun z0 z1 e => kl _ e) (fun y0 e => by cases kr _ e; exact H_41) (fun z e => by cases kr _ e) (fun z e => by cases kr _ e)
  · skip
    have hq := Option.some.inj hF
    refine zloop_ind (P := fun s : Int32 × zId => zW l G MX1_counted 1007 24117 (zxc r.1) (zxs r.1) 18 [(0, .ref o0), (1, .int a0), (2, .int a1), (3, .int s.1)] [] K F s.2 L (zQe (zoi r.1) K F r.2 L)) (fun s r hb kl kr => ?_) e_38
    exact W_X1_counted_L18 (o0 := o0) (a0 := a0) (a1 := a1) htr hb (fun z0 z1 e => kl _ e) (fun y0 e => by cases kr _ e) (fun z e => by cases kr _ e; subst hq; exact ⟨rfl, rfl, rfl, rfl, rfl⟩) (fun z e => by cases kr _ e; subst hq; exact ⟨Nat.le_refl _, Nat.le_refl _⟩)
theorem fX1_316_0 : zFld RX1 316 0 11 := ⟨_, rfl, by decide, _, Or.inl q744, Or.inl rfl⟩
abbrev MX1_draw : zM := (RX1, cX1_draw, 2, (some .int), "draw", [])
noncomputable def F_X1_draw (K : zKd) (F : zFd) (o0 : Nat) (a0 : Int32) (I : zId) : Option (Int32 × zId) := zka K o0 0 (fun n_1 => zg (decide (600 ≤ o0)) (zlet (zu I o0 11 (((I o0 11) * 1103515245) + 12345)) (fun I_4 => zg (!(decide (a0 = 0))) (some ((((I_4 o0 11) >>> ((16 : Int32) &&& (31 : Int32))) &&& (32767 : Int32)) - (((I_4 o0 11) >>> ((16 : Int32) &&& (31 : Int32))) &&& (32767 : Int32)) / a0 * a0, I_4)))))
set_option maxHeartbeats 1000000 in
theorem C_X1_draw {l : Launch} {G : zGt} (htr : l.stackTraces = false) {K : zKd} {F : zFd} {L : zLd} {o0 : Nat} {a0 : Int32} {I : zId} {r : Int32 × zId} (hF : F_X1_draw K F o0 a0 I = some r) : zMet l G yX1_draw (ws_ yX1_draw cX1_draw 2 (some .int)) 0 0 0 0 [.ref o0, .int a0] K F I L (zQe (.inl (some (.int r.1))) K F r.2 L) := by
  refine zMet.of (by decide +kernel) htr (Nat.le_of_ble_eq_true rfl) ?_
  change zW l G MX1_draw 0 0 0 0 0 [(0, .ref o0), (1, .int a0)] [] K F I L (zQe (.inl (some (.int r.1))) K F r.2 L)
  unfold F_X1_draw at hF
  refine z_aload_n (n := 1) dX1_draw_0 rfl 0 rfl rfl ?_
  refine z_aload_n (n := 2) dX1_draw_1 rfl 0 rfl rfl ?_
  obtain ⟨n_1, hk_2, hF⟩ := zka_some hF
  obtain ⟨hb_3, hF⟩ := zg_some hF
  refine z_getI (n := 5) dX1_draw_2 rfl zok0 fX1_316_0 rfl hk_2 (Or.inl (zbig hb_3)) ?_
  refine z_ldcw (n := 8) dX1_draw_5 rfl q1661 ?_
  refine z_imul (n := 9) dX1_draw_8 rfl ?_
  refine z_sipush (n := 12) (v := 12345) dX1_draw_9 rfl (by decide) ?_
  refine z_iadd (n := 13) dX1_draw_12 rfl ?_
  obtain ⟨I_4, e_5, hF⟩ := zlet_ob hF
  refine z_putIE (n := 16) dX1_draw_13 rfl zok0 fX1_316_0 (Or.inl ⟨_, rfl, rfl⟩) rfl ⟨rfl, rfl⟩ hk_2 (zbig hb_3) e_5 ?_
  refine z_aload_n (n := 17) dX1_draw_16 rfl 0 rfl rfl ?_
  refine z_getI (n := 20) dX1_draw_17 rfl zok0 fX1_316_0 rfl hk_2 (Or.inl (zbig hb_3)) ?_
  refine z_bipush (n := 22) (v := 16) dX1_draw_20 rfl (by decide) ?_
  refine z_ishr (n := 23) dX1_draw_22 rfl ?_
  refine z_sipush (n := 26) (v := 32767) dX1_draw_23 rfl (by decide) ?_
  refine z_iand (n := 27) dX1_draw_26 rfl ?_
  refine z_iload_n (n := 28) dX1_draw_27 rfl 1 rfl rfl ?_
  obtain ⟨h_6, hF⟩ := zg_some hF
  refine z_irem (n := 29) dX1_draw_28 rfl (zneg0 (a := 0) h_6) ?_
  have hF := Option.some.inj hF; subst hF
  exact z_iret dX1_draw_29 rfl rfl ⟨rfl, rfl, rfl, rfl, rfl⟩
abbrev MX1_dye : zM := (RX1, cX1_dye, 3, (some .int), "dye", [])
noncomputable def F_X1_dye (o0 : Nat) (a0 : Int32) (a1 : Int32) (h : zSt) : Option ((Nat × Nat) × ((Int32 ⊕ (String × Nat)) × zSt)) := zka (hK h) o0 0 (fun n_1 => zb2 (F_X1_bandAt (hK h) (jF h) o0 a0 (hI h)) (fun s_4 I_5 => zpay (zxc s_4, zxs s_4) (zlet (zsFI h (jF h) I_5) (fun h_7 => zsum s_4 (fun x_9 => zb1 (F_X1_within (hK h_7) (jF h_7) a1 1 99 (hI h_7)) (fun x_12 => zka (hK h_7) o0 0 (fun n_13 => zc1 (F_X1_does o0 x_12 h_7) (fun c_18 => zn2 (fun x_16 h_17 => zpay c_18 (if ¬ x_16 = 0 then zka (hK h_17) o0 0 (fun n_20 => zg (decide (600 ≤ o0)) (zb1 ((jF h_17) o0 3) (fun o_23 => zka (hK h_17) o_23 5 (fun n_25 => zg (decide (600 ≤ o_23)) (zb1 ((jF h_17) o_23 6) (fun o_28 => zb1 ((jF h_17) o0 3) (fun o_30 => zka (hK h_17) o_30 5 (fun n_32 => zg (decide (600 ≤ o_30)) (zb1 ((jF h_17) o_30 6) (fun o_35 => zka (hK h_17) o_35 64 (fun n_37 => zg (zin a0 n_37) (zka (hK h_17) o_28 64 (fun n_40 => zg (zin a0 n_40) (zg (decide (600 ≤ o_28)) (zlet (zsI h_17 (zu (hI h_17) o_28 a0.toNatClampNeg (zmin (9999 : Int32) (((hI h_17) o_35 a0.toNatClampNeg) + a1)))) (fun h_44 => zka (hK h_44) o0 0 (fun n_46 => zb1 ((jF h_44) o0 3) (fun o_48 => zka (hK h_44) o_48 5 (fun n_50 => zg (decide (600 ≤ o_48)) (zb1 ((jF h_44) o_48 6) (fun o_53 => zka (hK h_44) o_53 64 (fun n_55 => zg (zin a0 n_55) (some ((0, 0), (.inl ((hI h_44) o_53 a0.toNatClampNeg), h_44))))))))))))))))))))))))) else some ((0, 0), (.inl (-1), h_17)))))))) (fun w_10 => some ((0, 0), (.inr w_10, h_7)))))))
set_option maxHeartbeats 1000000 in
theorem C_X1_dye {l : Launch} {G : zGt} (htr : l.stackTraces = false) {o0 : Nat} {a0 : Int32} {a1 : Int32} {h : zSt} {cc : Nat × Nat} {r : (Int32 ⊕ (String × Nat)) × zSt} (hF : F_X1_dye o0 a0 a1 h = some (cc, r)) : zMet l G yX1_dye (ws_ yX1_dye cX1_dye 3 (some .int)) 10 241 (cc.1 + 0) (cc.2 + 0) [.ref o0, .int a0, .int a1] (hK h) (jF h) (hI h) (hL h) (zQe (zoi r.1) (hK r.2) (jF r.2) (hI r.2) (hL r.2)) := by
  refine zMet.of (by decide +kernel) htr (Nat.le_of_ble_eq_true rfl) ?_
  change zW l G MX1_dye 10 241 (cc.1 + 0) (cc.2 + 0) 0 [(0, .ref o0), (1, .int a0), (2, .int a1)] [] (hK h) (jF h) (hI h) (hL h) (zQe (zoi r.1) (hK r.2) (jF r.2) (hI r.2) (hL r.2))
  unfold F_X1_dye at hF
  refine z_aload_n (n := 1) dX1_dye_0 rfl 0 rfl rfl ?_
  refine z_iload_n (n := 2) dX1_dye_1 rfl 1 rfl rfl ?_
  obtain ⟨n_1, hk_2, hF⟩ := zka_some hF
  obtain ⟨s_4, I_5, c_3, hF⟩ := zb2_some hF
  obtain ⟨cc, hF, hcc⟩ := zpay_some hF
  refine z_payE hcc ?_
  obtain ⟨h_7, e_8, hF⟩ := zlet_ob hF
  rcases zsum_some hF with ⟨x_9, e_6, hF⟩ | ⟨w_10, e_6, hF⟩
  rotate_left
  · first | rw [e_6] at c_3 ⊢ | rw [e_6] at c_3
    obtain ⟨rfl, rfl⟩ := zpair hF
    refine z_cVx (n := 5) (mc2 := (((0, 0) : Nat × Nat).1 + 0)) (ms2 := (((0, 0) : Nat × Nat).2 + 0)) (st := []) (C_X1_bandAt htr c_3) dX1_dye_2 rfl (lw_V q1421 q1423 qs34 q105 q1424) hcee_X1_bandAt rfl (by decide) hk_2 rfl rfl rfl (Nat.le_of_ble_eq_true rfl) (Nat.le_of_eq (Nat.add_comm _ _)) (Nat.le_of_eq (Nat.add_comm _ _)) ?_
    exact z_out rfl (by subst e_8; exact ⟨rfl, rfl, rfl, rfl, rfl⟩)
  first | rw [e_6] at c_3 ⊢ | rw [e_6] at c_3
  refine z_cV (n := 5) (mc2 := (cc.1 + 0)) (ms2 := (cc.2 + 0)) (st := []) (C_X1_bandAt htr c_3) dX1_dye_2 rfl (lw_V q1421 q1423 qs34 q105 q1424) hcee_X1_bandAt rfl (by decide) hk_2 rfl rfl rfl (Nat.le_of_ble_eq_true rfl) (Nat.le_of_eq (Nat.add_comm _ _)) (Nat.le_of_eq (Nat.add_comm _ _)) ?_
  refine z_toFI e_8 ?_
  refine z_aload_n (n := 6) dX1_dye_5 rfl 0 rfl rfl ?_
  refine z_iload_n (n := 7) dX1_dye_6 rfl 2 rfl rfl ?_
  refine z_iconst (n := 8) (v := 1) dX1_dye_7 rfl (by decide) ?_
  refine z_bipush (n := 10) (v := 99) dX1_dye_8 rfl (by decide) ?_
  obtain ⟨x_12, c_11, hF⟩ := zb1_some hF
  refine z_cS (n := 13) (mc2 := (cc.1 + 0)) (ms2 := (cc.2 + 0)) (st := [.ref o0]) (C_X1_within htr c_11) dX1_dye_10 rfl (lw_S q786 q787 q105 q788) hcee_X1_within rfl (by decide) rfl (Nat.le_of_ble_eq_true rfl) (Nat.le_refl _) (Nat.le_refl _) ?_
  obtain ⟨n_13, hk_14, hF⟩ := zka_some hF
  obtain ⟨c_18, t_19, c_15, hF⟩ := zc1_some hF
  obtain ⟨x_16, h_17⟩ := t_19
  dsimp only [zn2] at hF
  obtain ⟨cc, hF, hcc⟩ := zpay_some hF
  refine z_payE hcc ?_
  refine z_cV (n := 16) (mc2 := (cc.1 + 0)) (ms2 := (cc.2 + 0)) (st := []) (C_X1_does htr c_15) dX1_dye_13 rfl (lw_V q789 q791 qs5 q105 q792) hcee_X1_does rfl (by decide) hk_14 rfl rfl rfl (Nat.le_of_ble_eq_true rfl) (Nat.le_of_eq (Nat.add_comm _ _)) (Nat.le_of_eq (Nat.add_comm _ _)) ?_
  refine z_if_ne (n := 19) (t := 21) dX1_dye_16 rfl (by decide) (fun hc => ?_) (fun hc => ?_)
  · replace hF := (if_pos hc).symm.trans hF
    refine z_aload_n (n := 22) dX1_dye_21 rfl 0 rfl rfl ?_
    obtain ⟨n_20, hk_21, hF⟩ := zka_some hF
    obtain ⟨hb_22, hF⟩ := zg_some hF
    obtain ⟨o_23, hr_24, hF⟩ := zb1_some hF
    refine z_getRS (n := 25) dX1_dye_22 rfl zok0 fX1_30_0 rfl hk_21 (Or.inl (zbig hb_22)) hr_24 ?_
    obtain ⟨n_25, hk_26, hF⟩ := zka_some hF
    obtain ⟨hb_27, hF⟩ := zg_some hF
    obtain ⟨o_28, hr_29, hF⟩ := zb1_some hF
    refine z_getRS (n := 28) dX1_dye_25 rfl zok5 fX1_206_5 rfl hk_26 (Or.inl (zbig hb_27)) hr_29 ?_
    refine z_iload_n (n := 29) dX1_dye_28 rfl 1 rfl rfl ?_
    refine z_sipush (n := 32) (v := 9999) dX1_dye_29 rfl (by decide) ?_
    refine z_aload_n (n := 33) dX1_dye_32 rfl 0 rfl rfl ?_
    obtain ⟨o_30, hr_31, hF⟩ := zb1_some hF
    refine z_getRS (n := 36) dX1_dye_33 rfl zok0 fX1_30_0 rfl hk_21 (Or.inl (zbig hb_22)) hr_31 ?_
    obtain ⟨n_32, hk_33, hF⟩ := zka_some hF
    obtain ⟨hb_34, hF⟩ := zg_some hF
    obtain ⟨o_35, hr_36, hF⟩ := zb1_some hF
    refine z_getRS (n := 39) dX1_dye_36 rfl zok5 fX1_206_5 rfl hk_33 (Or.inl (zbig hb_34)) hr_36 ?_
    refine z_iload_n (n := 40) dX1_dye_39 rfl 1 rfl rfl ?_
    obtain ⟨n_37, hk_38, hF⟩ := zka_some hF
    obtain ⟨h_39, hF⟩ := zg_some hF
    refine z_ialdK (n := 41) a0.toNatClampNeg rfl dX1_dye_40 rfl hk_38 (zin_ok h_39) ?_
    refine z_iload_n (n := 42) dX1_dye_41 rfl 2 rfl rfl ?_
    refine z_iadd (n := 43) dX1_dye_42 rfl ?_
    refine z_min (n := 46) dX1_dye_43 rfl q1454 q290 q119 q291 (by decide) (Nat.le_of_ble_eq_true rfl) ?_
    obtain ⟨n_40, hk_41, hF⟩ := zka_some hF
    obtain ⟨h_42, hF⟩ := zg_some hF
    obtain ⟨hb_43, hF⟩ := zg_some hF
    obtain ⟨h_44, e_45, hF⟩ := zlet_ob hF
    refine z_iastK (n := 47) a0.toNatClampNeg rfl dX1_dye_46 rfl hk_41 (zbig hb_43) (zin_ok h_42) rfl ?_
    refine z_toI e_45 ?_
    refine z_aload_n (n := 48) dX1_dye_47 rfl 0 rfl rfl ?_
    obtain ⟨n_46, hk_47, hF⟩ := zka_some hF
    obtain ⟨o_48, hr_49, hF⟩ := zb1_some hF
    refine z_getRS (n := 51) dX1_dye_48 rfl zok0 fX1_30_0 rfl hk_47 (Or.inl (zbig hb_22)) hr_49 ?_
    obtain ⟨n_50, hk_51, hF⟩ := zka_some hF
    obtain ⟨hb_52, hF⟩ := zg_some hF
    obtain ⟨o_53, hr_54, hF⟩ := zb1_some hF
    refine z_getRS (n := 54) dX1_dye_51 rfl zok5 fX1_206_5 rfl hk_51 (Or.inl (zbig hb_52)) hr_54 ?_
    refine z_iload_n (n := 55) dX1_dye_54 rfl 1 rfl rfl ?_
    obtain ⟨n_55, hk_56, hF⟩ := zka_some hF
    obtain ⟨h_57, hF⟩ := zg_some hF
    refine z_ialdK (n := 56) a0.toNatClampNeg rfl dX1_dye_55 rfl hk_56 (zin_ok h_57) ?_
    obtain ⟨rfl, rfl⟩ := zpair hF
    exact z_iret dX1_dye_56 rfl rfl ⟨rfl, rfl, rfl, rfl, rfl⟩
  · replace hF := (if_neg hc).symm.trans hF
    refine z_iconst (n := 20) (v := (-1)) dX1_dye_19 rfl (by decide) ?_
    obtain ⟨rfl, rfl⟩ := zpair hF
    exact z_iret dX1_dye_20 rfl rfl ⟨rfl, rfl, rfl, rfl, rfl⟩
abbrev MX1_forestAt : zM := (RX1, cX1_forestAt, 2, (some (.object "SableCrown$Forest")), "forestAt", [])
noncomputable def F_X1_forestAt (K : zKd) (F : zFd) (o0 : Nat) (a0 : Int32) (I : zId) : Option ((Option Nat ⊕ (String × Nat)) × zId) := zlet (fun (w_1 : Int32) => zb2 (F_X1_there K F w_1 I) (fun s_6 I_7 => zsum s_6 (fun x_9 => zka K o0 0 (fun n_11 => zg (decide (600 ≤ o0)) (zb1 (F o0 0) (fun o_14 => zka K o_14 1 (fun n_16 => zg (decide (600 ≤ o_14)) (zb1 (F o_14 4) (fun o_19 => zka K o_19 2 (fun n_21 => zb1 (F_J2_get K F o_19 a0 I_7) (fun q_24 => zb1 q_24 (fun o_25 => zka K o_25 9 (fun n_27 => some (.inl (some o_25), I_7)))))))))))) (fun w_10 => some (.inr w_10, I_7)))) (fun k_2 => if a0 < 0 then k_2 0 else zka K o0 0 (fun n_29 => zb1 (F_X1_forests K F o0 I) (fun x_32 => if x_32 ≤ a0 then k_2 0 else k_2 1)))
set_option maxHeartbeats 1000000 in
theorem C_X1_forestAt {l : Launch} {G : zGt} (htr : l.stackTraces = false) {K : zKd} {F : zFd} {L : zLd} {o0 : Nat} {a0 : Int32} {I : zId} {r : (Option Nat ⊕ (String × Nat)) × zId} (hF : F_X1_forestAt K F o0 a0 I = some r) : zMet l G yX1_forestAt (ws_ yX1_forestAt cX1_forestAt 2 (some (.object "SableCrown$Forest"))) 9 220 (zxc r.1) (zxs r.1) [.ref o0, .int a0] K F I L (zQe (zor r.1) K F r.2 L) := by
  refine zMet.of (by decide +kernel) htr (Nat.le_of_ble_eq_true rfl) ?_
  change zW l G MX1_forestAt 9 220 (zxc r.1) (zxs r.1) 0 [(0, .ref o0), (1, .int a0)] [] K F I L (zQe (zor r.1) K F r.2 L)
  unfold F_X1_forestAt at hF
  refine z_iload_n (n := 1) dX1_forestAt_0 rfl 1 rfl rfl ?_
  obtain ⟨k_2, e_3, hF⟩ := zlet_ob hF
  have H_4 : ∀ (w_1 : Int32), k_2 w_1 = some r → zW l G MX1_forestAt 9 220 (zxc r.1) (zxs r.1) 17 [(0, .ref o0), (1, .int a0)] [.int w_1] K F I L (zQe (zor r.1) K F r.2 L) := by
    intro w_1 hF
    subst e_3
    dsimp only at hF
    obtain ⟨s_6, I_7, c_5, hF⟩ := zb2_some hF
    rcases zsum_some hF with ⟨x_9, e_8, hF⟩ | ⟨w_10, e_8, hF⟩
    rotate_left
    · first | rw [e_8] at c_5 ⊢ | rw [e_8] at c_5
      have hF := Option.some.inj hF; subst hF
      refine z_cSx (n := 20) (mc2 := 0) (ms2 := 0) (st := []) (C_X1_there htr c_5) dX1_forestAt_17 rfl (lw_S q1367 q1368 q105 q1369) hcee_X1_there rfl (by decide) rfl (Nat.le_of_ble_eq_true rfl) (Nat.le_refl _) (Nat.le_refl _) ?_
      exact z_out rfl ⟨rfl, rfl, rfl, rfl, rfl⟩
    first | rw [e_8] at c_5 ⊢ | rw [e_8] at c_5
    refine z_cS (n := 20) (st := []) (C_X1_there htr c_5) dX1_forestAt_17 rfl (lw_S q1367 q1368 q105 q1369) hcee_X1_there rfl (by decide) rfl (Nat.le_of_ble_eq_true rfl) (Nat.le_refl _) (Nat.le_refl _) ?_
    refine z_aload_n (n := 21) dX1_forestAt_20 rfl 0 rfl rfl ?_
    obtain ⟨n_11, hk_12, hF⟩ := zka_some hF
    obtain ⟨hb_13, hF⟩ := zg_some hF
    obtain ⟨o_14, hr_15, hF⟩ := zb1_some hF
    refine z_getRS (n := 24) dX1_forestAt_21 rfl zok0 fX1_10_0 rfl hk_12 (Or.inl (zbig hb_13)) hr_15 ?_
    obtain ⟨n_16, hk_17, hF⟩ := zka_some hF
    obtain ⟨hb_18, hF⟩ := zg_some hF
    obtain ⟨o_19, hr_20, hF⟩ := zb1_some hF
    refine z_getRS (n := 27) dX1_forestAt_24 rfl zok1 fX1_58_1 rfl hk_17 (Or.inl (zbig hb_18)) hr_20 ?_
    refine z_iload_n (n := 28) dX1_forestAt_27 rfl 1 rfl rfl ?_
    obtain ⟨n_21, hk_22, hF⟩ := zka_some hF
    obtain ⟨q_24, c_23, hF⟩ := zb1_some hF
    refine z_cV (n := 31) (st := []) (C_J2_get htr c_23) dX1_forestAt_28 rfl (lw_V q917 q813 q814 q109 q815) hcee_J2_get rfl (by decide) hk_22 rfl rfl rfl (Nat.le_of_ble_eq_true rfl) (Nat.le_refl _) (Nat.le_refl _) ?_
    obtain ⟨o_25, hr_26, hF⟩ := zb1_some hF
    rw [hr_26]
    obtain ⟨n_27, hk_28, hF⟩ := zka_some hF
    refine z_castS (n := 34) dX1_forestAt_31 rfl hk_28 rfl q1404 rfl ?_
    have hF := Option.some.inj hF; subst hF
    exact z_aret (r := (some o_25)) dX1_forestAt_34 rfl (Or.inl ⟨_, rfl⟩) ⟨rfl, rfl, rfl, rfl, rfl⟩
  clear e_3
  refine z_if_lt (n := 4) (t := 16) dX1_forestAt_1 rfl (by decide) (fun hc => ?_) (fun hc => ?_)
  · replace hF := (if_pos hc).symm.trans hF
    refine z_iconst (n := 17) (v := 0) dX1_forestAt_16 rfl (by decide) ?_
    exact H_4 0 hF
  · replace hF := (if_neg hc).symm.trans hF
    refine z_iload_n (n := 5) dX1_forestAt_4 rfl 1 rfl rfl ?_
    refine z_aload_n (n := 6) dX1_forestAt_5 rfl 0 rfl rfl ?_
    obtain ⟨n_29, hk_30, hF⟩ := zka_some hF
    obtain ⟨x_32, c_31, hF⟩ := zb1_some hF
    refine z_cV (n := 9) (st := [.int a0]) (C_X1_forests htr c_31) dX1_forestAt_6 rfl (lw_V q923 q925 qs12 q105 q926) hcee_X1_forests rfl (by decide) hk_30 rfl rfl rfl (Nat.le_of_ble_eq_true rfl) (Nat.le_refl _) (Nat.le_refl _) ?_
    refine z_icmp_ge (n := 12) (t := 16) dX1_forestAt_9 rfl (by decide) (fun hc => ?_) (fun hc => ?_)
    · replace hF := (if_pos hc).symm.trans hF
      refine z_iconst (n := 17) (v := 0) dX1_forestAt_16 rfl (by decide) ?_
      exact H_4 0 hF
    · replace hF := (if_neg hc).symm.trans hF
      refine z_iconst (n := 13) (v := 1) dX1_forestAt_12 rfl (by decide) ?_
      refine z_goto (t := 17) dX1_forestAt_13 (by decide) ?_
      exact H_4 1 hF
theorem hcee_X1_forestAt : zCee yX1_forestAt RX1 1 := ⟨rfl, by decide +kernel, by decide +kernel, by decide +kernel⟩
abbrev MX1_empty : zM := (RX1, cX1_empty, 3, (some .int), "empty", [])
noncomputable def F_X1_empty_L19 (K : zKd) (F : zFd) (o0 : Nat) (a0 : Int32) (v2_20 : Int32) (I_21 : zId) : Option ((Int32 × zId) ⊕ ((zId) ⊕ ((Int32 ⊕ (String × Nat)) × zId))) := if 50 < v2_20 then some (.inr (.inl I_21)) else zka K o0 0 (fun n_22 => zg (decide (600 ≤ o0)) (zb1 (F o0 4) (fun o_25 => zka K o_25 5 (fun n_27 => zg (decide (600 ≤ o_25)) (zb1 (F o_25 0) (fun o_30 => zka K o_30 64 (fun n_32 => zg (zin a0 n_32) (if ¬ (I_21 o_30 a0.toNatClampNeg) = 0 then zb1 (F o0 4) (fun o_35 => zb1 (F o0 0) (fun o_37 => zka K o_35 5 (fun n_39 => zb1 (F_X6_goes K F o_35 o_37 I_21) (fun I_42 => zlet (v2_20 + 1) (fun v2_43 => some (.inl (v2_43, I_42))))))) else some (.inr (.inr (.inl v2_20, I_21)))))))))))
noncomputable def F_X1_empty (K : zKd) (F : zFd) (o0 : Nat) (a0 : Int32) (I : zId) : Option ((Int32 ⊕ (String × Nat)) × zId) := zka K o0 0 (fun n_1 => zb2 (F_X1_forestAt K F o0 a0 I) (fun s_4 I_5 => zsum s_4 (fun q_7 => zb1 q_7 (fun o_9 => zg (decide (600 ≤ o0)) (zb1 (F o0 4) (fun o_12 => zb1 (F o0 3) (fun o_14 => zka K o_12 5 (fun n_16 => zb1 (F_X6_like K F o_12 o_14 I_5) (fun I_19 => zs1 (zloop (fun s : Int32 × zId => F_X1_empty_L19 K F o0 a0 s.1 s.2) (0, I_19)) (fun I_45 => some (.inl (-1), I_45)) (fun z_47 => some z_47)))))))) (fun w_8 => some (.inr w_8, I_5))))
set_option maxHeartbeats 1000000 in
theorem W_X1_empty_L19 {l : Launch} {G : zGt} (htr : l.stackTraces = false) {K : zKd} {F : zFd} {L : zLd} {Q : zQt} {mE wE : Nat} {o0 : Nat} {a0 : Int32} {v2_20 : Int32} {I_21 : zId} {r : (Int32 × zId) ⊕ ((zId) ⊕ ((Int32 ⊕ (String × Nat)) × zId))} (hF : F_X1_empty_L19 K F o0 a0 v2_20 I_21 = some r) (kl : ∀ (z0 : Int32) (z1 : zId), r = .inl (z0, z1) → zW l G MX1_empty 1005 24071 mE wE 19 [(0, .ref o0), (1, .int a0), (2, .int z0)] [] K F z1 L Q) (kx : ∀ (y0 : zId), r = .inr (.inl y0) → zW l G MX1_empty 1005 24071 mE wE 56 [] [] K F y0 L Q) (kq : ∀ z : (Int32 ⊕ (String × Nat)) × zId, r = .inr (.inr z) → Q (zoi z.1) K F z.2 L)(kb : ∀ z : (Int32 ⊕ (String × Nat)) × zId, r = .inr (.inr z) → zxc z.1 ≤ mE ∧ zxs z.1 ≤ wE) : zW l G MX1_empty 1005 24071 mE wE 19 [(0, .ref o0), (1, .int a0), (2, .int v2_20)] [] K F I_21 L Q := by
  unfold F_X1_empty_L19 at hF
  refine z_iload_n (n := 20) dX1_empty_19 rfl 2 rfl rfl ?_
  refine z_bipush (n := 22) (v := 50) dX1_empty_20 rfl (by decide) ?_
  refine z_icmp_gt (n := 25) (t := 56) dX1_empty_22 rfl (by decide) (fun hc => ?_) (fun hc => ?_)
  · replace hF := (if_pos hc).symm.trans hF
    refine z_sub [] rfl ?_
    have hF := Option.some.inj hF; subst hF
    exact kx I_21 rfl
  · replace hF := (if_neg hc).symm.trans hF
    refine z_aload_n (n := 26) dX1_empty_25 rfl 0 rfl rfl ?_
    obtain ⟨n_22, hk_23, hF⟩ := zka_some hF
    obtain ⟨hb_24, hF⟩ := zg_some hF
    obtain ⟨o_25, hr_26, hF⟩ := zb1_some hF
    refine z_getRS (n := 29) dX1_empty_26 rfl zok0 fX1_34_0 rfl hk_23 (Or.inl (zbig hb_24)) hr_26 ?_
    obtain ⟨n_27, hk_28, hF⟩ := zka_some hF
    obtain ⟨hb_29, hF⟩ := zg_some hF
    obtain ⟨o_30, hr_31, hF⟩ := zb1_some hF
    refine z_getRS (n := 32) dX1_empty_29 rfl zok5 fX1_176_5 rfl hk_28 (Or.inl (zbig hb_29)) hr_31 ?_
    refine z_iload_n (n := 33) dX1_empty_32 rfl 1 rfl rfl ?_
    obtain ⟨n_32, hk_33, hF⟩ := zka_some hF
    obtain ⟨h_34, hF⟩ := zg_some hF
    refine z_ialdK (n := 34) a0.toNatClampNeg rfl dX1_empty_33 rfl hk_33 (zin_ok h_34) ?_
    refine z_if_ne (n := 37) (t := 39) dX1_empty_34 rfl (by decide) (fun hc => ?_) (fun hc => ?_)
    · replace hF := (if_pos hc).symm.trans hF
      refine z_aload_n (n := 40) dX1_empty_39 rfl 0 rfl rfl ?_
      obtain ⟨o_35, hr_36, hF⟩ := zb1_some hF
      refine z_getRS (n := 43) dX1_empty_40 rfl zok0 fX1_34_0 rfl hk_23 (Or.inl (zbig hb_24)) hr_36 ?_
      refine z_aload_n (n := 44) dX1_empty_43 rfl 0 rfl rfl ?_
      obtain ⟨o_37, hr_38, hF⟩ := zb1_some hF
      refine z_getRS (n := 47) dX1_empty_44 rfl zok0 fX1_10_0 rfl hk_23 (Or.inl (zbig hb_24)) hr_38 ?_
      obtain ⟨n_39, hk_40, hF⟩ := zka_some hF
      obtain ⟨I_42, c_41, hF⟩ := zb1_some hF
      refine z_cV (n := 50) (st := []) (C_X6_goes htr c_41) dX1_empty_47 rfl (lw_V q829 q830 q831 q130 q832) hcee_X6_goes rfl (by decide) hk_40 rfl rfl rfl (Nat.le_of_ble_eq_true rfl) (Nat.le_refl _) (Nat.le_refl _) ?_
      obtain ⟨v2_43, e_44, hF⟩ := zlet_ob hF
      refine z_iincE (n := 53) (w := 1) (v := v2_43) (lv' := [(2, .int v2_43), (0, .ref o0), (1, .int a0)]) dX1_empty_50 rfl 2 rfl (by decide) e_44 (by decide) rfl ?_
      refine z_goto (t := 19) dX1_empty_53 (by decide) ?_
      refine z_sub [1, 2, 0] rfl ?_
      have hF := Option.some.inj hF; subst hF
      exact kl v2_43 I_42 rfl
    · replace hF := (if_neg hc).symm.trans hF
      refine z_iload_n (n := 38) dX1_empty_37 rfl 2 rfl rfl ?_
      have hF := Option.some.inj hF; subst hF
      exact z_iret dX1_empty_38 rfl rfl (kq _ rfl)
set_option maxHeartbeats 1000000 in
theorem C_X1_empty {l : Launch} {G : zGt} (htr : l.stackTraces = false) {K : zKd} {F : zFd} {L : zLd} {o0 : Nat} {a0 : Int32} {I : zId} {r : (Int32 ⊕ (String × Nat)) × zId} (hF : F_X1_empty K F o0 a0 I = some r) : zMet l G yX1_empty (ws_ yX1_empty cX1_empty 3 (some .int)) 1005 24071 (zxc r.1) (zxs r.1) [.ref o0, .int a0] K F I L (zQe (zoi r.1) K F r.2 L) := by
  refine zMet.of (by decide +kernel) htr (Nat.le_of_ble_eq_true rfl) ?_
  change zW l G MX1_empty 1005 24071 (zxc r.1) (zxs r.1) 0 [(0, .ref o0), (1, .int a0)] [] K F I L (zQe (zoi r.1) K F r.2 L)
  unfold F_X1_empty at hF
  refine z_aload_n (n := 1) dX1_empty_0 rfl 0 rfl rfl ?_
  refine z_iload_n (n := 2) dX1_empty_1 rfl 1 rfl rfl ?_
  obtain ⟨n_1, hk_2, hF⟩ := zka_some hF
  obtain ⟨s_4, I_5, c_3, hF⟩ := zb2_some hF
  rcases zsum_some hF with ⟨q_7, e_6, hF⟩ | ⟨w_8, e_6, hF⟩
  rotate_left
  · first | rw [e_6] at c_3 ⊢ | rw [e_6] at c_3
    have hF := Option.some.inj hF; subst hF
    refine z_cVx (n := 5) (mc2 := 0) (ms2 := 0) (st := []) (C_X1_forestAt htr c_3) dX1_empty_2 rfl (lw_V q1400 q1402 qs31 q105 q1403) hcee_X1_forestAt rfl (by decide) hk_2 rfl rfl rfl (Nat.le_of_ble_eq_true rfl) (Nat.le_refl _) (Nat.le_refl _) ?_
    exact z_out rfl ⟨rfl, rfl, rfl, rfl, rfl⟩
  first | rw [e_6] at c_3 ⊢ | rw [e_6] at c_3
  refine z_cV (n := 5) (st := []) (C_X1_forestAt htr c_3) dX1_empty_2 rfl (lw_V q1400 q1402 qs31 q105 q1403) hcee_X1_forestAt rfl (by decide) hk_2 rfl rfl rfl (Nat.le_of_ble_eq_true rfl) (Nat.le_refl _) (Nat.le_refl _) ?_
  obtain ⟨o_9, hr_10, hF⟩ := zb1_some hF
  rw [hr_10]
  refine z_pop (n := 6) dX1_empty_5 rfl rfl ?_
  refine z_aload_n (n := 7) dX1_empty_6 rfl 0 rfl rfl ?_
  obtain ⟨hb_11, hF⟩ := zg_some hF
  obtain ⟨o_12, hr_13, hF⟩ := zb1_some hF
  refine z_getRS (n := 10) dX1_empty_7 rfl zok0 fX1_34_0 rfl hk_2 (Or.inl (zbig hb_11)) hr_13 ?_
  refine z_aload_n (n := 11) dX1_empty_10 rfl 0 rfl rfl ?_
  obtain ⟨o_14, hr_15, hF⟩ := zb1_some hF
  refine z_getRS (n := 14) dX1_empty_11 rfl zok0 fX1_30_0 rfl hk_2 (Or.inl (zbig hb_11)) hr_15 ?_
  obtain ⟨n_16, hk_17, hF⟩ := zka_some hF
  obtain ⟨I_19, c_18, hF⟩ := zb1_some hF
  refine z_cV (n := 17) (st := []) (C_X6_like htr c_18) dX1_empty_14 rfl (lw_V q918 q821 q822 q130 q823) hcee_X6_like rfl (by decide) hk_17 rfl rfl rfl (Nat.le_of_ble_eq_true rfl) (Nat.le_refl _) (Nat.le_refl _) ?_
  refine z_iconst (n := 18) (v := 0) dX1_empty_17 rfl (by decide) ?_
  refine z_istore_nE (n := 19) (lv' := [(2, .int 0), (0, .ref o0), (1, .int a0)]) dX1_empty_18 rfl rfl rfl (by decide) rfl ?_
  refine z_sub [1, 2, 0] rfl ?_
  rcases zs1_some hF with ⟨t_48, e_46, hF⟩ | ⟨t_48, e_46, hF⟩
  · skip
    obtain ⟨I_45, rfl⟩ : ∃ z, z = t_48 := ⟨_, rfl⟩
    have H_49 : zW l G MX1_empty 1005 24071 (zxc r.1) (zxs r.1) 56 [] [] K F I_45 L (zQe (zoi r.1) K F r.2 L) := by
      refine z_iconst (n := 57) (v := (-1)) dX1_empty_56 rfl (by decide) ?_
      have hF := Option.some.inj hF; subst hF
      exact z_iret dX1_empty_57 rfl rfl ⟨rfl, rfl, rfl, rfl, rfl⟩
    refine zloop_ind (P := fun s : Int32 × zId => zW l G MX1_empty 1005 24071 (zxc r.1) (zxs r.1) 19 [(0, .ref o0), (1, .int a0), (2, .int s.1)] [] K F s.2 L (zQe (zoi r.1) K F r.2 L)) (fun s r hb kl kr => ?_) e_46
    exact W_X1_empty_L19 (o0 := o0) (a0 := a0) htr hb (fun z0 z1 e => kl _ e) (fun y0 e => by cases kr _ e; exact H_49) (fun z e => by cases kr _ e) (fun z e => by cases kr _ e)
  · skip
    have hq := Option.some.inj hF
    refine zloop_ind (P := fun s : Int32 × zId => zW l G MX1_empty 1005 24071 (zxc r.1) (zxs r.1) 19 [(0, .ref o0), (1, .int a0), (2, .int s.1)] [] K F s.2 L (zQe (zoi r.1) K F r.2 L)) (fun s r hb kl kr => ?_) e_46
    exact W_X1_empty_L19 (o0 := o0) (a0 := a0) htr hb (fun z0 z1 e => kl _ e) (fun y0 e => by cases kr _ e) (fun z e => by cases kr _ e; subst hq; exact ⟨rfl, rfl, rfl, rfl, rfl⟩) (fun z e => by cases kr _ e; subst hq; exact ⟨Nat.le_refl _, Nat.le_refl _⟩)
abbrev MX1_orNone : zM := (RX1, cX1_orNone, 1, (some .int), "orNone", [])
noncomputable def F_X1_orNone (K : zKd) (F : zFd) (a0 : Int32) (I : zId) : Option (Int32) := if a0 < 100000 then some a0 else some (-1)
set_option maxHeartbeats 1000000 in
theorem C_X1_orNone {l : Launch} {G : zGt} (htr : l.stackTraces = false) {K : zKd} {F : zFd} {L : zLd} {a0 : Int32} {I : zId} {r : Int32} (hF : F_X1_orNone K F a0 I = some r) : zMet l G yX1_orNone (ws_ yX1_orNone cX1_orNone 1 (some .int)) 0 0 0 0 [.int a0] K F I L (zQe (.inl (some (.int r))) K F I L) := by
  refine zMet.of (by decide +kernel) htr (Nat.le_of_ble_eq_true rfl) ?_
  change zW l G MX1_orNone 0 0 0 0 0 [(0, .int a0)] [] K F I L (zQe (.inl (some (.int r))) K F I L)
  unfold F_X1_orNone at hF
  refine z_iload_n (n := 1) dX1_orNone_0 rfl 0 rfl rfl ?_
  refine z_ldcw (n := 4) dX1_orNone_1 rfl q1542 ?_
  refine z_icmp_lt (n := 7) (t := 11) dX1_orNone_4 rfl (by decide) (fun hc => ?_) (fun hc => ?_)
  · replace hF := (if_pos hc).symm.trans hF
    refine z_iload_n (n := 12) dX1_orNone_11 rfl 0 rfl rfl ?_
    have hF := Option.some.inj hF; subst hF
    exact z_iret dX1_orNone_12 rfl rfl ⟨rfl, rfl, rfl, rfl, rfl⟩
  · replace hF := (if_neg hc).symm.trans hF
    refine z_iconst (n := 8) (v := (-1)) dX1_orNone_7 rfl (by decide) ?_
    refine z_goto (t := 12) dX1_orNone_8 (by decide) ?_
    have hF := Option.some.inj hF; subst hF
    exact z_iret dX1_orNone_12 rfl rfl ⟨rfl, rfl, rfl, rfl, rfl⟩
theorem hcee_X1_orNone : zCee yX1_orNone RX1 1 := ⟨rfl, by decide +kernel, by decide +kernel, by decide +kernel⟩
abbrev MX1_far : zM := (RX1, cX1_far, 3, (some .int), "far", [])
noncomputable def F_X1_far (K : zKd) (F : zFd) (o0 : Nat) (a0 : Int32) (a1 : Int32) (I : zId) : Option ((Int32 ⊕ (String × Nat)) × zId) := zka K o0 0 (fun n_1 => zb2 (F_X1_forestAt K F o0 a0 I) (fun s_4 I_5 => zsum s_4 (fun q_7 => zb1 q_7 (fun o_9 => zb2 (F_X1_forestAt K F o0 a1 I_5) (fun s_12 I_13 => zsum s_12 (fun q_15 => zb1 q_15 (fun o_17 => zg (decide (600 ≤ o0)) (zb1 (F o0 0) (fun o_20 => zka K o_20 1 (fun n_22 => zb1 (F_X2_far K F o_20 a0 a1 I_13) (fun x_25 => zb1 (F_X1_orNone K F x_25 I_13) (fun x_27 => some (.inl x_27, I_13)))))))) (fun w_16 => some (.inr w_16, I_13))))) (fun w_8 => some (.inr w_8, I_5))))
set_option maxHeartbeats 1000000 in
theorem C_X1_far {l : Launch} {G : zGt} (htr : l.stackTraces = false) {K : zKd} {F : zFd} {L : zLd} {o0 : Nat} {a0 : Int32} {a1 : Int32} {I : zId} {r : (Int32 ⊕ (String × Nat)) × zId} (hF : F_X1_far K F o0 a0 a1 I = some r) : zMet l G yX1_far (ws_ yX1_far cX1_far 3 (some .int)) 10 241 (zxc r.1) (zxs r.1) [.ref o0, .int a0, .int a1] K F I L (zQe (zoi r.1) K F r.2 L) := by
  refine zMet.of (by decide +kernel) htr (Nat.le_of_ble_eq_true rfl) ?_
  change zW l G MX1_far 10 241 (zxc r.1) (zxs r.1) 0 [(0, .ref o0), (1, .int a0), (2, .int a1)] [] K F I L (zQe (zoi r.1) K F r.2 L)
  unfold F_X1_far at hF
  refine z_aload_n (n := 1) dX1_far_0 rfl 0 rfl rfl ?_
  refine z_iload_n (n := 2) dX1_far_1 rfl 1 rfl rfl ?_
  obtain ⟨n_1, hk_2, hF⟩ := zka_some hF
  obtain ⟨s_4, I_5, c_3, hF⟩ := zb2_some hF
  rcases zsum_some hF with ⟨q_7, e_6, hF⟩ | ⟨w_8, e_6, hF⟩
  rotate_left
  · first | rw [e_6] at c_3 ⊢ | rw [e_6] at c_3
    have hF := Option.some.inj hF; subst hF
    refine z_cVx (n := 5) (mc2 := 0) (ms2 := 0) (st := []) (C_X1_forestAt htr c_3) dX1_far_2 rfl (lw_V q1400 q1402 qs31 q105 q1403) hcee_X1_forestAt rfl (by decide) hk_2 rfl rfl rfl (Nat.le_of_ble_eq_true rfl) (Nat.le_refl _) (Nat.le_refl _) ?_
    exact z_out rfl ⟨rfl, rfl, rfl, rfl, rfl⟩
  first | rw [e_6] at c_3 ⊢ | rw [e_6] at c_3
  refine z_cV (n := 5) (st := []) (C_X1_forestAt htr c_3) dX1_far_2 rfl (lw_V q1400 q1402 qs31 q105 q1403) hcee_X1_forestAt rfl (by decide) hk_2 rfl rfl rfl (Nat.le_of_ble_eq_true rfl) (Nat.le_refl _) (Nat.le_refl _) ?_
  obtain ⟨o_9, hr_10, hF⟩ := zb1_some hF
  rw [hr_10]
  refine z_pop (n := 6) dX1_far_5 rfl rfl ?_
  refine z_aload_n (n := 7) dX1_far_6 rfl 0 rfl rfl ?_
  refine z_iload_n (n := 8) dX1_far_7 rfl 2 rfl rfl ?_
  obtain ⟨s_12, I_13, c_11, hF⟩ := zb2_some hF
  rcases zsum_some hF with ⟨q_15, e_14, hF⟩ | ⟨w_16, e_14, hF⟩
  rotate_left
  · first | rw [e_14] at c_11 ⊢ | rw [e_14] at c_11
    have hF := Option.some.inj hF; subst hF
    refine z_cVx (n := 11) (mc2 := 0) (ms2 := 0) (st := []) (C_X1_forestAt htr c_11) dX1_far_8 rfl (lw_V q1400 q1402 qs31 q105 q1403) hcee_X1_forestAt rfl (by decide) hk_2 rfl rfl rfl (Nat.le_of_ble_eq_true rfl) (Nat.le_refl _) (Nat.le_refl _) ?_
    exact z_out rfl ⟨rfl, rfl, rfl, rfl, rfl⟩
  first | rw [e_14] at c_11 ⊢ | rw [e_14] at c_11
  refine z_cV (n := 11) (st := []) (C_X1_forestAt htr c_11) dX1_far_8 rfl (lw_V q1400 q1402 qs31 q105 q1403) hcee_X1_forestAt rfl (by decide) hk_2 rfl rfl rfl (Nat.le_of_ble_eq_true rfl) (Nat.le_refl _) (Nat.le_refl _) ?_
  obtain ⟨o_17, hr_18, hF⟩ := zb1_some hF
  rw [hr_18]
  refine z_pop (n := 12) dX1_far_11 rfl rfl ?_
  refine z_aload_n (n := 13) dX1_far_12 rfl 0 rfl rfl ?_
  obtain ⟨hb_19, hF⟩ := zg_some hF
  obtain ⟨o_20, hr_21, hF⟩ := zb1_some hF
  refine z_getRS (n := 16) dX1_far_13 rfl zok0 fX1_10_0 rfl hk_2 (Or.inl (zbig hb_19)) hr_21 ?_
  refine z_iload_n (n := 17) dX1_far_16 rfl 1 rfl rfl ?_
  refine z_iload_n (n := 18) dX1_far_17 rfl 2 rfl rfl ?_
  obtain ⟨n_22, hk_23, hF⟩ := zka_some hF
  obtain ⟨x_25, c_24, hF⟩ := zb1_some hF
  refine z_cV (n := 21) (st := []) (C_X2_far htr c_24) dX1_far_18 rfl (lw_V q1538 q1350 q1351 q106 q1352) hcee_X2_far rfl (by decide) hk_23 rfl rfl rfl (Nat.le_of_ble_eq_true rfl) (Nat.le_refl _) (Nat.le_refl _) ?_
  obtain ⟨x_27, c_26, hF⟩ := zb1_some hF
  refine z_cS (n := 24) (st := []) (C_X1_orNone htr c_26) dX1_far_21 rfl (lw_S q1539 q1540 q105 q1541) hcee_X1_orNone rfl (by decide) rfl (Nat.le_of_ble_eq_true rfl) (Nat.le_refl _) (Nat.le_refl _) ?_
  have hF := Option.some.inj hF; subst hF
  exact z_iret dX1_far_24 rfl rfl ⟨rfl, rfl, rfl, rfl, rfl⟩
theorem fX1_41_0 : zFld RX1 41 0 8 := ⟨_, rfl, by decide, _, Or.inl q741, Or.inl rfl⟩
abbrev MX1_fault : zM := (RX1, cX1_fault, 1, (some .int), "fault", [])
noncomputable def F_X1_fault (K : zKd) (F : zFd) (o0 : Nat) (I : zId) : Option (Int32) := zka K o0 0 (fun n_1 => zg (decide (600 ≤ o0)) (some (I o0 8)))
set_option maxHeartbeats 1000000 in
theorem C_X1_fault {l : Launch} {G : zGt} (htr : l.stackTraces = false) {K : zKd} {F : zFd} {L : zLd} {o0 : Nat} {I : zId} {r : Int32} (hF : F_X1_fault K F o0 I = some r) : zMet l G yX1_fault (ws_ yX1_fault cX1_fault 1 (some .int)) 0 0 0 0 [.ref o0] K F I L (zQe (.inl (some (.int r))) K F I L) := by
  refine zMet.of (by decide +kernel) htr (Nat.le_of_ble_eq_true rfl) ?_
  change zW l G MX1_fault 0 0 0 0 0 [(0, .ref o0)] [] K F I L (zQe (.inl (some (.int r))) K F I L)
  unfold F_X1_fault at hF
  refine z_aload_n (n := 1) dX1_fault_0 rfl 0 rfl rfl ?_
  obtain ⟨n_1, hk_2, hF⟩ := zka_some hF
  obtain ⟨hb_3, hF⟩ := zg_some hF
  refine z_getI (n := 4) dX1_fault_1 rfl zok0 fX1_41_0 rfl hk_2 (Or.inl (zbig hb_3)) ?_
  have hF := Option.some.inj hF; subst hF
  exact z_iret dX1_fault_4 rfl rfl ⟨rfl, rfl, rfl, rfl, rfl⟩
theorem fX1_37_0 : zFld RX1 37 0 6 := ⟨_, rfl, by decide, _, Or.inl q739, Or.inl rfl⟩
abbrev MX1_lay : zM := (RX1, cX1_lay, 3, none, "lay", [])
noncomputable def F_X1_lay_L3 (K : zKd) (F : zFd) (o0 : Nat) (a0 : Int32) (v2_1 : Int32) (I_2 : zId) : Option ((Int32 × zId) ⊕ (zId)) := if v2_1 < 0 then some (.inr (I_2)) else zka K o0 0 (fun n_3 => zg (decide (600 ≤ o0)) (zb1 (F o0 6) (fun o_6 => zka K o_6 65 (fun n_8 => zg (zin (I_2 o0 7) n_8) (zg (decide (600 ≤ o_6)) (zlet (zu I_2 o_6 ((I_2 o0 7).toNatClampNeg) (vp_nar .byte ((a0 >>> (v2_1 &&& (31 : Int32))).toInt8.toInt32))) (fun I_12 => zlet (zu I_12 o0 7 ((I_12 o0 7) + 1)) (fun I_14 => zlet (v2_1 + (-8)) (fun v2_16 => some (.inl (v2_16, I_14)))))))))))
noncomputable def F_X1_lay (K : zKd) (F : zFd) (o0 : Nat) (a0 : Int32) (I : zId) : Option (zId) := zb1 (zloop (fun s : Int32 × zId => F_X1_lay_L3 K F o0 a0 s.1 s.2) (24, I)) (fun I_18 => some I_18)
set_option maxHeartbeats 1000000 in
theorem W_X1_lay_L3 {l : Launch} {G : zGt} (htr : l.stackTraces = false) {K : zKd} {F : zFd} {L : zLd} {Q : zQt} {o0 : Nat} {a0 : Int32} {v2_1 : Int32} {I_2 : zId} {r : (Int32 × zId) ⊕ (zId)} (hF : F_X1_lay_L3 K F o0 a0 v2_1 I_2 = some r) (kl : ∀ (z0 : Int32) (z1 : zId), r = .inl (z0, z1) → zW l G MX1_lay 0 0 0 0 3 [(0, .ref o0), (1, .int a0), (2, .int z0)] [] K F z1 L Q) (kx : ∀ (y0 : zId), r = .inr y0 → zW l G MX1_lay 0 0 0 0 36 [] [] K F y0 L Q)  : zW l G MX1_lay 0 0 0 0 3 [(0, .ref o0), (1, .int a0), (2, .int v2_1)] [] K F I_2 L Q := by
  unfold F_X1_lay_L3 at hF
  refine z_iload_n (n := 4) dX1_lay_3 rfl 2 rfl rfl ?_
  refine z_if_lt (n := 7) (t := 36) dX1_lay_4 rfl (by decide) (fun hc => ?_) (fun hc => ?_)
  · replace hF := (if_pos hc).symm.trans hF
    refine z_sub [] rfl ?_
    have hF := Option.some.inj hF; subst hF
    exact kx I_2 rfl
  · replace hF := (if_neg hc).symm.trans hF
    refine z_aload_n (n := 8) dX1_lay_7 rfl 0 rfl rfl ?_
    obtain ⟨n_3, hk_4, hF⟩ := zka_some hF
    obtain ⟨hb_5, hF⟩ := zg_some hF
    obtain ⟨o_6, hr_7, hF⟩ := zb1_some hF
    refine z_getRS (n := 11) dX1_lay_8 rfl zok0 fX1_37_0 rfl hk_4 (Or.inl (zbig hb_5)) hr_7 ?_
    refine z_aload_n (n := 12) dX1_lay_11 rfl 0 rfl rfl ?_
    refine z_getI (n := 15) dX1_lay_12 rfl zok0 fX1_93_0 rfl hk_4 (Or.inl (zbig hb_5)) ?_
    refine z_iload_n (n := 16) dX1_lay_15 rfl 1 rfl rfl ?_
    refine z_iload_n (n := 17) dX1_lay_16 rfl 2 rfl rfl ?_
    refine z_ishr (n := 18) dX1_lay_17 rfl ?_
    refine z_i2b (n := 19) dX1_lay_18 rfl ?_
    obtain ⟨n_8, hk_9, hF⟩ := zka_some hF
    obtain ⟨h_10, hF⟩ := zg_some hF
    obtain ⟨hb_11, hF⟩ := zg_some hF
    obtain ⟨I_12, e_13, hF⟩ := zlet_ob hF
    refine z_bastK (n := 20) ((I_2 o0 7).toNatClampNeg) rfl dX1_lay_19 rfl hk_9 (zbig hb_11) (zin_ok h_10) e_13 ?_
    refine z_aload_n (n := 21) dX1_lay_20 rfl 0 rfl rfl ?_
    refine z_dup (n := 22) dX1_lay_21 rfl rfl ?_
    refine z_getI (n := 25) dX1_lay_22 rfl zok0 fX1_93_0 rfl hk_4 (Or.inl (zbig hb_5)) ?_
    refine z_iconst (n := 26) (v := 1) dX1_lay_25 rfl (by decide) ?_
    refine z_iadd (n := 27) dX1_lay_26 rfl ?_
    obtain ⟨I_14, e_15, hF⟩ := zlet_ob hF
    refine z_putIE (n := 30) dX1_lay_27 rfl zok0 fX1_93_0 (Or.inl ⟨_, rfl, rfl⟩) rfl ⟨rfl, rfl⟩ hk_4 (zbig hb_5) e_15 ?_
    obtain ⟨v2_16, e_17, hF⟩ := zlet_ob hF
    refine z_iincE (n := 33) (w := (-8)) (v := v2_16) (lv' := [(2, .int v2_16), (0, .ref o0), (1, .int a0)]) dX1_lay_30 rfl 2 rfl (by decide) e_17 (by decide) rfl ?_
    refine z_goto (t := 3) dX1_lay_33 (by decide) ?_
    refine z_sub [1, 2, 0] rfl ?_
    have hF := Option.some.inj hF; subst hF
    exact kl v2_16 I_14 rfl
set_option maxHeartbeats 1000000 in
theorem C_X1_lay {l : Launch} {G : zGt} (htr : l.stackTraces = false) {K : zKd} {F : zFd} {L : zLd} {o0 : Nat} {a0 : Int32} {I : zId} {r : zId} (hF : F_X1_lay K F o0 a0 I = some r) : zMet l G yX1_lay (ws_ yX1_lay cX1_lay 3 none) 0 0 0 0 [.ref o0, .int a0] K F I L (zQe (.inl none) K F r L) := by
  refine zMet.of (by decide +kernel) htr (Nat.le_of_ble_eq_true rfl) ?_
  change zW l G MX1_lay 0 0 0 0 0 [(0, .ref o0), (1, .int a0)] [] K F I L (zQe (.inl none) K F r L)
  unfold F_X1_lay at hF
  refine z_bipush (n := 2) (v := 24) dX1_lay_0 rfl (by decide) ?_
  refine z_istore_nE (n := 3) (lv' := [(2, .int 24), (0, .ref o0), (1, .int a0)]) dX1_lay_2 rfl rfl rfl (by decide) rfl ?_
  refine z_sub [1, 2, 0] rfl ?_
  obtain ⟨t_20, e_19, hF⟩ := zb1_some hF
  obtain ⟨I_18, rfl⟩ : ∃ z, z = t_20 := ⟨_, rfl⟩
  have H_21 : zW l G MX1_lay 0 0 0 0 36 [] [] K F I_18 L (zQe (.inl none) K F r L) := by
    have hF := Option.some.inj hF; subst hF
    exact z_vret dX1_lay_36 rfl ⟨rfl, rfl, rfl, rfl, rfl⟩
  refine zloop_ind (P := fun s : Int32 × zId => zW l G MX1_lay 0 0 0 0 3 [(0, .ref o0), (1, .int a0), (2, .int s.1)] [] K F s.2 L (zQe (.inl none) K F r L)) (fun s r hb kl kr => ?_) e_19
  exact W_X1_lay_L3 (o0 := o0) (a0 := a0) htr hb (fun z0 z1 e => kl _ e) (fun y0 e => by cases kr _ e; exact H_21)
theorem hcee_X1_lay : zCee yX1_lay RX1 1 := ⟨rfl, by decide +kernel, by decide +kernel, by decide +kernel⟩
abbrev MX1_feed : zM := (RX1, cX1_feed, 6, (some .int), "feed", [])
noncomputable def F_X1_feed (K : zKd) (F : zFd) (o0 : Nat) (a0 : Int32) (a1 : Int32) (a2 : Int32) (a3 : Int32) (a4 : Int32) (I : zId) : Option (Int32 × zId) := zka K o0 0 (fun n_1 => zg (decide (600 ≤ o0)) (if ((I o0 7) + 20) ≤ 700 then zb1 (F_X1_lay K F o0 a0 I) (fun I_5 => zb1 (F_X1_lay K F o0 a1 I_5) (fun I_7 => zb1 (F_X1_lay K F o0 a2 I_7) (fun I_9 => zb1 (F_X1_lay K F o0 a3 I_9) (fun I_11 => zb1 (F_X1_lay K F o0 a4 I_11) (fun I_13 => some (I_13 o0 7, I_13)))))) else some ((-1), I)))
set_option maxHeartbeats 1000000 in
theorem C_X1_feed {l : Launch} {G : zGt} (htr : l.stackTraces = false) {K : zKd} {F : zFd} {L : zLd} {o0 : Nat} {a0 : Int32} {a1 : Int32} {a2 : Int32} {a3 : Int32} {a4 : Int32} {I : zId} {r : Int32 × zId} (hF : F_X1_feed K F o0 a0 a1 a2 a3 a4 I = some r) : zMet l G yX1_feed (ws_ yX1_feed cX1_feed 6 (some .int)) 1 22 0 0 [.ref o0, .int a0, .int a1, .int a2, .int a3, .int a4] K F I L (zQe (.inl (some (.int r.1))) K F r.2 L) := by
  refine zMet.of (by decide +kernel) htr (Nat.le_of_ble_eq_true rfl) ?_
  change zW l G MX1_feed 1 22 0 0 0 [(0, .ref o0), (1, .int a0), (2, .int a1), (3, .int a2), (4, .int a3), (5, .int a4)] [] K F I L (zQe (.inl (some (.int r.1))) K F r.2 L)
  unfold F_X1_feed at hF
  refine z_aload_n (n := 1) dX1_feed_0 rfl 0 rfl rfl ?_
  obtain ⟨n_1, hk_2, hF⟩ := zka_some hF
  obtain ⟨hb_3, hF⟩ := zg_some hF
  refine z_getI (n := 4) dX1_feed_1 rfl zok0 fX1_93_0 rfl hk_2 (Or.inl (zbig hb_3)) ?_
  refine z_bipush (n := 6) (v := 20) dX1_feed_4 rfl (by decide) ?_
  refine z_iadd (n := 7) dX1_feed_6 rfl ?_
  refine z_sipush (n := 10) (v := 700) dX1_feed_7 rfl (by decide) ?_
  refine z_icmp_le (n := 13) (t := 15) dX1_feed_10 rfl (by decide) (fun hc => ?_) (fun hc => ?_)
  · replace hF := (if_pos hc).symm.trans hF
    refine z_aload_n (n := 16) dX1_feed_15 rfl 0 rfl rfl ?_
    refine z_iload_n (n := 17) dX1_feed_16 rfl 1 rfl rfl ?_
    obtain ⟨I_5, c_4, hF⟩ := zb1_some hF
    refine z_cV (n := 20) (st := []) (C_X1_lay htr c_4) dX1_feed_17 rfl (lw_V q774 q776 qs4 q105 q777) hcee_X1_lay rfl (by decide) hk_2 rfl rfl rfl (Nat.le_of_ble_eq_true rfl) (Nat.le_refl _) (Nat.le_refl _) ?_
    refine z_aload_n (n := 21) dX1_feed_20 rfl 0 rfl rfl ?_
    refine z_iload_n (n := 22) dX1_feed_21 rfl 2 rfl rfl ?_
    obtain ⟨I_7, c_6, hF⟩ := zb1_some hF
    refine z_cV (n := 25) (st := []) (C_X1_lay htr c_6) dX1_feed_22 rfl (lw_V q774 q776 qs4 q105 q777) hcee_X1_lay rfl (by decide) hk_2 rfl rfl rfl (Nat.le_of_ble_eq_true rfl) (Nat.le_refl _) (Nat.le_refl _) ?_
    refine z_aload_n (n := 26) dX1_feed_25 rfl 0 rfl rfl ?_
    refine z_iload_n (n := 27) dX1_feed_26 rfl 3 rfl rfl ?_
    obtain ⟨I_9, c_8, hF⟩ := zb1_some hF
    refine z_cV (n := 30) (st := []) (C_X1_lay htr c_8) dX1_feed_27 rfl (lw_V q774 q776 qs4 q105 q777) hcee_X1_lay rfl (by decide) hk_2 rfl rfl rfl (Nat.le_of_ble_eq_true rfl) (Nat.le_refl _) (Nat.le_refl _) ?_
    refine z_aload_n (n := 31) dX1_feed_30 rfl 0 rfl rfl ?_
    refine z_iload (n := 33) dX1_feed_31 rfl 4 rfl ?_
    obtain ⟨I_11, c_10, hF⟩ := zb1_some hF
    refine z_cV (n := 36) (st := []) (C_X1_lay htr c_10) dX1_feed_33 rfl (lw_V q774 q776 qs4 q105 q777) hcee_X1_lay rfl (by decide) hk_2 rfl rfl rfl (Nat.le_of_ble_eq_true rfl) (Nat.le_refl _) (Nat.le_refl _) ?_
    refine z_aload_n (n := 37) dX1_feed_36 rfl 0 rfl rfl ?_
    refine z_iload (n := 39) dX1_feed_37 rfl 5 rfl ?_
    obtain ⟨I_13, c_12, hF⟩ := zb1_some hF
    refine z_cV (n := 42) (st := []) (C_X1_lay htr c_12) dX1_feed_39 rfl (lw_V q774 q776 qs4 q105 q777) hcee_X1_lay rfl (by decide) hk_2 rfl rfl rfl (Nat.le_of_ble_eq_true rfl) (Nat.le_refl _) (Nat.le_refl _) ?_
    refine z_aload_n (n := 43) dX1_feed_42 rfl 0 rfl rfl ?_
    refine z_getI (n := 46) dX1_feed_43 rfl zok0 fX1_93_0 rfl hk_2 (Or.inl (zbig hb_3)) ?_
    have hF := Option.some.inj hF; subst hF
    exact z_iret dX1_feed_46 rfl rfl ⟨rfl, rfl, rfl, rfl, rfl⟩
  · replace hF := (if_neg hc).symm.trans hF
    refine z_iconst (n := 14) (v := (-1)) dX1_feed_13 rfl (by decide) ?_
    have hF := Option.some.inj hF; subst hF
    exact z_iret dX1_feed_14 rfl rfl ⟨rfl, rfl, rfl, rfl, rfl⟩
abbrev MX1_first : zM := (RX1, cX1_first, 6, (some .int), "first", [])
noncomputable def F_X1_first_L14 (K : zKd) (F : zFd) (o0 : Nat) (a0 : Int32) (I_5 : zId) (v2_9 : Int32) (v3_10 : Int32) (v4_11 : Int32) : Option ((Int32 × Int32 × Int32) ⊕ (Int32)) := zka K o0 0 (fun n_12 => zg (decide (600 ≤ o0)) (zb1 (F o0 0) (fun o_15 => zka K o_15 1 (fun n_17 => zg (decide (600 ≤ o_15)) (zb1 (F o_15 6) (fun o_20 => zka K o_20 2 (fun n_22 => zb1 (F_J2_size K F o_20 I_5) (fun x_25 => if x_25 ≤ v4_11 then some (.inr (v2_9)) else zb1 (F o0 0) (fun o_26 => zb1 (F o0 0) (fun o_28 => zka K o_28 1 (fun n_30 => zg (decide (600 ≤ o_28)) (zb1 (F o_28 6) (fun o_33 => zka K o_33 2 (fun n_35 => zb1 (F_J2_get K F o_33 v4_11 I_5) (fun q_38 => zb1 q_38 (fun o_39 => zka K o_39 17 (fun n_41 => zb1 (F_J17_intValue K F o_39 I_5) (fun x_44 => zb1 (F o0 3) (fun o_45 => zka K o_45 5 (fun n_47 => zg (decide (600 ≤ o_45)) (zb1 (F o_45 4) (fun o_50 => zka K o_50 64 (fun n_52 => zg (zin a0 n_52) (zka K o_26 1 (fun n_55 => zb1 (F_X2_far K F o_26 x_44 (I_5 o_50 a0.toNatClampNeg) I_5) (fun x_58 => if x_58 < v3_10 then zlet (v4_11 + 1) (fun v4_59 => some (.inl (v4_11, x_58, v4_59))) else zlet (v4_11 + 1) (fun v4_61 => some (.inl (v2_9, v3_10, v4_61)))))))))))))))))))))))))))))
noncomputable def F_X1_first (K : zKd) (F : zFd) (o0 : Nat) (a0 : Int32) (I : zId) : Option ((Int32 ⊕ (String × Nat)) × zId) := zka K o0 0 (fun n_1 => zb2 (F_X1_bandAt K F o0 a0 I) (fun s_4 I_5 => zsum s_4 (fun x_7 => zb1 (zloop (fun s : Int32 × Int32 × Int32 => F_X1_first_L14 K F o0 a0 I_5 s.1 s.2.1 s.2.2) ((-1), 100000, 0)) (fun v2_63 => some (.inl v2_63, I_5))) (fun w_8 => some (.inr w_8, I_5))))
set_option maxHeartbeats 1000000 in
theorem W_X1_first_L14 {l : Launch} {G : zGt} (htr : l.stackTraces = false) {K : zKd} {F : zFd} {L : zLd} {Q : zQt} {mE wE : Nat} {o0 : Nat} {a0 : Int32} {I_5 : zId} {v2_9 : Int32} {v3_10 : Int32} {v4_11 : Int32} {r : (Int32 × Int32 × Int32) ⊕ (Int32)} (hF : F_X1_first_L14 K F o0 a0 I_5 v2_9 v3_10 v4_11 = some r) (kl : ∀ (z0 : Int32) (z1 : Int32) (z2 : Int32), r = .inl (z0, z1, z2) → zW l G MX1_first 10 241 mE wE 14 [(0, .ref o0), (1, .int a0), (2, .int z0), (3, .int z1), (4, .int z2)] [] K F I_5 L Q) (kx : ∀ (y0 : Int32), r = .inr y0 → zW l G MX1_first 10 241 mE wE 86 [(2, .int y0)] [] K F I_5 L Q)  : zW l G MX1_first 10 241 mE wE 14 [(0, .ref o0), (1, .int a0), (2, .int v2_9), (3, .int v3_10), (4, .int v4_11)] [] K F I_5 L Q := by
  unfold F_X1_first_L14 at hF
  refine z_iload (n := 16) dX1_first_14 rfl 4 rfl ?_
  refine z_aload_n (n := 17) dX1_first_16 rfl 0 rfl rfl ?_
  obtain ⟨n_12, hk_13, hF⟩ := zka_some hF
  obtain ⟨hb_14, hF⟩ := zg_some hF
  obtain ⟨o_15, hr_16, hF⟩ := zb1_some hF
  refine z_getRS (n := 20) dX1_first_17 rfl zok0 fX1_10_0 rfl hk_13 (Or.inl (zbig hb_14)) hr_16 ?_
  obtain ⟨n_17, hk_18, hF⟩ := zka_some hF
  obtain ⟨hb_19, hF⟩ := zg_some hF
  obtain ⟨o_20, hr_21, hF⟩ := zb1_some hF
  refine z_getRS (n := 23) dX1_first_20 rfl zok1 fX1_85_1 rfl hk_18 (Or.inl (zbig hb_19)) hr_21 ?_
  obtain ⟨n_22, hk_23, hF⟩ := zka_some hF
  obtain ⟨x_25, c_24, hF⟩ := zb1_some hF
  refine z_cV (n := 26) (st := [.int v4_11]) (C_J2_size htr c_24) dX1_first_23 rfl (lw_V q927 q834 q835 q109 q836) hcee_J2_size rfl (by decide) hk_23 rfl rfl rfl (Nat.le_of_ble_eq_true rfl) (Nat.le_refl _) (Nat.le_refl _) ?_
  refine z_icmp_ge (n := 29) (t := 86) dX1_first_26 rfl (by decide) (fun hc => ?_) (fun hc => ?_)
  · replace hF := (if_pos hc).symm.trans hF
    refine z_sub [2] rfl ?_
    have hF := Option.some.inj hF; subst hF
    exact kx v2_9 rfl
  · replace hF := (if_neg hc).symm.trans hF
    refine z_aload_n (n := 30) dX1_first_29 rfl 0 rfl rfl ?_
    obtain ⟨o_26, hr_27, hF⟩ := zb1_some hF
    refine z_getRS (n := 33) dX1_first_30 rfl zok0 fX1_10_0 rfl hk_13 (Or.inl (zbig hb_14)) hr_27 ?_
    refine z_aload_n (n := 34) dX1_first_33 rfl 0 rfl rfl ?_
    obtain ⟨o_28, hr_29, hF⟩ := zb1_some hF
    refine z_getRS (n := 37) dX1_first_34 rfl zok0 fX1_10_0 rfl hk_13 (Or.inl (zbig hb_14)) hr_29 ?_
    obtain ⟨n_30, hk_31, hF⟩ := zka_some hF
    obtain ⟨hb_32, hF⟩ := zg_some hF
    obtain ⟨o_33, hr_34, hF⟩ := zb1_some hF
    refine z_getRS (n := 40) dX1_first_37 rfl zok1 fX1_85_1 rfl hk_31 (Or.inl (zbig hb_32)) hr_34 ?_
    refine z_iload (n := 42) dX1_first_40 rfl 4 rfl ?_
    obtain ⟨n_35, hk_36, hF⟩ := zka_some hF
    obtain ⟨q_38, c_37, hF⟩ := zb1_some hF
    refine z_cV (n := 45) (st := [.ref o_26]) (C_J2_get htr c_37) dX1_first_42 rfl (lw_V q917 q813 q814 q109 q815) hcee_J2_get rfl (by decide) hk_36 rfl rfl rfl (Nat.le_of_ble_eq_true rfl) (Nat.le_refl _) (Nat.le_refl _) ?_
    obtain ⟨o_39, hr_40, hF⟩ := zb1_some hF
    rw [hr_40]
    obtain ⟨n_41, hk_42, hF⟩ := zka_some hF
    refine z_castS (n := 48) dX1_first_45 rfl hk_42 rfl q1554 rfl ?_
    obtain ⟨x_44, c_43, hF⟩ := zb1_some hF
    refine z_cV (n := 51) (st := [.ref o_26]) (C_J17_intValue htr c_43) dX1_first_48 rfl (lw_V q1555 q1190 q1191 q125 q1192) hcee_J17_intValue rfl (by decide) hk_42 rfl rfl rfl (Nat.le_of_ble_eq_true rfl) (Nat.le_refl _) (Nat.le_refl _) ?_
    refine z_aload_n (n := 52) dX1_first_51 rfl 0 rfl rfl ?_
    obtain ⟨o_45, hr_46, hF⟩ := zb1_some hF
    refine z_getRS (n := 55) dX1_first_52 rfl zok0 fX1_30_0 rfl hk_13 (Or.inl (zbig hb_14)) hr_46 ?_
    obtain ⟨n_47, hk_48, hF⟩ := zka_some hF
    obtain ⟨hb_49, hF⟩ := zg_some hF
    obtain ⟨o_50, hr_51, hF⟩ := zb1_some hF
    refine z_getRS (n := 58) dX1_first_55 rfl zok5 fX1_165_5 rfl hk_48 (Or.inl (zbig hb_49)) hr_51 ?_
    refine z_iload_n (n := 59) dX1_first_58 rfl 1 rfl rfl ?_
    obtain ⟨n_52, hk_53, hF⟩ := zka_some hF
    obtain ⟨h_54, hF⟩ := zg_some hF
    refine z_ialdK (n := 60) a0.toNatClampNeg rfl dX1_first_59 rfl hk_53 (zin_ok h_54) ?_
    obtain ⟨n_55, hk_56, hF⟩ := zka_some hF
    obtain ⟨x_58, c_57, hF⟩ := zb1_some hF
    refine z_cV (n := 63) (st := []) (C_X2_far htr c_57) dX1_first_60 rfl (lw_V q1538 q1350 q1351 q106 q1352) hcee_X2_far rfl (by decide) hk_56 rfl rfl rfl (Nat.le_of_ble_eq_true rfl) (Nat.le_refl _) (Nat.le_refl _) ?_
    refine z_istoreE (n := 65) (lv' := [(5, .int x_58), (0, .ref o0), (1, .int a0), (2, .int v2_9), (3, .int v3_10), (4, .int v4_11)]) dX1_first_63 rfl rfl (by decide) rfl ?_
    refine z_iload (n := 67) dX1_first_65 rfl 0 rfl ?_
    refine z_iload_n (n := 68) dX1_first_67 rfl 4 rfl rfl ?_
    refine z_icmp_lt (n := 71) (t := 74) dX1_first_68 rfl (by decide) (fun hc => ?_) (fun hc => ?_)
    · replace hF := (if_pos hc).symm.trans hF
      refine z_iload (n := 76) dX1_first_74 rfl 5 rfl ?_
      refine z_istore_nE (n := 77) (lv' := [(2, .int v4_11), (5, .int x_58), (0, .ref o0), (1, .int a0), (3, .int v3_10), (4, .int v4_11)]) dX1_first_76 rfl rfl rfl (by decide) rfl ?_
      refine z_iload (n := 79) dX1_first_77 rfl 1 rfl ?_
      refine z_istore_nE (n := 80) (lv' := [(3, .int x_58), (2, .int v4_11), (5, .int x_58), (0, .ref o0), (1, .int a0), (4, .int v4_11)]) dX1_first_79 rfl rfl rfl (by decide) rfl ?_
      obtain ⟨v4_59, e_60, hF⟩ := zlet_ob hF
      refine z_iincE (n := 83) (w := 1) (v := v4_59) (lv' := [(4, .int v4_59), (3, .int x_58), (2, .int v4_11), (5, .int x_58), (0, .ref o0), (1, .int a0)]) dX1_first_80 rfl 5 rfl (by decide) e_60 (by decide) rfl ?_
      refine z_goto (t := 14) dX1_first_83 (by decide) ?_
      refine z_sub [4, 5, 2, 1, 0] rfl ?_
      have hF := Option.some.inj hF; subst hF
      exact kl v4_11 x_58 v4_59 rfl
    · replace hF := (if_neg hc).symm.trans hF
      refine z_goto (t := 80) dX1_first_71 (by decide) ?_
      obtain ⟨v4_61, e_62, hF⟩ := zlet_ob hF
      refine z_iincE (n := 83) (w := 1) (v := v4_61) (lv' := [(4, .int v4_61), (5, .int x_58), (0, .ref o0), (1, .int a0), (2, .int v2_9), (3, .int v3_10)]) dX1_first_80 rfl 5 rfl (by decide) e_62 (by decide) rfl ?_
      refine z_goto (t := 14) dX1_first_83 (by decide) ?_
      refine z_sub [2, 3, 4, 5, 0] rfl ?_
      have hF := Option.some.inj hF; subst hF
      exact kl v2_9 v3_10 v4_61 rfl
set_option maxHeartbeats 1000000 in
theorem C_X1_first {l : Launch} {G : zGt} (htr : l.stackTraces = false) {K : zKd} {F : zFd} {L : zLd} {o0 : Nat} {a0 : Int32} {I : zId} {r : (Int32 ⊕ (String × Nat)) × zId} (hF : F_X1_first K F o0 a0 I = some r) : zMet l G yX1_first (ws_ yX1_first cX1_first 6 (some .int)) 10 241 (zxc r.1) (zxs r.1) [.ref o0, .int a0] K F I L (zQe (zoi r.1) K F r.2 L) := by
  refine zMet.of (by decide +kernel) htr (Nat.le_of_ble_eq_true rfl) ?_
  change zW l G MX1_first 10 241 (zxc r.1) (zxs r.1) 0 [(0, .ref o0), (1, .int a0)] [] K F I L (zQe (zoi r.1) K F r.2 L)
  unfold F_X1_first at hF
  refine z_aload_n (n := 1) dX1_first_0 rfl 0 rfl rfl ?_
  refine z_iload_n (n := 2) dX1_first_1 rfl 1 rfl rfl ?_
  obtain ⟨n_1, hk_2, hF⟩ := zka_some hF
  obtain ⟨s_4, I_5, c_3, hF⟩ := zb2_some hF
  rcases zsum_some hF with ⟨x_7, e_6, hF⟩ | ⟨w_8, e_6, hF⟩
  rotate_left
  · first | rw [e_6] at c_3 ⊢ | rw [e_6] at c_3
    have hF := Option.some.inj hF; subst hF
    refine z_cVx (n := 5) (mc2 := 0) (ms2 := 0) (st := []) (C_X1_bandAt htr c_3) dX1_first_2 rfl (lw_V q1421 q1423 qs34 q105 q1424) hcee_X1_bandAt rfl (by decide) hk_2 rfl rfl rfl (Nat.le_of_ble_eq_true rfl) (Nat.le_refl _) (Nat.le_refl _) ?_
    exact z_out rfl ⟨rfl, rfl, rfl, rfl, rfl⟩
  first | rw [e_6] at c_3 ⊢ | rw [e_6] at c_3
  refine z_cV (n := 5) (st := []) (C_X1_bandAt htr c_3) dX1_first_2 rfl (lw_V q1421 q1423 qs34 q105 q1424) hcee_X1_bandAt rfl (by decide) hk_2 rfl rfl rfl (Nat.le_of_ble_eq_true rfl) (Nat.le_refl _) (Nat.le_refl _) ?_
  refine z_iconst (n := 6) (v := (-1)) dX1_first_5 rfl (by decide) ?_
  refine z_istore_nE (n := 7) (lv' := [(2, .int (-1)), (0, .ref o0), (1, .int a0)]) dX1_first_6 rfl rfl rfl (by decide) rfl ?_
  refine z_ldcw (n := 10) dX1_first_7 rfl q1542 ?_
  refine z_istore_nE (n := 11) (lv' := [(3, .int 100000), (2, .int (-1)), (0, .ref o0), (1, .int a0)]) dX1_first_10 rfl rfl rfl (by decide) rfl ?_
  refine z_iconst (n := 12) (v := 0) dX1_first_11 rfl (by decide) ?_
  refine z_istoreE (n := 14) (lv' := [(4, .int 0), (3, .int 100000), (2, .int (-1)), (0, .ref o0), (1, .int a0)]) dX1_first_12 rfl rfl (by decide) rfl ?_
  refine z_sub [3, 4, 2, 1, 0] rfl ?_
  obtain ⟨t_65, e_64, hF⟩ := zb1_some hF
  obtain ⟨v2_63, rfl⟩ : ∃ z, z = t_65 := ⟨_, rfl⟩
  have H_66 : zW l G MX1_first 10 241 (zxc r.1) (zxs r.1) 86 [(2, .int v2_63)] [] K F I_5 L (zQe (zoi r.1) K F r.2 L) := by
    refine z_iload_n (n := 87) dX1_first_86 rfl 0 rfl rfl ?_
    have hF := Option.some.inj hF; subst hF
    exact z_iret dX1_first_87 rfl rfl ⟨rfl, rfl, rfl, rfl, rfl⟩
  refine zloop_ind (P := fun s : Int32 × Int32 × Int32 => zW l G MX1_first 10 241 (zxc r.1) (zxs r.1) 14 [(0, .ref o0), (1, .int a0), (2, .int s.1), (3, .int s.2.1), (4, .int s.2.2)] [] K F I_5 L (zQe (zoi r.1) K F r.2 L)) (fun s r hb kl kr => ?_) e_64
  exact W_X1_first_L14 (o0 := o0) (a0 := a0) htr hb (fun z0 z1 z2 e => kl _ e) (fun y0 e => by cases kr _ e; exact H_66)
theorem hcee_X1_bears : zCee yX1_bears RX1 2 := ⟨rfl, by decide +kernel, by decide +kernel, by decide +kernel⟩
abbrev MX1_forEver : zM := (RX1, cX1_forEver, 3, (some .int), "forEver", [])
noncomputable def F_X1_forEver_L10 (K : zKd) (F : zFd) (o0 : Nat) (a0 : Int32) (I_5 : zId) (v2_11 : Int32) : Option ((Int32) ⊕ (Int32)) := zka K o0 0 (fun n_12 => zb1 (F_X1_bears K F o0 a0 v2_11 I_5) (fun x_15 => if ¬ x_15 = 0 then some (.inr (v2_11)) else zlet (v2_11 + (-1)) (fun v2_16 => some (.inl v2_16))))
noncomputable def F_X1_forEver (K : zKd) (F : zFd) (o0 : Nat) (a0 : Int32) (I : zId) : Option ((Int32 ⊕ (String × Nat)) × zId) := zka K o0 0 (fun n_1 => zb2 (F_X1_forestAt K F o0 a0 I) (fun s_4 I_5 => zsum s_4 (fun q_7 => zb1 q_7 (fun o_9 => zb1 (zloop (fun s : Int32 => F_X1_forEver_L10 K F o0 a0 I_5 s) 999) (fun v2_18 => some (.inl v2_18, I_5)))) (fun w_8 => some (.inr w_8, I_5))))
set_option maxHeartbeats 1000000 in
theorem W_X1_forEver_L10 {l : Launch} {G : zGt} (htr : l.stackTraces = false) {K : zKd} {F : zFd} {L : zLd} {Q : zQt} {mE wE : Nat} {o0 : Nat} {a0 : Int32} {I_5 : zId} {v2_11 : Int32} {r : (Int32) ⊕ (Int32)} (hF : F_X1_forEver_L10 K F o0 a0 I_5 v2_11 = some r) (kl : ∀ (z0 : Int32), r = .inl z0 → zW l G MX1_forEver 10 241 mE wE 10 [(0, .ref o0), (1, .int a0), (2, .int z0)] [] K F I_5 L Q) (kx : ∀ (y0 : Int32), r = .inr y0 → zW l G MX1_forEver 10 241 mE wE 25 [(2, .int y0)] [] K F I_5 L Q)  : zW l G MX1_forEver 10 241 mE wE 10 [(0, .ref o0), (1, .int a0), (2, .int v2_11)] [] K F I_5 L Q := by
  unfold F_X1_forEver_L10 at hF
  refine z_aload_n (n := 11) dX1_forEver_10 rfl 0 rfl rfl ?_
  refine z_iload_n (n := 12) dX1_forEver_11 rfl 1 rfl rfl ?_
  refine z_iload_n (n := 13) dX1_forEver_12 rfl 2 rfl rfl ?_
  obtain ⟨n_12, hk_13, hF⟩ := zka_some hF
  obtain ⟨x_15, c_14, hF⟩ := zb1_some hF
  refine z_cV (n := 16) (st := []) (C_X1_bears htr c_14) dX1_forEver_13 rfl (lw_V q1519 q1521 qs36 q105 q1522) hcee_X1_bears rfl (by decide) hk_13 rfl rfl rfl (Nat.le_of_ble_eq_true rfl) (Nat.le_refl _) (Nat.le_refl _) ?_
  refine z_if_ne (n := 19) (t := 25) dX1_forEver_16 rfl (by decide) (fun hc => ?_) (fun hc => ?_)
  · replace hF := (if_pos hc).symm.trans hF
    refine z_sub [2] rfl ?_
    have hF := Option.some.inj hF; subst hF
    exact kx v2_11 rfl
  · replace hF := (if_neg hc).symm.trans hF
    obtain ⟨v2_16, e_17, hF⟩ := zlet_ob hF
    refine z_iincE (n := 22) (w := (-1)) (v := v2_16) (lv' := [(2, .int v2_16), (0, .ref o0), (1, .int a0)]) dX1_forEver_19 rfl 2 rfl (by decide) e_17 (by decide) rfl ?_
    refine z_goto (t := 10) dX1_forEver_22 (by decide) ?_
    refine z_sub [1, 2, 0] rfl ?_
    have hF := Option.some.inj hF; subst hF
    exact kl v2_16 rfl
set_option maxHeartbeats 1000000 in
theorem C_X1_forEver {l : Launch} {G : zGt} (htr : l.stackTraces = false) {K : zKd} {F : zFd} {L : zLd} {o0 : Nat} {a0 : Int32} {I : zId} {r : (Int32 ⊕ (String × Nat)) × zId} (hF : F_X1_forEver K F o0 a0 I = some r) : zMet l G yX1_forEver (ws_ yX1_forEver cX1_forEver 3 (some .int)) 10 241 (zxc r.1) (zxs r.1) [.ref o0, .int a0] K F I L (zQe (zoi r.1) K F r.2 L) := by
  refine zMet.of (by decide +kernel) htr (Nat.le_of_ble_eq_true rfl) ?_
  change zW l G MX1_forEver 10 241 (zxc r.1) (zxs r.1) 0 [(0, .ref o0), (1, .int a0)] [] K F I L (zQe (zoi r.1) K F r.2 L)
  unfold F_X1_forEver at hF
  refine z_aload_n (n := 1) dX1_forEver_0 rfl 0 rfl rfl ?_
  refine z_iload_n (n := 2) dX1_forEver_1 rfl 1 rfl rfl ?_
  obtain ⟨n_1, hk_2, hF⟩ := zka_some hF
  obtain ⟨s_4, I_5, c_3, hF⟩ := zb2_some hF
  rcases zsum_some hF with ⟨q_7, e_6, hF⟩ | ⟨w_8, e_6, hF⟩
  rotate_left
  · first | rw [e_6] at c_3 ⊢ | rw [e_6] at c_3
    have hF := Option.some.inj hF; subst hF
    refine z_cVx (n := 5) (mc2 := 0) (ms2 := 0) (st := []) (C_X1_forestAt htr c_3) dX1_forEver_2 rfl (lw_V q1400 q1402 qs31 q105 q1403) hcee_X1_forestAt rfl (by decide) hk_2 rfl rfl rfl (Nat.le_of_ble_eq_true rfl) (Nat.le_refl _) (Nat.le_refl _) ?_
    exact z_out rfl ⟨rfl, rfl, rfl, rfl, rfl⟩
  first | rw [e_6] at c_3 ⊢ | rw [e_6] at c_3
  refine z_cV (n := 5) (st := []) (C_X1_forestAt htr c_3) dX1_forEver_2 rfl (lw_V q1400 q1402 qs31 q105 q1403) hcee_X1_forestAt rfl (by decide) hk_2 rfl rfl rfl (Nat.le_of_ble_eq_true rfl) (Nat.le_refl _) (Nat.le_refl _) ?_
  obtain ⟨o_9, hr_10, hF⟩ := zb1_some hF
  rw [hr_10]
  refine z_pop (n := 6) dX1_forEver_5 rfl rfl ?_
  refine z_sipush (n := 9) (v := 999) dX1_forEver_6 rfl (by decide) ?_
  refine z_istore_nE (n := 10) (lv' := [(2, .int 999), (0, .ref o0), (1, .int a0)]) dX1_forEver_9 rfl rfl rfl (by decide) rfl ?_
  refine z_sub [1, 2, 0] rfl ?_
  obtain ⟨t_20, e_19, hF⟩ := zb1_some hF
  obtain ⟨v2_18, rfl⟩ : ∃ z, z = t_20 := ⟨_, rfl⟩
  have H_21 : zW l G MX1_forEver 10 241 (zxc r.1) (zxs r.1) 25 [(2, .int v2_18)] [] K F I_5 L (zQe (zoi r.1) K F r.2 L) := by
    refine z_iload_n (n := 26) dX1_forEver_25 rfl 0 rfl rfl ?_
    have hF := Option.some.inj hF; subst hF
    exact z_iret dX1_forEver_26 rfl rfl ⟨rfl, rfl, rfl, rfl, rfl⟩
  refine zloop_ind (P := fun s : Int32 => zW l G MX1_forEver 10 241 (zxc r.1) (zxs r.1) 10 [(0, .ref o0), (1, .int a0), (2, .int s)] [] K F I_5 L (zQe (zoi r.1) K F r.2 L)) (fun s r hb kl kr => ?_) e_19
  exact W_X1_forEver_L10 (o0 := o0) (a0 := a0) htr hb (fun z0 e => kl _ e) (fun y0 e => by cases kr _ e; exact H_21)
abbrev MX1_riversOf : zM := (RX1, cX1_riversOf, 4, (some .int), "riversOf", [])
noncomputable def F_X1_riversOf_L4 (K : zKd) (F : zFd) (o0 : Nat) (a0 : Int32) (I : zId) (v2_1 : Int32) (v3_2 : Int32) : Option ((Int32 × Int32) ⊕ (Int32)) := zka K o0 0 (fun n_3 => zb1 (F_X1_forests K F o0 I) (fun x_6 => if x_6 ≤ v3_2 then some (.inr (v2_1)) else zg (decide (600 ≤ o0)) (zb1 (F o0 0) (fun o_8 => zka K o_8 1 (fun n_10 => zb1 (F_X2_hasRiver K F o_8 a0 v3_2 I) (fun x_13 => if x_13 = 0 then zlet (v3_2 + 1) (fun v3_14 => some (.inl (v2_1, v3_14))) else zlet (v2_1 + 1) (fun v2_16 => zlet (v3_2 + 1) (fun v3_18 => some (.inl (v2_16, v3_18))))))))))
noncomputable def F_X1_riversOf (K : zKd) (F : zFd) (o0 : Nat) (a0 : Int32) (I : zId) : Option (Int32) := zb1 (zloop (fun s : Int32 × Int32 => F_X1_riversOf_L4 K F o0 a0 I s.1 s.2) (0, 0)) (fun v2_20 => some v2_20)
set_option maxHeartbeats 1000000 in
theorem W_X1_riversOf_L4 {l : Launch} {G : zGt} (htr : l.stackTraces = false) {K : zKd} {F : zFd} {L : zLd} {Q : zQt} {o0 : Nat} {a0 : Int32} {I : zId} {v2_1 : Int32} {v3_2 : Int32} {r : (Int32 × Int32) ⊕ (Int32)} (hF : F_X1_riversOf_L4 K F o0 a0 I v2_1 v3_2 = some r) (kl : ∀ (z0 : Int32) (z1 : Int32), r = .inl (z0, z1) → zW l G MX1_riversOf 2 40 0 0 4 [(0, .ref o0), (1, .int a0), (2, .int z0), (3, .int z1)] [] K F I L Q) (kx : ∀ (y0 : Int32), r = .inr y0 → zW l G MX1_riversOf 2 40 0 0 33 [(2, .int y0)] [] K F I L Q)  : zW l G MX1_riversOf 2 40 0 0 4 [(0, .ref o0), (1, .int a0), (2, .int v2_1), (3, .int v3_2)] [] K F I L Q := by
  unfold F_X1_riversOf_L4 at hF
  refine z_iload_n (n := 5) dX1_riversOf_4 rfl 3 rfl rfl ?_
  refine z_aload_n (n := 6) dX1_riversOf_5 rfl 0 rfl rfl ?_
  obtain ⟨n_3, hk_4, hF⟩ := zka_some hF
  obtain ⟨x_6, c_5, hF⟩ := zb1_some hF
  refine z_cV (n := 9) (st := [.int v3_2]) (C_X1_forests htr c_5) dX1_riversOf_6 rfl (lw_V q923 q925 qs12 q105 q926) hcee_X1_forests rfl (by decide) hk_4 rfl rfl rfl (Nat.le_of_ble_eq_true rfl) (Nat.le_refl _) (Nat.le_refl _) ?_
  refine z_icmp_ge (n := 12) (t := 33) dX1_riversOf_9 rfl (by decide) (fun hc => ?_) (fun hc => ?_)
  · replace hF := (if_pos hc).symm.trans hF
    refine z_sub [2] rfl ?_
    have hF := Option.some.inj hF; subst hF
    exact kx v2_1 rfl
  · replace hF := (if_neg hc).symm.trans hF
    refine z_aload_n (n := 13) dX1_riversOf_12 rfl 0 rfl rfl ?_
    obtain ⟨hb_7, hF⟩ := zg_some hF
    obtain ⟨o_8, hr_9, hF⟩ := zb1_some hF
    refine z_getRS (n := 16) dX1_riversOf_13 rfl zok0 fX1_10_0 rfl hk_4 (Or.inl (zbig hb_7)) hr_9 ?_
    refine z_iload_n (n := 17) dX1_riversOf_16 rfl 1 rfl rfl ?_
    refine z_iload_n (n := 18) dX1_riversOf_17 rfl 3 rfl rfl ?_
    obtain ⟨n_10, hk_11, hF⟩ := zka_some hF
    obtain ⟨x_13, c_12, hF⟩ := zb1_some hF
    refine z_cV (n := 21) (st := []) (C_X2_hasRiver htr c_12) dX1_riversOf_18 rfl (lw_V q1413 q1159 q1160 q106 q1161) hcee_X2_hasRiver rfl (by decide) hk_11 rfl rfl rfl (Nat.le_of_ble_eq_true rfl) (Nat.le_refl _) (Nat.le_refl _) ?_
    refine z_if_eq (n := 24) (t := 27) dX1_riversOf_21 rfl (by decide) (fun hc => ?_) (fun hc => ?_)
    · replace hF := (if_pos hc).symm.trans hF
      obtain ⟨v3_14, e_15, hF⟩ := zlet_ob hF
      refine z_iincE (n := 30) (w := 1) (v := v3_14) (lv' := [(3, .int v3_14), (0, .ref o0), (1, .int a0), (2, .int v2_1)]) dX1_riversOf_27 rfl 3 rfl (by decide) e_15 (by decide) rfl ?_
      refine z_goto (t := 4) dX1_riversOf_30 (by decide) ?_
      refine z_sub [1, 2, 3, 0] rfl ?_
      have hF := Option.some.inj hF; subst hF
      exact kl v2_1 v3_14 rfl
    · replace hF := (if_neg hc).symm.trans hF
      obtain ⟨v2_16, e_17, hF⟩ := zlet_ob hF
      refine z_iincE (n := 27) (w := 1) (v := v2_16) (lv' := [(2, .int v2_16), (0, .ref o0), (1, .int a0), (3, .int v3_2)]) dX1_riversOf_24 rfl 2 rfl (by decide) e_17 (by decide) rfl ?_
      obtain ⟨v3_18, e_19, hF⟩ := zlet_ob hF
      refine z_iincE (n := 30) (w := 1) (v := v3_18) (lv' := [(3, .int v3_18), (2, .int v2_16), (0, .ref o0), (1, .int a0)]) dX1_riversOf_27 rfl 3 rfl (by decide) e_19 (by decide) rfl ?_
      refine z_goto (t := 4) dX1_riversOf_30 (by decide) ?_
      refine z_sub [2, 3, 1, 0] rfl ?_
      have hF := Option.some.inj hF; subst hF
      exact kl v2_16 v3_18 rfl
set_option maxHeartbeats 1000000 in
theorem C_X1_riversOf {l : Launch} {G : zGt} (htr : l.stackTraces = false) {K : zKd} {F : zFd} {L : zLd} {o0 : Nat} {a0 : Int32} {I : zId} {r : Int32} (hF : F_X1_riversOf K F o0 a0 I = some r) : zMet l G yX1_riversOf (ws_ yX1_riversOf cX1_riversOf 4 (some .int)) 2 40 0 0 [.ref o0, .int a0] K F I L (zQe (.inl (some (.int r))) K F I L) := by
  refine zMet.of (by decide +kernel) htr (Nat.le_of_ble_eq_true rfl) ?_
  change zW l G MX1_riversOf 2 40 0 0 0 [(0, .ref o0), (1, .int a0)] [] K F I L (zQe (.inl (some (.int r))) K F I L)
  unfold F_X1_riversOf at hF
  refine z_iconst (n := 1) (v := 0) dX1_riversOf_0 rfl (by decide) ?_
  refine z_istore_nE (n := 2) (lv' := [(2, .int 0), (0, .ref o0), (1, .int a0)]) dX1_riversOf_1 rfl rfl rfl (by decide) rfl ?_
  refine z_iconst (n := 3) (v := 0) dX1_riversOf_2 rfl (by decide) ?_
  refine z_istore_nE (n := 4) (lv' := [(3, .int 0), (2, .int 0), (0, .ref o0), (1, .int a0)]) dX1_riversOf_3 rfl rfl rfl (by decide) rfl ?_
  refine z_sub [2, 3, 1, 0] rfl ?_
  obtain ⟨t_22, e_21, hF⟩ := zb1_some hF
  obtain ⟨v2_20, rfl⟩ : ∃ z, z = t_22 := ⟨_, rfl⟩
  have H_23 : zW l G MX1_riversOf 2 40 0 0 33 [(2, .int v2_20)] [] K F I L (zQe (.inl (some (.int r))) K F I L) := by
    refine z_iload_n (n := 34) dX1_riversOf_33 rfl 0 rfl rfl ?_
    have hF := Option.some.inj hF; subst hF
    exact z_iret dX1_riversOf_34 rfl rfl ⟨rfl, rfl, rfl, rfl, rfl⟩
  refine zloop_ind (P := fun s : Int32 × Int32 => zW l G MX1_riversOf 2 40 0 0 4 [(0, .ref o0), (1, .int a0), (2, .int s.1), (3, .int s.2)] [] K F I L (zQe (.inl (some (.int r))) K F I L)) (fun s r hb kl kr => ?_) e_21
  exact W_X1_riversOf_L4 (o0 := o0) (a0 := a0) htr hb (fun z0 z1 e => kl _ e) (fun y0 e => by cases kr _ e; exact H_23)
theorem fX1_182_9 : zFld RX1 182 9 2 := ⟨_, rfl, by decide, _, Or.inr ⟨_, q1132⟩, Or.inl rfl⟩
theorem fX1_185_9 : zFld RX1 185 9 3 := ⟨_, rfl, by decide, _, Or.inr ⟨_, q1134⟩, Or.inl rfl⟩
theorem fX1_188_5 : zFld RX1 188 5 2 := ⟨_, rfl, by decide, _, Or.inr ⟨_, q594⟩, Or.inl rfl⟩
theorem hcee_X1_bandsIn : zCee yX1_bandsIn RX1 1 := ⟨rfl, by decide +kernel, by decide +kernel, by decide +kernel⟩
theorem hcee_X1_riversOf : zCee yX1_riversOf RX1 1 := ⟨rfl, by decide +kernel, by decide +kernel, by decide +kernel⟩
abbrev MX1_forest : zM := (RX1, cX1_forest, 4, (some .int), "forest", [])
noncomputable def F_X1_forest (K : zKd) (F : zFd) (o0 : Nat) (a0 : Int32) (a1 : Int32) (I : zId) : Option ((Int32 ⊕ (String × Nat)) × zId) := zka K o0 0 (fun n_1 => zb2 (F_X1_forestAt K F o0 a0 I) (fun s_4 I_5 => zsum s_4 (fun q_7 => zb1 q_7 (fun o_9 => zb1 (F_X1_within K F a1 0 6 I_5) (fun x_12 => zb2 (F_X1_there K F x_12 I_5) (fun s_14 I_15 => zsum s_14 (fun x_17 => if a1 = 0 then zg (decide (600 ≤ o0)) (zb1 (F o0 3) (fun o_20 => zka K o_20 5 (fun n_22 => zg (decide (600 ≤ o_20)) (zb1 (F o_20 0) (fun o_25 => zka K o_25 64 (fun n_27 => zg (zin a0 n_27) (some (.inl (I_15 o_25 a0.toNatClampNeg), I_15)))))))) else if a1 = 1 then zg (decide (600 ≤ o0)) (zb1 (F o0 3) (fun o_31 => zka K o_31 5 (fun n_33 => zg (decide (600 ≤ o_31)) (zb1 (F o_31 1) (fun o_36 => zka K o_36 64 (fun n_38 => zg (zin a0 n_38) (some (.inl (I_15 o_36 a0.toNatClampNeg), I_15)))))))) else if a1 = 2 then zka K o_9 9 (fun n_41 => zg (decide (600 ≤ o_9)) (some (.inl (I_15 o_9 2), I_15))) else if a1 = 3 then zka K o_9 9 (fun n_44 => zg (decide (600 ≤ o_9)) (some (.inl (I_15 o_9 3), I_15))) else if a1 = 4 then zg (decide (600 ≤ o0)) (zb1 (F o0 3) (fun o_48 => zka K o_48 5 (fun n_50 => zg (decide (600 ≤ o_48)) (zb1 (F o_48 2) (fun o_53 => zka K o_53 64 (fun n_55 => zg (zin a0 n_55) (some (.inl (I_15 o_53 a0.toNatClampNeg), I_15)))))))) else if a1 = 5 then zb1 (F_X1_bandsIn K F o0 a0 I_15) (fun x_59 => some (.inl x_59, I_15)) else zb1 (F_X1_riversOf K F o0 a0 I_15) (fun x_61 => some (.inl x_61, I_15))) (fun w_18 => some (.inr w_18, I_15)))))) (fun w_8 => some (.inr w_8, I_5))))
set_option maxHeartbeats 1000000 in
theorem C_X1_forest {l : Launch} {G : zGt} (htr : l.stackTraces = false) {K : zKd} {F : zFd} {L : zLd} {o0 : Nat} {a0 : Int32} {a1 : Int32} {I : zId} {r : (Int32 ⊕ (String × Nat)) × zId} (hF : F_X1_forest K F o0 a0 a1 I = some r) : zMet l G yX1_forest (ws_ yX1_forest cX1_forest 4 (some .int)) 10 241 (zxc r.1) (zxs r.1) [.ref o0, .int a0, .int a1] K F I L (zQe (zoi r.1) K F r.2 L) := by
  refine zMet.of (by decide +kernel) htr (Nat.le_of_ble_eq_true rfl) ?_
  change zW l G MX1_forest 10 241 (zxc r.1) (zxs r.1) 0 [(0, .ref o0), (1, .int a0), (2, .int a1)] [] K F I L (zQe (zoi r.1) K F r.2 L)
  unfold F_X1_forest at hF
  refine z_aload_n (n := 1) dX1_forest_0 rfl 0 rfl rfl ?_
  refine z_iload_n (n := 2) dX1_forest_1 rfl 1 rfl rfl ?_
  obtain ⟨n_1, hk_2, hF⟩ := zka_some hF
  obtain ⟨s_4, I_5, c_3, hF⟩ := zb2_some hF
  rcases zsum_some hF with ⟨q_7, e_6, hF⟩ | ⟨w_8, e_6, hF⟩
  rotate_left
  · first | rw [e_6] at c_3 ⊢ | rw [e_6] at c_3
    have hF := Option.some.inj hF; subst hF
    refine z_cVx (n := 5) (mc2 := 0) (ms2 := 0) (st := []) (C_X1_forestAt htr c_3) dX1_forest_2 rfl (lw_V q1400 q1402 qs31 q105 q1403) hcee_X1_forestAt rfl (by decide) hk_2 rfl rfl rfl (Nat.le_of_ble_eq_true rfl) (Nat.le_refl _) (Nat.le_refl _) ?_
    exact z_out rfl ⟨rfl, rfl, rfl, rfl, rfl⟩
  first | rw [e_6] at c_3 ⊢ | rw [e_6] at c_3
  refine z_cV (n := 5) (st := []) (C_X1_forestAt htr c_3) dX1_forest_2 rfl (lw_V q1400 q1402 qs31 q105 q1403) hcee_X1_forestAt rfl (by decide) hk_2 rfl rfl rfl (Nat.le_of_ble_eq_true rfl) (Nat.le_refl _) (Nat.le_refl _) ?_
  obtain ⟨o_9, hr_10, hF⟩ := zb1_some hF
  rw [hr_10]
  refine z_astore_nS (n := 6) (lv' := [(3, .ref o_9), (0, .ref o0), (1, .int a0), (2, .int a1)]) dX1_forest_5 rfl rfl (by decide) rfl ?_
  refine z_iload_n (n := 7) dX1_forest_6 rfl 3 rfl rfl ?_
  refine z_iconst (n := 8) (v := 0) dX1_forest_7 rfl (by decide) ?_
  refine z_bipush (n := 10) (v := 6) dX1_forest_8 rfl (by decide) ?_
  obtain ⟨x_12, c_11, hF⟩ := zb1_some hF
  refine z_cS (n := 13) (st := []) (C_X1_within htr c_11) dX1_forest_10 rfl (lw_S q786 q787 q105 q788) hcee_X1_within rfl (by decide) rfl (Nat.le_of_ble_eq_true rfl) (Nat.le_refl _) (Nat.le_refl _) ?_
  obtain ⟨s_14, I_15, c_13, hF⟩ := zb2_some hF
  rcases zsum_some hF with ⟨x_17, e_16, hF⟩ | ⟨w_18, e_16, hF⟩
  rotate_left
  · first | rw [e_16] at c_13 ⊢ | rw [e_16] at c_13
    have hF := Option.some.inj hF; subst hF
    refine z_cSx (n := 16) (mc2 := 0) (ms2 := 0) (st := []) (C_X1_there htr c_13) dX1_forest_13 rfl (lw_S q1367 q1368 q105 q1369) hcee_X1_there rfl (by decide) rfl (Nat.le_of_ble_eq_true rfl) (Nat.le_refl _) (Nat.le_refl _) ?_
    exact z_out rfl ⟨rfl, rfl, rfl, rfl, rfl⟩
  first | rw [e_16] at c_13 ⊢ | rw [e_16] at c_13
  refine z_cS (n := 16) (st := []) (C_X1_there htr c_13) dX1_forest_13 rfl (lw_S q1367 q1368 q105 q1369) hcee_X1_there rfl (by decide) rfl (Nat.le_of_ble_eq_true rfl) (Nat.le_refl _) (Nat.le_refl _) ?_
  refine z_iload_n (n := 17) dX1_forest_16 rfl 3 rfl rfl ?_
  by_cases ht0 : a1 = 0
  · replace hF := (if_pos ht0).symm.trans hF
    refine z_tableIn (off := 39) (t := 56) dX1_forest_17 (by rw [ht0]; decide) (by rw [ht0]; decide) (by rw [ht0]; rfl) (by decide) ?_
    refine z_aload_n (n := 57) dX1_forest_56 rfl 1 rfl rfl ?_
    obtain ⟨hb_19, hF⟩ := zg_some hF
    obtain ⟨o_20, hr_21, hF⟩ := zb1_some hF
    refine z_getRS (n := 60) dX1_forest_57 rfl zok0 fX1_30_0 rfl hk_2 (Or.inl (zbig hb_19)) hr_21 ?_
    obtain ⟨n_22, hk_23, hF⟩ := zka_some hF
    obtain ⟨hb_24, hF⟩ := zg_some hF
    obtain ⟨o_25, hr_26, hF⟩ := zb1_some hF
    refine z_getRS (n := 63) dX1_forest_60 rfl zok5 fX1_176_5 rfl hk_23 (Or.inl (zbig hb_24)) hr_26 ?_
    refine z_iload_n (n := 64) dX1_forest_63 rfl 2 rfl rfl ?_
    obtain ⟨n_27, hk_28, hF⟩ := zka_some hF
    obtain ⟨h_29, hF⟩ := zg_some hF
    refine z_ialdK (n := 65) a0.toNatClampNeg rfl dX1_forest_64 rfl hk_28 (zin_ok h_29) ?_
    have hF := Option.some.inj hF; subst hF
    exact z_iret dX1_forest_65 rfl rfl ⟨rfl, rfl, rfl, rfl, rfl⟩
  replace hF := (if_neg ht0).symm.trans hF
  by_cases ht1 : a1 = 1
  · replace hF := (if_pos ht1).symm.trans hF
    refine z_tableIn (off := 49) (t := 66) dX1_forest_17 (by rw [ht1]; decide) (by rw [ht1]; decide) (by rw [ht1]; rfl) (by decide) ?_
    refine z_aload_n (n := 67) dX1_forest_66 rfl 1 rfl rfl ?_
    obtain ⟨hb_30, hF⟩ := zg_some hF
    obtain ⟨o_31, hr_32, hF⟩ := zb1_some hF
    refine z_getRS (n := 70) dX1_forest_67 rfl zok0 fX1_30_0 rfl hk_2 (Or.inl (zbig hb_30)) hr_32 ?_
    obtain ⟨n_33, hk_34, hF⟩ := zka_some hF
    obtain ⟨hb_35, hF⟩ := zg_some hF
    obtain ⟨o_36, hr_37, hF⟩ := zb1_some hF
    refine z_getRS (n := 73) dX1_forest_70 rfl zok5 fX1_179_5 rfl hk_34 (Or.inl (zbig hb_35)) hr_37 ?_
    refine z_iload_n (n := 74) dX1_forest_73 rfl 2 rfl rfl ?_
    obtain ⟨n_38, hk_39, hF⟩ := zka_some hF
    obtain ⟨h_40, hF⟩ := zg_some hF
    refine z_ialdK (n := 75) a0.toNatClampNeg rfl dX1_forest_74 rfl hk_39 (zin_ok h_40) ?_
    have hF := Option.some.inj hF; subst hF
    exact z_iret dX1_forest_75 rfl rfl ⟨rfl, rfl, rfl, rfl, rfl⟩
  replace hF := (if_neg ht1).symm.trans hF
  by_cases ht2 : a1 = 2
  · replace hF := (if_pos ht2).symm.trans hF
    refine z_tableIn (off := 59) (t := 76) dX1_forest_17 (by rw [ht2]; decide) (by rw [ht2]; decide) (by rw [ht2]; rfl) (by decide) ?_
    refine z_aload_n (n := 77) dX1_forest_76 rfl 0 rfl rfl ?_
    obtain ⟨n_41, hk_42, hF⟩ := zka_some hF
    obtain ⟨hb_43, hF⟩ := zg_some hF
    refine z_getI (n := 80) dX1_forest_77 rfl zok9 fX1_182_9 rfl hk_42 (Or.inl (zbig hb_43)) ?_
    have hF := Option.some.inj hF; subst hF
    exact z_iret dX1_forest_80 rfl rfl ⟨rfl, rfl, rfl, rfl, rfl⟩
  replace hF := (if_neg ht2).symm.trans hF
  by_cases ht3 : a1 = 3
  · replace hF := (if_pos ht3).symm.trans hF
    refine z_tableIn (off := 64) (t := 81) dX1_forest_17 (by rw [ht3]; decide) (by rw [ht3]; decide) (by rw [ht3]; rfl) (by decide) ?_
    refine z_aload_n (n := 82) dX1_forest_81 rfl 0 rfl rfl ?_
    obtain ⟨n_44, hk_45, hF⟩ := zka_some hF
    obtain ⟨hb_46, hF⟩ := zg_some hF
    refine z_getI (n := 85) dX1_forest_82 rfl zok9 fX1_185_9 rfl hk_45 (Or.inl (zbig hb_46)) ?_
    have hF := Option.some.inj hF; subst hF
    exact z_iret dX1_forest_85 rfl rfl ⟨rfl, rfl, rfl, rfl, rfl⟩
  replace hF := (if_neg ht3).symm.trans hF
  by_cases ht4 : a1 = 4
  · replace hF := (if_pos ht4).symm.trans hF
    refine z_tableIn (off := 69) (t := 86) dX1_forest_17 (by rw [ht4]; decide) (by rw [ht4]; decide) (by rw [ht4]; rfl) (by decide) ?_
    refine z_aload_n (n := 87) dX1_forest_86 rfl 1 rfl rfl ?_
    obtain ⟨hb_47, hF⟩ := zg_some hF
    obtain ⟨o_48, hr_49, hF⟩ := zb1_some hF
    refine z_getRS (n := 90) dX1_forest_87 rfl zok0 fX1_30_0 rfl hk_2 (Or.inl (zbig hb_47)) hr_49 ?_
    obtain ⟨n_50, hk_51, hF⟩ := zka_some hF
    obtain ⟨hb_52, hF⟩ := zg_some hF
    obtain ⟨o_53, hr_54, hF⟩ := zb1_some hF
    refine z_getRS (n := 93) dX1_forest_90 rfl zok5 fX1_188_5 rfl hk_51 (Or.inl (zbig hb_52)) hr_54 ?_
    refine z_iload_n (n := 94) dX1_forest_93 rfl 2 rfl rfl ?_
    obtain ⟨n_55, hk_56, hF⟩ := zka_some hF
    obtain ⟨h_57, hF⟩ := zg_some hF
    refine z_ialdK (n := 95) a0.toNatClampNeg rfl dX1_forest_94 rfl hk_56 (zin_ok h_57) ?_
    have hF := Option.some.inj hF; subst hF
    exact z_iret dX1_forest_95 rfl rfl ⟨rfl, rfl, rfl, rfl, rfl⟩
  replace hF := (if_neg ht4).symm.trans hF
  by_cases ht5 : a1 = 5
  · replace hF := (if_pos ht5).symm.trans hF
    refine z_tableIn (off := 79) (t := 96) dX1_forest_17 (by rw [ht5]; decide) (by rw [ht5]; decide) (by rw [ht5]; rfl) (by decide) ?_
    refine z_aload_n (n := 97) dX1_forest_96 rfl 1 rfl rfl ?_
    refine z_iload_n (n := 98) dX1_forest_97 rfl 2 rfl rfl ?_
    obtain ⟨x_59, c_58, hF⟩ := zb1_some hF
    refine z_cV (n := 101) (st := []) (C_X1_bandsIn htr c_58) dX1_forest_98 rfl (lw_V q1405 q1407 qs32 q105 q1408) hcee_X1_bandsIn rfl (by decide) hk_2 rfl rfl rfl (Nat.le_of_ble_eq_true rfl) (Nat.le_refl _) (Nat.le_refl _) ?_
    have hF := Option.some.inj hF; subst hF
    exact z_iret dX1_forest_101 rfl rfl ⟨rfl, rfl, rfl, rfl, rfl⟩
  replace hF := (if_neg ht5).symm.trans hF
  refine z_tableOut (t := 102) dX1_forest_17 (by have := lv_neT (a := 0) ht0 (by decide); have := lv_neT (a := 1) ht1 (by decide); have := lv_neT (a := 2) ht2 (by decide); have := lv_neT (a := 3) ht3 (by decide); have := lv_neT (a := 4) ht4 (by decide); have := lv_neT (a := 5) ht5 (by decide); omega) (by decide) ?_
  refine z_aload_n (n := 103) dX1_forest_102 rfl 1 rfl rfl ?_
  refine z_iload_n (n := 104) dX1_forest_103 rfl 2 rfl rfl ?_
  obtain ⟨x_61, c_60, hF⟩ := zb1_some hF
  refine z_cV (n := 107) (st := []) (C_X1_riversOf htr c_60) dX1_forest_104 rfl (lw_V q1409 q1411 qs33 q105 q1412) hcee_X1_riversOf rfl (by decide) hk_2 rfl rfl rfl (Nat.le_of_ble_eq_true rfl) (Nat.le_refl _) (Nat.le_refl _) ?_
  have hF := Option.some.inj hF; subst hF
  exact z_iret dX1_forest_107 rfl rfl ⟨rfl, rfl, rfl, rfl, rfl⟩
abbrev MX1_forget : zM := (RX1, cX1_forget, 1, none, "forget", [])
noncomputable def F_X1_forget (K : zKd) (F : zFd) (o0 : Nat) (I : zId) : Option (zId) := zka K o0 0 (fun n_1 => zg (decide (600 ≤ o0)) (zb1 (F o0 1) (fun o_4 => zka K o_4 4 (fun n_6 => zg (decide (600 ≤ o_4)) (zlet (zu I o_4 7 0) (fun I_9 => some I_9))))))
set_option maxHeartbeats 1000000 in
theorem C_X1_forget {l : Launch} {G : zGt} (htr : l.stackTraces = false) {K : zKd} {F : zFd} {L : zLd} {o0 : Nat} {I : zId} {r : zId} (hF : F_X1_forget K F o0 I = some r) : zMet l G yX1_forget (ws_ yX1_forget cX1_forget 1 none) 0 0 0 0 [.ref o0] K F I L (zQe (.inl none) K F r L) := by
  refine zMet.of (by decide +kernel) htr (Nat.le_of_ble_eq_true rfl) ?_
  change zW l G MX1_forget 0 0 0 0 0 [(0, .ref o0)] [] K F I L (zQe (.inl none) K F r L)
  unfold F_X1_forget at hF
  refine z_aload_n (n := 1) dX1_forget_0 rfl 0 rfl rfl ?_
  obtain ⟨n_1, hk_2, hF⟩ := zka_some hF
  obtain ⟨hb_3, hF⟩ := zg_some hF
  obtain ⟨o_4, hr_5, hF⟩ := zb1_some hF
  refine z_getRS (n := 4) dX1_forget_1 rfl zok0 fX1_19_0 rfl hk_2 (Or.inl (zbig hb_3)) hr_5 ?_
  refine z_iconst (n := 5) (v := 0) dX1_forget_4 rfl (by decide) ?_
  obtain ⟨n_6, hk_7, hF⟩ := zka_some hF
  obtain ⟨hb_8, hF⟩ := zg_some hF
  obtain ⟨I_9, e_10, hF⟩ := zlet_ob hF
  refine z_putIE (n := 8) dX1_forget_5 rfl zok4 fX1_129_4 (Or.inl ⟨_, rfl, rfl⟩) rfl ⟨rfl, rfl⟩ hk_7 (zbig hb_8) e_10 ?_
  have hF := Option.some.inj hF; subst hF
  exact z_vret dX1_forget_8 rfl ⟨rfl, rfl, rfl, rfl, rfl⟩
abbrev MX1_forgive : zM := (RX1, cX1_forgive, 3, (some .int), "forgive", [])
noncomputable def F_X1_forgive (o0 : Nat) (a0 : Int32) (h : zSt) : Option ((Nat × Nat) × ((Int32 ⊕ (String × Nat)) × zSt)) := zka (hK h) o0 0 (fun n_1 => zb2 (F_X1_bandAt (hK h) (jF h) o0 a0 (hI h)) (fun s_4 I_5 => zpay (zxc s_4, zxs s_4) (zlet (zsFI h (jF h) I_5) (fun h_7 => zsum s_4 (fun x_9 => zka (hK h_7) o0 0 (fun n_11 => zg (decide (600 ≤ o0)) (zb1 ((jF h_7) o0 3) (fun o_14 => zka (hK h_7) o_14 5 (fun n_16 => zg (decide (600 ≤ o_14)) (zb1 ((jF h_7) o_14 7) (fun o_19 => zka (hK h_7) o_19 64 (fun n_21 => zg (zin a0 n_21) (zlet ((hI h_7) o_19 a0.toNatClampNeg) (fun v2_24 => zlet (fun (w_26 : Int32) => zc1 (F_X1_does o0 w_26 h_7) (fun c_33 => zn2 (fun x_31 h_32 => zpay c_33 (if ¬ x_31 = 0 then zka (hK h_32) o0 0 (fun n_35 => zb1 ((jF h_32) o0 3) (fun o_37 => zka (hK h_32) o_37 5 (fun n_39 => zg (decide (600 ≤ o_37)) (zb1 ((jF h_32) o_37 7) (fun o_42 => zka (hK h_32) o_42 64 (fun n_44 => zg (zin a0 n_44) (zg (decide (600 ≤ o_42)) (zlet (zsI h_32 (zu (hI h_32) o_42 a0.toNatClampNeg 0)) (fun h_48 => some ((0, 0), (.inl v2_24, h_48))))))))))) else some ((0, 0), (.inl (-1), h_32)))))) (fun k_27 => if v2_24 ≤ 0 then k_27 0 else k_27 1))))))))))) (fun w_10 => some ((0, 0), (.inr w_10, h_7)))))))
set_option maxHeartbeats 1000000 in
theorem C_X1_forgive {l : Launch} {G : zGt} (htr : l.stackTraces = false) {o0 : Nat} {a0 : Int32} {h : zSt} {cc : Nat × Nat} {r : (Int32 ⊕ (String × Nat)) × zSt} (hF : F_X1_forgive o0 a0 h = some (cc, r)) : zMet l G yX1_forgive (ws_ yX1_forgive cX1_forgive 3 (some .int)) 10 241 (cc.1 + 0) (cc.2 + 0) [.ref o0, .int a0] (hK h) (jF h) (hI h) (hL h) (zQe (zoi r.1) (hK r.2) (jF r.2) (hI r.2) (hL r.2)) := by
  refine zMet.of (by decide +kernel) htr (Nat.le_of_ble_eq_true rfl) ?_
  change zW l G MX1_forgive 10 241 (cc.1 + 0) (cc.2 + 0) 0 [(0, .ref o0), (1, .int a0)] [] (hK h) (jF h) (hI h) (hL h) (zQe (zoi r.1) (hK r.2) (jF r.2) (hI r.2) (hL r.2))
  unfold F_X1_forgive at hF
  refine z_aload_n (n := 1) dX1_forgive_0 rfl 0 rfl rfl ?_
  refine z_iload_n (n := 2) dX1_forgive_1 rfl 1 rfl rfl ?_
  obtain ⟨n_1, hk_2, hF⟩ := zka_some hF
  obtain ⟨s_4, I_5, c_3, hF⟩ := zb2_some hF
  obtain ⟨cc, hF, hcc⟩ := zpay_some hF
  refine z_payE hcc ?_
  obtain ⟨h_7, e_8, hF⟩ := zlet_ob hF
  rcases zsum_some hF with ⟨x_9, e_6, hF⟩ | ⟨w_10, e_6, hF⟩
  rotate_left
  · first | rw [e_6] at c_3 ⊢ | rw [e_6] at c_3
    obtain ⟨rfl, rfl⟩ := zpair hF
    refine z_cVx (n := 5) (mc2 := (((0, 0) : Nat × Nat).1 + 0)) (ms2 := (((0, 0) : Nat × Nat).2 + 0)) (st := []) (C_X1_bandAt htr c_3) dX1_forgive_2 rfl (lw_V q1421 q1423 qs34 q105 q1424) hcee_X1_bandAt rfl (by decide) hk_2 rfl rfl rfl (Nat.le_of_ble_eq_true rfl) (Nat.le_of_eq (Nat.add_comm _ _)) (Nat.le_of_eq (Nat.add_comm _ _)) ?_
    exact z_out rfl (by subst e_8; exact ⟨rfl, rfl, rfl, rfl, rfl⟩)
  first | rw [e_6] at c_3 ⊢ | rw [e_6] at c_3
  refine z_cV (n := 5) (mc2 := (cc.1 + 0)) (ms2 := (cc.2 + 0)) (st := []) (C_X1_bandAt htr c_3) dX1_forgive_2 rfl (lw_V q1421 q1423 qs34 q105 q1424) hcee_X1_bandAt rfl (by decide) hk_2 rfl rfl rfl (Nat.le_of_ble_eq_true rfl) (Nat.le_of_eq (Nat.add_comm _ _)) (Nat.le_of_eq (Nat.add_comm _ _)) ?_
  refine z_toFI e_8 ?_
  refine z_aload_n (n := 6) dX1_forgive_5 rfl 0 rfl rfl ?_
  obtain ⟨n_11, hk_12, hF⟩ := zka_some hF
  obtain ⟨hb_13, hF⟩ := zg_some hF
  obtain ⟨o_14, hr_15, hF⟩ := zb1_some hF
  refine z_getRS (n := 9) dX1_forgive_6 rfl zok0 fX1_30_0 rfl hk_12 (Or.inl (zbig hb_13)) hr_15 ?_
  obtain ⟨n_16, hk_17, hF⟩ := zka_some hF
  obtain ⟨hb_18, hF⟩ := zg_some hF
  obtain ⟨o_19, hr_20, hF⟩ := zb1_some hF
  refine z_getRS (n := 12) dX1_forgive_9 rfl zok5 fX1_209_5 rfl hk_17 (Or.inl (zbig hb_18)) hr_20 ?_
  refine z_iload_n (n := 13) dX1_forgive_12 rfl 1 rfl rfl ?_
  obtain ⟨n_21, hk_22, hF⟩ := zka_some hF
  obtain ⟨h_23, hF⟩ := zg_some hF
  refine z_ialdK (n := 14) a0.toNatClampNeg rfl dX1_forgive_13 rfl hk_22 (zin_ok h_23) ?_
  obtain ⟨v2_24, e_25, hF⟩ := zlet_ob hF
  refine z_istore_nE (n := 15) (lv' := [(2, .int v2_24), (0, .ref o0), (1, .int a0)]) dX1_forgive_14 rfl e_25 rfl (by decide) rfl ?_
  refine z_aload_n (n := 16) dX1_forgive_15 rfl 1 rfl rfl ?_
  refine z_iload_n (n := 17) dX1_forgive_16 rfl 0 rfl rfl ?_
  obtain ⟨k_27, e_28, hF⟩ := zlet_ob hF
  have H_29 : ∀ (w_26 : Int32) (cc : Nat × Nat), k_27 w_26 = some (cc, r) → zW l G MX1_forgive 10 241 (cc.1 + 0) (cc.2 + 0) 25 [(0, .ref o0), (1, .int a0), (2, .int v2_24)] [.int w_26, .ref o0] (hK h_7) (jF h_7) (hI h_7) (hL h_7) (zQe (zoi r.1) (hK r.2) (jF r.2) (hI r.2) (hL r.2)) := by
    intro w_26 cc hF
    subst e_28
    dsimp only at hF
    obtain ⟨c_33, t_34, c_30, hF⟩ := zc1_some hF
    obtain ⟨x_31, h_32⟩ := t_34
    dsimp only [zn2] at hF
    obtain ⟨cc, hF, hcc⟩ := zpay_some hF
    refine z_payE hcc ?_
    refine z_cV (n := 28) (mc2 := (cc.1 + 0)) (ms2 := (cc.2 + 0)) (st := []) (C_X1_does htr c_30) dX1_forgive_25 rfl (lw_V q789 q791 qs5 q105 q792) hcee_X1_does rfl (by decide) hk_12 rfl rfl rfl (Nat.le_of_ble_eq_true rfl) (Nat.le_of_eq (Nat.add_comm _ _)) (Nat.le_of_eq (Nat.add_comm _ _)) ?_
    refine z_if_ne (n := 31) (t := 33) dX1_forgive_28 rfl (by decide) (fun hc => ?_) (fun hc => ?_)
    · replace hF := (if_pos hc).symm.trans hF
      refine z_aload_n (n := 34) dX1_forgive_33 rfl 0 rfl rfl ?_
      obtain ⟨n_35, hk_36, hF⟩ := zka_some hF
      obtain ⟨o_37, hr_38, hF⟩ := zb1_some hF
      refine z_getRS (n := 37) dX1_forgive_34 rfl zok0 fX1_30_0 rfl hk_36 (Or.inl (zbig hb_13)) hr_38 ?_
      obtain ⟨n_39, hk_40, hF⟩ := zka_some hF
      obtain ⟨hb_41, hF⟩ := zg_some hF
      obtain ⟨o_42, hr_43, hF⟩ := zb1_some hF
      refine z_getRS (n := 40) dX1_forgive_37 rfl zok5 fX1_209_5 rfl hk_40 (Or.inl (zbig hb_41)) hr_43 ?_
      refine z_iload_n (n := 41) dX1_forgive_40 rfl 1 rfl rfl ?_
      refine z_iconst (n := 42) (v := 0) dX1_forgive_41 rfl (by decide) ?_
      obtain ⟨n_44, hk_45, hF⟩ := zka_some hF
      obtain ⟨h_46, hF⟩ := zg_some hF
      obtain ⟨hb_47, hF⟩ := zg_some hF
      obtain ⟨h_48, e_49, hF⟩ := zlet_ob hF
      refine z_iastK (n := 43) a0.toNatClampNeg rfl dX1_forgive_42 rfl hk_45 (zbig hb_47) (zin_ok h_46) rfl ?_
      refine z_toI e_49 ?_
      refine z_iload_n (n := 44) dX1_forgive_43 rfl 2 rfl rfl ?_
      obtain ⟨rfl, rfl⟩ := zpair hF
      exact z_iret dX1_forgive_44 rfl rfl ⟨rfl, rfl, rfl, rfl, rfl⟩
    · replace hF := (if_neg hc).symm.trans hF
      refine z_iconst (n := 32) (v := (-1)) dX1_forgive_31 rfl (by decide) ?_
      obtain ⟨rfl, rfl⟩ := zpair hF
      exact z_iret dX1_forgive_32 rfl rfl ⟨rfl, rfl, rfl, rfl, rfl⟩
  clear e_28
  refine z_if_le (n := 20) (t := 24) dX1_forgive_17 rfl (by decide) (fun hc => ?_) (fun hc => ?_)
  · replace hF := (if_pos hc).symm.trans hF
    refine z_iconst (n := 25) (v := 0) dX1_forgive_24 rfl (by decide) ?_
    refine z_sub [1, 2, 0] rfl ?_
    exact H_29 0 _ hF
  · replace hF := (if_neg hc).symm.trans hF
    refine z_iconst (n := 21) (v := 1) dX1_forgive_20 rfl (by decide) ?_
    refine z_goto (t := 25) dX1_forgive_21 (by decide) ?_
    refine z_sub [1, 2, 0] rfl ?_
    exact H_29 1 _ hF
abbrev MX1_fortAt : zM := (RX1, cX1_fortAt, 2, (some .int), "fortAt", [])
noncomputable def F_X1_fortAt (K : zKd) (F : zFd) (o0 : Nat) (a0 : Int32) (I : zId) : Option ((Int32 ⊕ (String × Nat)) × zId) := zlet (fun (w_1 : Int32) => zb2 (F_X1_there K F w_1 I) (fun s_6 I_7 => zsum s_6 (fun x_9 => zka K o0 0 (fun n_11 => zg (decide (600 ≤ o0)) (zb1 (F o0 0) (fun o_14 => zka K o_14 1 (fun n_16 => zg (decide (600 ≤ o_14)) (zb1 (F o_14 6) (fun o_19 => zka K o_19 2 (fun n_21 => zb1 (F_J2_get K F o_19 a0 I_7) (fun q_24 => zb1 q_24 (fun o_25 => zka K o_25 17 (fun n_27 => zb1 (F_J17_intValue K F o_25 I_7) (fun x_30 => some (.inl x_30, I_7))))))))))))) (fun w_10 => some (.inr w_10, I_7)))) (fun k_2 => if a0 < 0 then k_2 0 else zka K o0 0 (fun n_31 => zg (decide (600 ≤ o0)) (zb1 (F o0 0) (fun o_34 => zka K o_34 1 (fun n_36 => zg (decide (600 ≤ o_34)) (zb1 (F o_34 6) (fun o_39 => zka K o_39 2 (fun n_41 => zb1 (F_J2_size K F o_39 I) (fun x_44 => if x_44 ≤ a0 then k_2 0 else k_2 1)))))))))
set_option maxHeartbeats 1000000 in
theorem C_X1_fortAt {l : Launch} {G : zGt} (htr : l.stackTraces = false) {K : zKd} {F : zFd} {L : zLd} {o0 : Nat} {a0 : Int32} {I : zId} {r : (Int32 ⊕ (String × Nat)) × zId} (hF : F_X1_fortAt K F o0 a0 I = some r) : zMet l G yX1_fortAt (ws_ yX1_fortAt cX1_fortAt 2 (some .int)) 9 220 (zxc r.1) (zxs r.1) [.ref o0, .int a0] K F I L (zQe (zoi r.1) K F r.2 L) := by
  refine zMet.of (by decide +kernel) htr (Nat.le_of_ble_eq_true rfl) ?_
  change zW l G MX1_fortAt 9 220 (zxc r.1) (zxs r.1) 0 [(0, .ref o0), (1, .int a0)] [] K F I L (zQe (zoi r.1) K F r.2 L)
  unfold F_X1_fortAt at hF
  refine z_iload_n (n := 1) dX1_fortAt_0 rfl 1 rfl rfl ?_
  obtain ⟨k_2, e_3, hF⟩ := zlet_ob hF
  have H_4 : ∀ (w_1 : Int32), k_2 w_1 = some r → zW l G MX1_fortAt 9 220 (zxc r.1) (zxs r.1) 23 [(0, .ref o0), (1, .int a0)] [.int w_1] K F I L (zQe (zoi r.1) K F r.2 L) := by
    intro w_1 hF
    subst e_3
    dsimp only at hF
    obtain ⟨s_6, I_7, c_5, hF⟩ := zb2_some hF
    rcases zsum_some hF with ⟨x_9, e_8, hF⟩ | ⟨w_10, e_8, hF⟩
    rotate_left
    · first | rw [e_8] at c_5 ⊢ | rw [e_8] at c_5
      have hF := Option.some.inj hF; subst hF
      refine z_cSx (n := 26) (mc2 := 0) (ms2 := 0) (st := []) (C_X1_there htr c_5) dX1_fortAt_23 rfl (lw_S q1367 q1368 q105 q1369) hcee_X1_there rfl (by decide) rfl (Nat.le_of_ble_eq_true rfl) (Nat.le_refl _) (Nat.le_refl _) ?_
      exact z_out rfl ⟨rfl, rfl, rfl, rfl, rfl⟩
    first | rw [e_8] at c_5 ⊢ | rw [e_8] at c_5
    refine z_cS (n := 26) (st := []) (C_X1_there htr c_5) dX1_fortAt_23 rfl (lw_S q1367 q1368 q105 q1369) hcee_X1_there rfl (by decide) rfl (Nat.le_of_ble_eq_true rfl) (Nat.le_refl _) (Nat.le_refl _) ?_
    refine z_aload_n (n := 27) dX1_fortAt_26 rfl 0 rfl rfl ?_
    obtain ⟨n_11, hk_12, hF⟩ := zka_some hF
    obtain ⟨hb_13, hF⟩ := zg_some hF
    obtain ⟨o_14, hr_15, hF⟩ := zb1_some hF
    refine z_getRS (n := 30) dX1_fortAt_27 rfl zok0 fX1_10_0 rfl hk_12 (Or.inl (zbig hb_13)) hr_15 ?_
    obtain ⟨n_16, hk_17, hF⟩ := zka_some hF
    obtain ⟨hb_18, hF⟩ := zg_some hF
    obtain ⟨o_19, hr_20, hF⟩ := zb1_some hF
    refine z_getRS (n := 33) dX1_fortAt_30 rfl zok1 fX1_85_1 rfl hk_17 (Or.inl (zbig hb_18)) hr_20 ?_
    refine z_iload_n (n := 34) dX1_fortAt_33 rfl 1 rfl rfl ?_
    obtain ⟨n_21, hk_22, hF⟩ := zka_some hF
    obtain ⟨q_24, c_23, hF⟩ := zb1_some hF
    refine z_cV (n := 37) (st := []) (C_J2_get htr c_23) dX1_fortAt_34 rfl (lw_V q917 q813 q814 q109 q815) hcee_J2_get rfl (by decide) hk_22 rfl rfl rfl (Nat.le_of_ble_eq_true rfl) (Nat.le_refl _) (Nat.le_refl _) ?_
    obtain ⟨o_25, hr_26, hF⟩ := zb1_some hF
    rw [hr_26]
    obtain ⟨n_27, hk_28, hF⟩ := zka_some hF
    refine z_castS (n := 40) dX1_fortAt_37 rfl hk_28 rfl q1554 rfl ?_
    obtain ⟨x_30, c_29, hF⟩ := zb1_some hF
    refine z_cV (n := 43) (st := []) (C_J17_intValue htr c_29) dX1_fortAt_40 rfl (lw_V q1555 q1190 q1191 q125 q1192) hcee_J17_intValue rfl (by decide) hk_28 rfl rfl rfl (Nat.le_of_ble_eq_true rfl) (Nat.le_refl _) (Nat.le_refl _) ?_
    have hF := Option.some.inj hF; subst hF
    exact z_iret dX1_fortAt_43 rfl rfl ⟨rfl, rfl, rfl, rfl, rfl⟩
  clear e_3
  refine z_if_lt (n := 4) (t := 22) dX1_fortAt_1 rfl (by decide) (fun hc => ?_) (fun hc => ?_)
  · replace hF := (if_pos hc).symm.trans hF
    refine z_iconst (n := 23) (v := 0) dX1_fortAt_22 rfl (by decide) ?_
    exact H_4 0 hF
  · replace hF := (if_neg hc).symm.trans hF
    refine z_iload_n (n := 5) dX1_fortAt_4 rfl 1 rfl rfl ?_
    refine z_aload_n (n := 6) dX1_fortAt_5 rfl 0 rfl rfl ?_
    obtain ⟨n_31, hk_32, hF⟩ := zka_some hF
    obtain ⟨hb_33, hF⟩ := zg_some hF
    obtain ⟨o_34, hr_35, hF⟩ := zb1_some hF
    refine z_getRS (n := 9) dX1_fortAt_6 rfl zok0 fX1_10_0 rfl hk_32 (Or.inl (zbig hb_33)) hr_35 ?_
    obtain ⟨n_36, hk_37, hF⟩ := zka_some hF
    obtain ⟨hb_38, hF⟩ := zg_some hF
    obtain ⟨o_39, hr_40, hF⟩ := zb1_some hF
    refine z_getRS (n := 12) dX1_fortAt_9 rfl zok1 fX1_85_1 rfl hk_37 (Or.inl (zbig hb_38)) hr_40 ?_
    obtain ⟨n_41, hk_42, hF⟩ := zka_some hF
    obtain ⟨x_44, c_43, hF⟩ := zb1_some hF
    refine z_cV (n := 15) (st := [.int a0]) (C_J2_size htr c_43) dX1_fortAt_12 rfl (lw_V q927 q834 q835 q109 q836) hcee_J2_size rfl (by decide) hk_42 rfl rfl rfl (Nat.le_of_ble_eq_true rfl) (Nat.le_refl _) (Nat.le_refl _) ?_
    refine z_icmp_ge (n := 18) (t := 22) dX1_fortAt_15 rfl (by decide) (fun hc => ?_) (fun hc => ?_)
    · replace hF := (if_pos hc).symm.trans hF
      refine z_iconst (n := 23) (v := 0) dX1_fortAt_22 rfl (by decide) ?_
      exact H_4 0 hF
    · replace hF := (if_neg hc).symm.trans hF
      refine z_iconst (n := 19) (v := 1) dX1_fortAt_18 rfl (by decide) ?_
      refine z_goto (t := 23) dX1_fortAt_19 (by decide) ?_
      exact H_4 1 hF
abbrev MX1_gains : zM := (RX1, cX1_gains, 7, (some .int), "gains", [])
noncomputable def F_X1_gains (K : zKd) (F : zFd) (o0 : Nat) (a0 : Int32) (a1 : Int32) (a2 : Int32) (a3 : Int32) (I : zId) : Option (Int32) := zka K o0 0 (fun n_1 => zg (decide (600 ≤ o0)) (zb1 (F o0 0) (fun o_4 => zb1 (F o0 3) (fun o_6 => zka K o_6 5 (fun n_8 => zg (decide (600 ≤ o_6)) (zb1 (F o_6 4) (fun o_11 => zka K o_11 64 (fun n_13 => zg (zin a1 n_13) (zka K o_4 1 (fun n_16 => zb1 (F_X2_far K F o_4 a0 (I o_11 a1.toNatClampNeg) I) (fun x_19 => zlet (fun (w_20 : Int32) => if 100000 ≤ x_19 then some 0 else if x_19 ≤ w_20 then if ¬ w_20 = x_19 then zb1 (F o0 3) (fun o_24 => zka K o_24 5 (fun n_26 => zg (decide (600 ≤ o_24)) (zb1 (F o_24 6) (fun o_29 => zka K o_29 64 (fun n_31 => zg (zin a1 n_31) (some (I o_29 a1.toNatClampNeg))))))) else zb1 (F o0 3) (fun o_34 => zka K o_34 5 (fun n_36 => zg (decide (600 ≤ o_34)) (zb1 (F o_34 6) (fun o_39 => zka K o_39 64 (fun n_41 => zg (zin a1 n_41) (some ((I o_39 a1.toNatClampNeg) / 2))))))) else some 0) (fun k_21 => if ¬ a3 = a1 then k_21 100000 else zb1 (F o0 0) (fun o_44 => zb1 (F o0 3) (fun o_46 => zka K o_46 5 (fun n_48 => zg (decide (600 ≤ o_46)) (zb1 (F o_46 4) (fun o_51 => zka K o_51 64 (fun n_53 => zg (zin a1 n_53) (zka K o_44 1 (fun n_56 => zb1 (F_X2_far K F o_44 a2 (I o_51 a1.toNatClampNeg) I) (fun x_59 => k_21 x_59)))))))))))))))))))))
set_option maxHeartbeats 1000000 in
theorem C_X1_gains {l : Launch} {G : zGt} (htr : l.stackTraces = false) {K : zKd} {F : zFd} {L : zLd} {o0 : Nat} {a0 : Int32} {a1 : Int32} {a2 : Int32} {a3 : Int32} {I : zId} {r : Int32} (hF : F_X1_gains K F o0 a0 a1 a2 a3 I = some r) : zMet l G yX1_gains (ws_ yX1_gains cX1_gains 7 (some .int)) 1 22 0 0 [.ref o0, .int a0, .int a1, .int a2, .int a3] K F I L (zQe (.inl (some (.int r))) K F I L) := by
  refine zMet.of (by decide +kernel) htr (Nat.le_of_ble_eq_true rfl) ?_
  change zW l G MX1_gains 1 22 0 0 0 [(0, .ref o0), (1, .int a0), (2, .int a1), (3, .int a2), (4, .int a3)] [] K F I L (zQe (.inl (some (.int r))) K F I L)
  unfold F_X1_gains at hF
  refine z_aload_n (n := 1) dX1_gains_0 rfl 0 rfl rfl ?_
  obtain ⟨n_1, hk_2, hF⟩ := zka_some hF
  obtain ⟨hb_3, hF⟩ := zg_some hF
  obtain ⟨o_4, hr_5, hF⟩ := zb1_some hF
  refine z_getRS (n := 4) dX1_gains_1 rfl zok0 fX1_10_0 rfl hk_2 (Or.inl (zbig hb_3)) hr_5 ?_
  refine z_iload_n (n := 5) dX1_gains_4 rfl 1 rfl rfl ?_
  refine z_aload_n (n := 6) dX1_gains_5 rfl 0 rfl rfl ?_
  obtain ⟨o_6, hr_7, hF⟩ := zb1_some hF
  refine z_getRS (n := 9) dX1_gains_6 rfl zok0 fX1_30_0 rfl hk_2 (Or.inl (zbig hb_3)) hr_7 ?_
  obtain ⟨n_8, hk_9, hF⟩ := zka_some hF
  obtain ⟨hb_10, hF⟩ := zg_some hF
  obtain ⟨o_11, hr_12, hF⟩ := zb1_some hF
  refine z_getRS (n := 12) dX1_gains_9 rfl zok5 fX1_165_5 rfl hk_9 (Or.inl (zbig hb_10)) hr_12 ?_
  refine z_iload_n (n := 13) dX1_gains_12 rfl 2 rfl rfl ?_
  obtain ⟨n_13, hk_14, hF⟩ := zka_some hF
  obtain ⟨h_15, hF⟩ := zg_some hF
  refine z_ialdK (n := 14) a1.toNatClampNeg rfl dX1_gains_13 rfl hk_14 (zin_ok h_15) ?_
  obtain ⟨n_16, hk_17, hF⟩ := zka_some hF
  obtain ⟨x_19, c_18, hF⟩ := zb1_some hF
  refine z_cV (n := 17) (st := []) (C_X2_far htr c_18) dX1_gains_14 rfl (lw_V q1538 q1350 q1351 q106 q1352) hcee_X2_far rfl (by decide) hk_17 rfl rfl rfl (Nat.le_of_ble_eq_true rfl) (Nat.le_refl _) (Nat.le_refl _) ?_
  refine z_istoreE (n := 19) (lv' := [(5, .int x_19), (0, .ref o0), (1, .int a0), (2, .int a1), (3, .int a2), (4, .int a3)]) dX1_gains_17 rfl rfl (by decide) rfl ?_
  refine z_iload (n := 21) dX1_gains_19 rfl 5 rfl ?_
  refine z_iload_n (n := 22) dX1_gains_21 rfl 3 rfl rfl ?_
  obtain ⟨k_21, e_22, hF⟩ := zlet_ob hF
  have H_23 : ∀ (w_20 : Int32), k_21 w_20 = some r → zW l G MX1_gains 1 22 0 0 48 [(0, .ref o0), (2, .int a1), (5, .int x_19)] [.int w_20] K F I L (zQe (.inl (some (.int r))) K F I L) := by
    intro w_20 hF
    subst e_22
    dsimp only at hF
    refine z_istoreE (n := 50) (lv' := [(6, .int w_20), (0, .ref o0), (2, .int a1), (5, .int x_19)]) dX1_gains_48 rfl rfl (by decide) rfl ?_
    refine z_iload (n := 52) dX1_gains_50 rfl 3 rfl ?_
    refine z_ldcw (n := 55) dX1_gains_52 rfl q1542 ?_
    refine z_icmp_ge (n := 58) (t := 65) dX1_gains_55 rfl (by decide) (fun hc => ?_) (fun hc => ?_)
    · replace hF := (if_pos hc).symm.trans hF
      refine z_iconst (n := 66) (v := 0) dX1_gains_65 rfl (by decide) ?_
      have hF := Option.some.inj hF; subst hF
      exact z_iret dX1_gains_66 rfl rfl ⟨rfl, rfl, rfl, rfl, rfl⟩
    · replace hF := (if_neg hc).symm.trans hF
      refine z_iload (n := 60) dX1_gains_58 rfl 0 rfl ?_
      refine z_iload (n := 62) dX1_gains_60 rfl 3 rfl ?_
      refine z_icmp_ge (n := 65) (t := 67) dX1_gains_62 rfl (by decide) (fun hc => ?_) (fun hc => ?_)
      · replace hF := (if_pos hc).symm.trans hF
        refine z_iload (n := 69) dX1_gains_67 rfl 0 rfl ?_
        refine z_iload (n := 71) dX1_gains_69 rfl 3 rfl ?_
        refine z_icmp_ne (n := 74) (t := 88) dX1_gains_71 rfl (by decide) (fun hc => ?_) (fun hc => ?_)
        · replace hF := (if_pos hc).symm.trans hF
          refine z_aload_n (n := 89) dX1_gains_88 rfl 1 rfl rfl ?_
          obtain ⟨o_24, hr_25, hF⟩ := zb1_some hF
          refine z_getRS (n := 92) dX1_gains_89 rfl zok0 fX1_30_0 rfl hk_2 (Or.inl (zbig hb_3)) hr_25 ?_
          obtain ⟨n_26, hk_27, hF⟩ := zka_some hF
          obtain ⟨hb_28, hF⟩ := zg_some hF
          obtain ⟨o_29, hr_30, hF⟩ := zb1_some hF
          refine z_getRS (n := 95) dX1_gains_92 rfl zok5 fX1_206_5 rfl hk_27 (Or.inl (zbig hb_28)) hr_30 ?_
          refine z_iload_n (n := 96) dX1_gains_95 rfl 2 rfl rfl ?_
          obtain ⟨n_31, hk_32, hF⟩ := zka_some hF
          obtain ⟨h_33, hF⟩ := zg_some hF
          refine z_ialdK (n := 97) a1.toNatClampNeg rfl dX1_gains_96 rfl hk_32 (zin_ok h_33) ?_
          have hF := Option.some.inj hF; subst hF
          exact z_iret dX1_gains_97 rfl rfl ⟨rfl, rfl, rfl, rfl, rfl⟩
        · replace hF := (if_neg hc).symm.trans hF
          refine z_aload_n (n := 75) dX1_gains_74 rfl 1 rfl rfl ?_
          obtain ⟨o_34, hr_35, hF⟩ := zb1_some hF
          refine z_getRS (n := 78) dX1_gains_75 rfl zok0 fX1_30_0 rfl hk_2 (Or.inl (zbig hb_3)) hr_35 ?_
          obtain ⟨n_36, hk_37, hF⟩ := zka_some hF
          obtain ⟨hb_38, hF⟩ := zg_some hF
          obtain ⟨o_39, hr_40, hF⟩ := zb1_some hF
          refine z_getRS (n := 81) dX1_gains_78 rfl zok5 fX1_206_5 rfl hk_37 (Or.inl (zbig hb_38)) hr_40 ?_
          refine z_iload_n (n := 82) dX1_gains_81 rfl 2 rfl rfl ?_
          obtain ⟨n_41, hk_42, hF⟩ := zka_some hF
          obtain ⟨h_43, hF⟩ := zg_some hF
          refine z_ialdK (n := 83) a1.toNatClampNeg rfl dX1_gains_82 rfl hk_42 (zin_ok h_43) ?_
          refine z_iconst (n := 84) (v := 2) dX1_gains_83 rfl (by decide) ?_
          refine z_idiv (n := 85) dX1_gains_84 rfl (by decide) ?_
          refine z_goto (t := 97) dX1_gains_85 (by decide) ?_
          have hF := Option.some.inj hF; subst hF
          exact z_iret dX1_gains_97 rfl rfl ⟨rfl, rfl, rfl, rfl, rfl⟩
      · replace hF := (if_neg hc).symm.trans hF
        refine z_iconst (n := 66) (v := 0) dX1_gains_65 rfl (by decide) ?_
        have hF := Option.some.inj hF; subst hF
        exact z_iret dX1_gains_66 rfl rfl ⟨rfl, rfl, rfl, rfl, rfl⟩
  clear e_22
  refine z_icmp_ne (n := 25) (t := 45) dX1_gains_22 rfl (by decide) (fun hc => ?_) (fun hc => ?_)
  · replace hF := (if_pos hc).symm.trans hF
    refine z_ldcw (n := 48) dX1_gains_45 rfl q1542 ?_
    refine z_sub [1, 3, 0] rfl ?_
    exact H_23 100000 hF
  · replace hF := (if_neg hc).symm.trans hF
    refine z_aload_n (n := 26) dX1_gains_25 rfl 1 rfl rfl ?_
    obtain ⟨o_44, hr_45, hF⟩ := zb1_some hF
    refine z_getRS (n := 29) dX1_gains_26 rfl zok0 fX1_10_0 rfl hk_2 (Or.inl (zbig hb_3)) hr_45 ?_
    refine z_iload_n (n := 30) dX1_gains_29 rfl 4 rfl rfl ?_
    refine z_aload_n (n := 31) dX1_gains_30 rfl 1 rfl rfl ?_
    obtain ⟨o_46, hr_47, hF⟩ := zb1_some hF
    refine z_getRS (n := 34) dX1_gains_31 rfl zok0 fX1_30_0 rfl hk_2 (Or.inl (zbig hb_3)) hr_47 ?_
    obtain ⟨n_48, hk_49, hF⟩ := zka_some hF
    obtain ⟨hb_50, hF⟩ := zg_some hF
    obtain ⟨o_51, hr_52, hF⟩ := zb1_some hF
    refine z_getRS (n := 37) dX1_gains_34 rfl zok5 fX1_165_5 rfl hk_49 (Or.inl (zbig hb_50)) hr_52 ?_
    refine z_iload_n (n := 38) dX1_gains_37 rfl 3 rfl rfl ?_
    obtain ⟨n_53, hk_54, hF⟩ := zka_some hF
    obtain ⟨h_55, hF⟩ := zg_some hF
    refine z_ialdK (n := 39) a1.toNatClampNeg rfl dX1_gains_38 rfl hk_54 (zin_ok h_55) ?_
    obtain ⟨n_56, hk_57, hF⟩ := zka_some hF
    obtain ⟨x_59, c_58, hF⟩ := zb1_some hF
    refine z_cV (n := 42) (st := []) (C_X2_far htr c_58) dX1_gains_39 rfl (lw_V q1538 q1350 q1351 q106 q1352) hcee_X2_far rfl (by decide) hk_57 rfl rfl rfl (Nat.le_of_ble_eq_true rfl) (Nat.le_refl _) (Nat.le_refl _) ?_
    refine z_goto (t := 48) dX1_gains_42 (by decide) ?_
    refine z_sub [1, 3, 0] rfl ?_
    exact H_23 x_59 hF
theorem hcee_X1_fortAt : zCee yX1_fortAt RX1 1 := ⟨rfl, by decide +kernel, by decide +kernel, by decide +kernel⟩
theorem hcee_X1_gains : zCee yX1_gains RX1 4 := ⟨rfl, by decide +kernel, by decide +kernel, by decide +kernel⟩
abbrev MX1_game : zM := (RX1, cX1_game, 13, (some .int), "game", [])
noncomputable def F_X1_game_L63 (K : zKd) (F : zFd) (o0 : Nat) (a2 : Int32) (a3 : Int32) (x_7 : Int32) (x_13 : Int32) (I_41 : zId) (v8_45 : Int32) (v9_46 : Int32) (v10_47 : Int32) : Option ((Int32 × Int32 × Int32) ⊕ (Int32 × Int32)) := if 4 ≤ v10_47 then some (.inr ((v8_45, v9_46))) else zlet (fun (w_48 : Int32) => zlet (fun (w_52 : Int32) => zka K o0 0 (fun n_56 => zb1 (F_X1_gains K F o0 x_7 ((a2 + a3) - w_48) x_13 w_52 I_41) (fun x_59 => zb1 (F_X1_gains K F o0 x_7 w_48 x_13 w_52 I_41) (fun x_61 => if x_61 < x_59 then zlet (v10_47 + 1) (fun v10_62 => some (.inl (v8_45, v9_46, v10_62))) else zb1 (F_X1_gains K F o0 x_13 ((a2 + a3) - w_52) x_7 w_48 I_41) (fun x_65 => zb1 (F_X1_gains K F o0 x_13 w_52 x_7 w_48 I_41) (fun x_67 => if x_65 ≤ x_67 then zlet (v8_45 + 1) (fun v8_68 => if ¬ v9_46 = (-1) then zlet (v10_47 + 1) (fun v10_70 => some (.inl (v8_68, v9_46, v10_70))) else zlet (((v10_47 / 2) * 10) + (v10_47 - v10_47 / 2 * 2)) (fun v9_72 => zlet (v10_47 + 1) (fun v10_74 => some (.inl (v8_68, v9_72, v10_74))))) else zlet (v10_47 + 1) (fun v10_76 => some (.inl (v8_45, v9_46, v10_76))))))))) (fun k_53 => if ¬ (v10_47 - v10_47 / 2 * 2) = 0 then k_53 a3 else k_53 a2)) (fun k_49 => if ¬ (v10_47 / 2) = 0 then k_49 a3 else k_49 a2)
noncomputable def F_X1_game (K : zKd) (F : zFd) (o0 : Nat) (a0 : Int32) (a1 : Int32) (a2 : Int32) (a3 : Int32) (a4 : Int32) (I : zId) : Option ((Int32 ⊕ (String × Nat)) × zId) := zka K o0 0 (fun n_1 => zb2 (F_X1_fortAt K F o0 a0 I) (fun s_4 I_5 => zsum s_4 (fun x_7 => zb2 (F_X1_fortAt K F o0 a1 I_5) (fun s_10 I_11 => zsum s_10 (fun x_13 => zb2 (F_X1_bandAt K F o0 a2 I_11) (fun s_16 I_17 => zsum s_16 (fun x_19 => zb2 (F_X1_bandAt K F o0 a3 I_17) (fun s_22 I_23 => zsum s_22 (fun x_25 => zb1 (F_X1_within K F a4 0 1 I_23) (fun x_28 => zb2 (F_X1_there K F x_28 I_23) (fun s_30 I_31 => zsum s_30 (fun x_33 => zlet (fun (w_35 : Int32) => zb2 (F_X1_right K F w_35 I_31) (fun s_40 I_41 => zsum s_40 (fun x_43 => zb1 (zloop (fun s : Int32 × Int32 × Int32 => F_X1_game_L63 K F o0 a2 a3 x_7 x_13 I_41 s.1 s.2.1 s.2.2) (0, (-1), 0)) (zn2 (fun v8_78 v9_79 => if ¬ a4 = 0 then some (.inl v9_79, I_41) else some (.inl v8_78, I_41)))) (fun w_44 => some (.inr w_44, I_41)))) (fun k_36 => if a0 = a1 then k_36 0 else if a2 = a3 then k_36 0 else k_36 1)) (fun w_34 => some (.inr w_34, I_31))))) (fun w_26 => some (.inr w_26, I_23)))) (fun w_20 => some (.inr w_20, I_17)))) (fun w_14 => some (.inr w_14, I_11)))) (fun w_8 => some (.inr w_8, I_5))))
set_option maxHeartbeats 1000000 in
theorem W_X1_game_L63 {l : Launch} {G : zGt} (htr : l.stackTraces = false) {K : zKd} {F : zFd} {L : zLd} {Q : zQt} {mE wE : Nat} {o0 : Nat} {a2 : Int32} {a3 : Int32} {a4 : Int32} {x_7 : Int32} {x_13 : Int32} {I_41 : zId} {a0 : Int32} {a1 : Int32} {v8_45 : Int32} {v9_46 : Int32} {v10_47 : Int32} {r : (Int32 × Int32 × Int32) ⊕ (Int32 × Int32)} (hF : F_X1_game_L63 K F o0 a2 a3 x_7 x_13 I_41 v8_45 v9_46 v10_47 = some r) (kl : ∀ (z0 : Int32) (z1 : Int32) (z2 : Int32), r = .inl (z0, z1, z2) → zW l G MX1_game 10 241 mE wE 63 [(0, .ref o0), (3, .int a2), (4, .int a3), (5, .int a4), (6, .int x_7), (7, .int x_13), (8, .int z0), (9, .int z1), (10, .int z2)] [] K F I_41 L Q) (kx : ∀ (y0 : Int32) (y1 : Int32), r = .inr (y0, y1) → zW l G MX1_game 10 241 mE wE 195 [(5, .int a4), (8, .int y0), (9, .int y1)] [] K F I_41 L Q)  : zW l G MX1_game 10 241 mE wE 63 [(0, .ref o0), (3, .int a2), (4, .int a3), (5, .int a4), (6, .int x_7), (7, .int x_13), (8, .int v8_45), (9, .int v9_46), (10, .int v10_47)] [] K F I_41 L Q := by
  unfold F_X1_game_L63 at hF
  refine z_iload (n := 65) dX1_game_63 rfl 8 rfl ?_
  refine z_iconst (n := 66) (v := 4) dX1_game_65 rfl (by decide) ?_
  refine z_icmp_ge (n := 69) (t := 195) dX1_game_66 rfl (by decide) (fun hc => ?_) (fun hc => ?_)
  · replace hF := (if_pos hc).symm.trans hF
    refine z_sub [3, 6, 7] rfl ?_
    have hF := Option.some.inj hF; subst hF
    exact kx v8_45 v9_46 rfl
  · replace hF := (if_neg hc).symm.trans hF
    refine z_iload (n := 71) dX1_game_69 rfl 8 rfl ?_
    refine z_iconst (n := 72) (v := 2) dX1_game_71 rfl (by decide) ?_
    refine z_idiv (n := 73) dX1_game_72 rfl (by decide) ?_
    obtain ⟨k_49, e_50, hF⟩ := zlet_ob hF
    have H_51 : ∀ (w_48 : Int32), k_49 w_48 = some r → zW l G MX1_game 10 241 mE wE 82 [(0, .ref o0), (3, .int a2), (4, .int a3), (5, .int a4), (6, .int x_7), (7, .int x_13), (8, .int v8_45), (9, .int v9_46), (10, .int v10_47)] [.int w_48] K F I_41 L Q := by
      intro w_48 hF
      subst e_50
      dsimp only at hF
      refine z_istoreE (n := 84) (lv' := [(11, .int w_48), (0, .ref o0), (3, .int a2), (4, .int a3), (5, .int a4), (6, .int x_7), (7, .int x_13), (8, .int v8_45), (9, .int v9_46), (10, .int v10_47)]) dX1_game_82 rfl rfl (by decide) rfl ?_
      refine z_iload (n := 86) dX1_game_84 rfl 9 rfl ?_
      refine z_iconst (n := 87) (v := 2) dX1_game_86 rfl (by decide) ?_
      refine z_irem (n := 88) dX1_game_87 rfl (by decide) ?_
      obtain ⟨k_53, e_54, hF⟩ := zlet_ob hF
      have H_55 : ∀ (w_52 : Int32), k_53 w_52 = some r → zW l G MX1_game 10 241 mE wE 97 [(0, .ref o0), (3, .int a2), (4, .int a3), (5, .int a4), (6, .int x_7), (7, .int x_13), (8, .int v8_45), (9, .int v9_46), (10, .int v10_47), (11, .int w_48)] [.int w_52] K F I_41 L Q := by
        intro w_52 hF
        subst e_54
        dsimp only at hF
        refine z_istoreE (n := 99) (lv' := [(12, .int w_52), (0, .ref o0), (3, .int a2), (4, .int a3), (5, .int a4), (6, .int x_7), (7, .int x_13), (8, .int v8_45), (9, .int v9_46), (10, .int v10_47), (11, .int w_48)]) dX1_game_97 rfl rfl (by decide) rfl ?_
        refine z_aload_n (n := 100) dX1_game_99 rfl 1 rfl rfl ?_
        refine z_iload (n := 102) dX1_game_100 rfl 5 rfl ?_
        refine z_iload_n (n := 103) dX1_game_102 rfl 2 rfl rfl ?_
        refine z_iload (n := 105) dX1_game_103 rfl 3 rfl ?_
        refine z_iadd (n := 106) dX1_game_105 rfl ?_
        refine z_iload (n := 108) dX1_game_106 rfl 10 rfl ?_
        refine z_isub (n := 109) dX1_game_108 rfl ?_
        refine z_iload (n := 111) dX1_game_109 rfl 6 rfl ?_
        refine z_iload (n := 113) dX1_game_111 rfl 0 rfl ?_
        obtain ⟨n_56, hk_57, hF⟩ := zka_some hF
        obtain ⟨x_59, c_58, hF⟩ := zb1_some hF
        refine z_cV (n := 116) (st := []) (C_X1_gains htr c_58) dX1_game_113 rfl (lw_V q1642 q1644 qs45 q105 q1645) hcee_X1_gains rfl (by decide) hk_57 rfl rfl rfl (Nat.le_of_ble_eq_true rfl) (Nat.le_refl _) (Nat.le_refl _) ?_
        refine z_aload_n (n := 117) dX1_game_116 rfl 1 rfl rfl ?_
        refine z_iload (n := 119) dX1_game_117 rfl 5 rfl ?_
        refine z_iload (n := 121) dX1_game_119 rfl 10 rfl ?_
        refine z_iload (n := 123) dX1_game_121 rfl 6 rfl ?_
        refine z_iload (n := 125) dX1_game_123 rfl 0 rfl ?_
        obtain ⟨x_61, c_60, hF⟩ := zb1_some hF
        refine z_cV (n := 128) (st := [.int x_59]) (C_X1_gains htr c_60) dX1_game_125 rfl (lw_V q1642 q1644 qs45 q105 q1645) hcee_X1_gains rfl (by decide) hk_57 rfl rfl rfl (Nat.le_of_ble_eq_true rfl) (Nat.le_refl _) (Nat.le_refl _) ?_
        refine z_icmp_gt (n := 131) (t := 189) dX1_game_128 rfl (by decide) (fun hc => ?_) (fun hc => ?_)
        · replace hF := (if_pos hc).symm.trans hF
          obtain ⟨v10_62, e_63, hF⟩ := zlet_ob hF
          refine z_iincE (n := 192) (w := 1) (v := v10_62) (lv' := [(10, .int v10_62), (12, .int w_52), (0, .ref o0), (3, .int a2), (4, .int a3), (5, .int a4), (6, .int x_7), (7, .int x_13), (8, .int v8_45), (9, .int v9_46), (11, .int w_48)]) dX1_game_189 rfl 9 rfl (by decide) e_63 (by decide) rfl ?_
          refine z_goto (t := 63) dX1_game_192 (by decide) ?_
          refine z_sub [2, 3, 4, 5, 6, 7, 8, 9, 0] rfl ?_
          have hF := Option.some.inj hF; subst hF
          exact kl v8_45 v9_46 v10_62 rfl
        · replace hF := (if_neg hc).symm.trans hF
          refine z_aload_n (n := 132) dX1_game_131 rfl 1 rfl rfl ?_
          refine z_iload (n := 134) dX1_game_132 rfl 6 rfl ?_
          refine z_iload_n (n := 135) dX1_game_134 rfl 2 rfl rfl ?_
          refine z_iload (n := 137) dX1_game_135 rfl 3 rfl ?_
          refine z_iadd (n := 138) dX1_game_137 rfl ?_
          refine z_iload (n := 140) dX1_game_138 rfl 0 rfl ?_
          refine z_isub (n := 141) dX1_game_140 rfl ?_
          refine z_iload (n := 143) dX1_game_141 rfl 5 rfl ?_
          refine z_iload (n := 145) dX1_game_143 rfl 10 rfl ?_
          obtain ⟨x_65, c_64, hF⟩ := zb1_some hF
          refine z_cV (n := 148) (st := []) (C_X1_gains htr c_64) dX1_game_145 rfl (lw_V q1642 q1644 qs45 q105 q1645) hcee_X1_gains rfl (by decide) hk_57 rfl rfl rfl (Nat.le_of_ble_eq_true rfl) (Nat.le_refl _) (Nat.le_refl _) ?_
          refine z_aload_n (n := 149) dX1_game_148 rfl 1 rfl rfl ?_
          refine z_iload (n := 151) dX1_game_149 rfl 6 rfl ?_
          refine z_iload (n := 153) dX1_game_151 rfl 0 rfl ?_
          refine z_iload (n := 155) dX1_game_153 rfl 5 rfl ?_
          refine z_iload (n := 157) dX1_game_155 rfl 10 rfl ?_
          obtain ⟨x_67, c_66, hF⟩ := zb1_some hF
          refine z_cV (n := 160) (st := [.int x_65]) (C_X1_gains htr c_66) dX1_game_157 rfl (lw_V q1642 q1644 qs45 q105 q1645) hcee_X1_gains rfl (by decide) hk_57 rfl rfl rfl (Nat.le_of_ble_eq_true rfl) (Nat.le_refl _) (Nat.le_refl _) ?_
          refine z_icmp_le (n := 163) (t := 166) dX1_game_160 rfl (by decide) (fun hc => ?_) (fun hc => ?_)
          · replace hF := (if_pos hc).symm.trans hF
            obtain ⟨v8_68, e_69, hF⟩ := zlet_ob hF
            refine z_iincE (n := 169) (w := 1) (v := v8_68) (lv' := [(8, .int v8_68), (12, .int w_52), (0, .ref o0), (3, .int a2), (4, .int a3), (5, .int a4), (6, .int x_7), (7, .int x_13), (9, .int v9_46), (10, .int v10_47), (11, .int w_48)]) dX1_game_166 rfl 7 rfl (by decide) e_69 (by decide) rfl ?_
            refine z_iload (n := 171) dX1_game_169 rfl 8 rfl ?_
            refine z_iconst (n := 172) (v := (-1)) dX1_game_171 rfl (by decide) ?_
            refine z_icmp_ne (n := 175) (t := 189) dX1_game_172 rfl (by decide) (fun hc => ?_) (fun hc => ?_)
            · replace hF := (if_pos hc).symm.trans hF
              obtain ⟨v10_70, e_71, hF⟩ := zlet_ob hF
              refine z_iincE (n := 192) (w := 1) (v := v10_70) (lv' := [(10, .int v10_70), (8, .int v8_68), (12, .int w_52), (0, .ref o0), (3, .int a2), (4, .int a3), (5, .int a4), (6, .int x_7), (7, .int x_13), (9, .int v9_46), (11, .int w_48)]) dX1_game_189 rfl 9 rfl (by decide) e_71 (by decide) rfl ?_
              refine z_goto (t := 63) dX1_game_192 (by decide) ?_
              refine z_sub [3, 4, 5, 6, 7, 8, 1, 9, 0] rfl ?_
              have hF := Option.some.inj hF; subst hF
              exact kl v8_68 v9_46 v10_70 rfl
            · replace hF := (if_neg hc).symm.trans hF
              refine z_iload (n := 177) dX1_game_175 rfl 9 rfl ?_
              refine z_iconst (n := 178) (v := 2) dX1_game_177 rfl (by decide) ?_
              refine z_idiv (n := 179) dX1_game_178 rfl (by decide) ?_
              refine z_bipush (n := 181) (v := 10) dX1_game_179 rfl (by decide) ?_
              refine z_imul (n := 182) dX1_game_181 rfl ?_
              refine z_iload (n := 184) dX1_game_182 rfl 9 rfl ?_
              refine z_iconst (n := 185) (v := 2) dX1_game_184 rfl (by decide) ?_
              refine z_irem (n := 186) dX1_game_185 rfl (by decide) ?_
              refine z_iadd (n := 187) dX1_game_186 rfl ?_
              obtain ⟨v9_72, e_73, hF⟩ := zlet_ob hF
              refine z_istoreE (n := 189) (lv' := [(9, .int v9_72), (8, .int v8_68), (12, .int w_52), (0, .ref o0), (3, .int a2), (4, .int a3), (5, .int a4), (6, .int x_7), (7, .int x_13), (10, .int v10_47), (11, .int w_48)]) dX1_game_187 rfl e_73 (by decide) rfl ?_
              obtain ⟨v10_74, e_75, hF⟩ := zlet_ob hF
              refine z_iincE (n := 192) (w := 1) (v := v10_74) (lv' := [(10, .int v10_74), (9, .int v9_72), (8, .int v8_68), (12, .int w_52), (0, .ref o0), (3, .int a2), (4, .int a3), (5, .int a4), (6, .int x_7), (7, .int x_13), (11, .int w_48)]) dX1_game_189 rfl 9 rfl (by decide) e_75 (by decide) rfl ?_
              refine z_goto (t := 63) dX1_game_192 (by decide) ?_
              refine z_sub [4, 5, 6, 7, 8, 9, 2, 1, 0] rfl ?_
              have hF := Option.some.inj hF; subst hF
              exact kl v8_68 v9_72 v10_74 rfl
          · replace hF := (if_neg hc).symm.trans hF
            refine z_goto (t := 189) dX1_game_163 (by decide) ?_
            obtain ⟨v10_76, e_77, hF⟩ := zlet_ob hF
            refine z_iincE (n := 192) (w := 1) (v := v10_76) (lv' := [(10, .int v10_76), (12, .int w_52), (0, .ref o0), (3, .int a2), (4, .int a3), (5, .int a4), (6, .int x_7), (7, .int x_13), (8, .int v8_45), (9, .int v9_46), (11, .int w_48)]) dX1_game_189 rfl 9 rfl (by decide) e_77 (by decide) rfl ?_
            refine z_goto (t := 63) dX1_game_192 (by decide) ?_
            refine z_sub [2, 3, 4, 5, 6, 7, 8, 9, 0] rfl ?_
            have hF := Option.some.inj hF; subst hF
            exact kl v8_45 v9_46 v10_76 rfl
      clear e_54
      refine z_if_ne (n := 91) (t := 95) dX1_game_88 rfl (by decide) (fun hc => ?_) (fun hc => ?_)
      · replace hF := (if_pos hc).symm.trans hF
        refine z_iload (n := 97) dX1_game_95 rfl 3 rfl ?_
        refine z_sub [1, 2, 3, 4, 5, 6, 7, 8, 9, 0] rfl ?_
        exact H_55 a3 hF
      · replace hF := (if_neg hc).symm.trans hF
        refine z_iload_n (n := 92) dX1_game_91 rfl 2 rfl rfl ?_
        refine z_goto (t := 97) dX1_game_92 (by decide) ?_
        refine z_sub [1, 2, 3, 4, 5, 6, 7, 8, 9, 0] rfl ?_
        exact H_55 a2 hF
    clear e_50
    refine z_if_ne (n := 76) (t := 80) dX1_game_73 rfl (by decide) (fun hc => ?_) (fun hc => ?_)
    · replace hF := (if_pos hc).symm.trans hF
      refine z_iload (n := 82) dX1_game_80 rfl 2 rfl ?_
      exact H_51 a3 hF
    · replace hF := (if_neg hc).symm.trans hF
      refine z_iload_n (n := 77) dX1_game_76 rfl 1 rfl rfl ?_
      refine z_goto (t := 82) dX1_game_77 (by decide) ?_
      exact H_51 a2 hF
set_option maxHeartbeats 1000000 in
theorem C_X1_game {l : Launch} {G : zGt} (htr : l.stackTraces = false) {K : zKd} {F : zFd} {L : zLd} {o0 : Nat} {a0 : Int32} {a1 : Int32} {a2 : Int32} {a3 : Int32} {a4 : Int32} {I : zId} {r : (Int32 ⊕ (String × Nat)) × zId} (hF : F_X1_game K F o0 a0 a1 a2 a3 a4 I = some r) : zMet l G yX1_game (ws_ yX1_game cX1_game 13 (some .int)) 10 241 (zxc r.1) (zxs r.1) [.ref o0, .int a0, .int a1, .int a2, .int a3, .int a4] K F I L (zQe (zoi r.1) K F r.2 L) := by
  refine zMet.of (by decide +kernel) htr (Nat.le_of_ble_eq_true rfl) ?_
  change zW l G MX1_game 10 241 (zxc r.1) (zxs r.1) 0 [(0, .ref o0), (1, .int a0), (2, .int a1), (3, .int a2), (4, .int a3), (5, .int a4)] [] K F I L (zQe (zoi r.1) K F r.2 L)
  unfold F_X1_game at hF
  refine z_aload_n (n := 1) dX1_game_0 rfl 0 rfl rfl ?_
  refine z_iload_n (n := 2) dX1_game_1 rfl 1 rfl rfl ?_
  obtain ⟨n_1, hk_2, hF⟩ := zka_some hF
  obtain ⟨s_4, I_5, c_3, hF⟩ := zb2_some hF
  rcases zsum_some hF with ⟨x_7, e_6, hF⟩ | ⟨w_8, e_6, hF⟩
  rotate_left
  · first | rw [e_6] at c_3 ⊢ | rw [e_6] at c_3
    have hF := Option.some.inj hF; subst hF
    refine z_cVx (n := 5) (mc2 := 0) (ms2 := 0) (st := []) (C_X1_fortAt htr c_3) dX1_game_2 rfl (lw_V q1550 q1552 qs37 q105 q1553) hcee_X1_fortAt rfl (by decide) hk_2 rfl rfl rfl (Nat.le_of_ble_eq_true rfl) (Nat.le_refl _) (Nat.le_refl _) ?_
    exact z_out rfl ⟨rfl, rfl, rfl, rfl, rfl⟩
  first | rw [e_6] at c_3 ⊢ | rw [e_6] at c_3
  refine z_cV (n := 5) (st := []) (C_X1_fortAt htr c_3) dX1_game_2 rfl (lw_V q1550 q1552 qs37 q105 q1553) hcee_X1_fortAt rfl (by decide) hk_2 rfl rfl rfl (Nat.le_of_ble_eq_true rfl) (Nat.le_refl _) (Nat.le_refl _) ?_
  refine z_istoreE (n := 7) (lv' := [(6, .int x_7), (0, .ref o0), (1, .int a0), (2, .int a1), (3, .int a2), (4, .int a3), (5, .int a4)]) dX1_game_5 rfl rfl (by decide) rfl ?_
  refine z_aload_n (n := 8) dX1_game_7 rfl 1 rfl rfl ?_
  refine z_iload_n (n := 9) dX1_game_8 rfl 3 rfl rfl ?_
  obtain ⟨s_10, I_11, c_9, hF⟩ := zb2_some hF
  rcases zsum_some hF with ⟨x_13, e_12, hF⟩ | ⟨w_14, e_12, hF⟩
  rotate_left
  · first | rw [e_12] at c_9 ⊢ | rw [e_12] at c_9
    have hF := Option.some.inj hF; subst hF
    refine z_cVx (n := 12) (mc2 := 0) (ms2 := 0) (st := []) (C_X1_fortAt htr c_9) dX1_game_9 rfl (lw_V q1550 q1552 qs37 q105 q1553) hcee_X1_fortAt rfl (by decide) hk_2 rfl rfl rfl (Nat.le_of_ble_eq_true rfl) (Nat.le_refl _) (Nat.le_refl _) ?_
    exact z_out rfl ⟨rfl, rfl, rfl, rfl, rfl⟩
  first | rw [e_12] at c_9 ⊢ | rw [e_12] at c_9
  refine z_cV (n := 12) (st := []) (C_X1_fortAt htr c_9) dX1_game_9 rfl (lw_V q1550 q1552 qs37 q105 q1553) hcee_X1_fortAt rfl (by decide) hk_2 rfl rfl rfl (Nat.le_of_ble_eq_true rfl) (Nat.le_refl _) (Nat.le_refl _) ?_
  refine z_istoreE (n := 14) (lv' := [(7, .int x_13), (6, .int x_7), (0, .ref o0), (1, .int a0), (2, .int a1), (3, .int a2), (4, .int a3), (5, .int a4)]) dX1_game_12 rfl rfl (by decide) rfl ?_
  refine z_aload_n (n := 15) dX1_game_14 rfl 2 rfl rfl ?_
  refine z_iload_n (n := 16) dX1_game_15 rfl 5 rfl rfl ?_
  obtain ⟨s_16, I_17, c_15, hF⟩ := zb2_some hF
  rcases zsum_some hF with ⟨x_19, e_18, hF⟩ | ⟨w_20, e_18, hF⟩
  rotate_left
  · first | rw [e_18] at c_15 ⊢ | rw [e_18] at c_15
    have hF := Option.some.inj hF; subst hF
    refine z_cVx (n := 19) (mc2 := 0) (ms2 := 0) (st := []) (C_X1_bandAt htr c_15) dX1_game_16 rfl (lw_V q1421 q1423 qs34 q105 q1424) hcee_X1_bandAt rfl (by decide) hk_2 rfl rfl rfl (Nat.le_of_ble_eq_true rfl) (Nat.le_refl _) (Nat.le_refl _) ?_
    exact z_out rfl ⟨rfl, rfl, rfl, rfl, rfl⟩
  first | rw [e_18] at c_15 ⊢ | rw [e_18] at c_15
  refine z_cV (n := 19) (st := []) (C_X1_bandAt htr c_15) dX1_game_16 rfl (lw_V q1421 q1423 qs34 q105 q1424) hcee_X1_bandAt rfl (by decide) hk_2 rfl rfl rfl (Nat.le_of_ble_eq_true rfl) (Nat.le_refl _) (Nat.le_refl _) ?_
  refine z_aload_n (n := 20) dX1_game_19 rfl 2 rfl rfl ?_
  refine z_iload (n := 22) dX1_game_20 rfl 6 rfl ?_
  obtain ⟨s_22, I_23, c_21, hF⟩ := zb2_some hF
  rcases zsum_some hF with ⟨x_25, e_24, hF⟩ | ⟨w_26, e_24, hF⟩
  rotate_left
  · first | rw [e_24] at c_21 ⊢ | rw [e_24] at c_21
    have hF := Option.some.inj hF; subst hF
    refine z_cVx (n := 25) (mc2 := 0) (ms2 := 0) (st := []) (C_X1_bandAt htr c_21) dX1_game_22 rfl (lw_V q1421 q1423 qs34 q105 q1424) hcee_X1_bandAt rfl (by decide) hk_2 rfl rfl rfl (Nat.le_of_ble_eq_true rfl) (Nat.le_refl _) (Nat.le_refl _) ?_
    exact z_out rfl ⟨rfl, rfl, rfl, rfl, rfl⟩
  first | rw [e_24] at c_21 ⊢ | rw [e_24] at c_21
  refine z_cV (n := 25) (st := []) (C_X1_bandAt htr c_21) dX1_game_22 rfl (lw_V q1421 q1423 qs34 q105 q1424) hcee_X1_bandAt rfl (by decide) hk_2 rfl rfl rfl (Nat.le_of_ble_eq_true rfl) (Nat.le_refl _) (Nat.le_refl _) ?_
  refine z_iload (n := 27) dX1_game_25 rfl 7 rfl ?_
  refine z_iconst (n := 28) (v := 0) dX1_game_27 rfl (by decide) ?_
  refine z_iconst (n := 29) (v := 1) dX1_game_28 rfl (by decide) ?_
  obtain ⟨x_28, c_27, hF⟩ := zb1_some hF
  refine z_cS (n := 32) (st := []) (C_X1_within htr c_27) dX1_game_29 rfl (lw_S q786 q787 q105 q788) hcee_X1_within rfl (by decide) rfl (Nat.le_of_ble_eq_true rfl) (Nat.le_refl _) (Nat.le_refl _) ?_
  obtain ⟨s_30, I_31, c_29, hF⟩ := zb2_some hF
  rcases zsum_some hF with ⟨x_33, e_32, hF⟩ | ⟨w_34, e_32, hF⟩
  rotate_left
  · first | rw [e_32] at c_29 ⊢ | rw [e_32] at c_29
    have hF := Option.some.inj hF; subst hF
    refine z_cSx (n := 35) (mc2 := 0) (ms2 := 0) (st := []) (C_X1_there htr c_29) dX1_game_32 rfl (lw_S q1367 q1368 q105 q1369) hcee_X1_there rfl (by decide) rfl (Nat.le_of_ble_eq_true rfl) (Nat.le_refl _) (Nat.le_refl _) ?_
    exact z_out rfl ⟨rfl, rfl, rfl, rfl, rfl⟩
  first | rw [e_32] at c_29 ⊢ | rw [e_32] at c_29
  refine z_cS (n := 35) (st := []) (C_X1_there htr c_29) dX1_game_32 rfl (lw_S q1367 q1368 q105 q1369) hcee_X1_there rfl (by decide) rfl (Nat.le_of_ble_eq_true rfl) (Nat.le_refl _) (Nat.le_refl _) ?_
  refine z_iload_n (n := 36) dX1_game_35 rfl 3 rfl rfl ?_
  refine z_iload_n (n := 37) dX1_game_36 rfl 4 rfl rfl ?_
  obtain ⟨k_36, e_37, hF⟩ := zlet_ob hF
  have H_38 : ∀ (w_35 : Int32), k_36 w_35 = some r → zW l G MX1_game 10 241 (zxc r.1) (zxs r.1) 51 [(0, .ref o0), (3, .int a2), (4, .int a3), (5, .int a4), (6, .int x_7), (7, .int x_13)] [.int w_35] K F I_31 L (zQe (zoi r.1) K F r.2 L) := by
    intro w_35 hF
    subst e_37
    dsimp only at hF
    obtain ⟨s_40, I_41, c_39, hF⟩ := zb2_some hF
    rcases zsum_some hF with ⟨x_43, e_42, hF⟩ | ⟨w_44, e_42, hF⟩
    rotate_left
    · first | rw [e_42] at c_39 ⊢ | rw [e_42] at c_39
      have hF := Option.some.inj hF; subst hF
      refine z_cSx (n := 54) (mc2 := 0) (ms2 := 0) (st := []) (C_X1_right htr c_39) dX1_game_51 rfl (lw_S q954 q955 q105 q956) hcee_X1_right rfl (by decide) rfl (Nat.le_of_ble_eq_true rfl) (Nat.le_refl _) (Nat.le_refl _) ?_
      exact z_out rfl ⟨rfl, rfl, rfl, rfl, rfl⟩
    first | rw [e_42] at c_39 ⊢ | rw [e_42] at c_39
    refine z_cS (n := 54) (st := []) (C_X1_right htr c_39) dX1_game_51 rfl (lw_S q954 q955 q105 q956) hcee_X1_right rfl (by decide) rfl (Nat.le_of_ble_eq_true rfl) (Nat.le_refl _) (Nat.le_refl _) ?_
    refine z_iconst (n := 55) (v := 0) dX1_game_54 rfl (by decide) ?_
    refine z_istoreE (n := 57) (lv' := [(8, .int 0), (0, .ref o0), (3, .int a2), (4, .int a3), (5, .int a4), (6, .int x_7), (7, .int x_13)]) dX1_game_55 rfl rfl (by decide) rfl ?_
    refine z_iconst (n := 58) (v := (-1)) dX1_game_57 rfl (by decide) ?_
    refine z_istoreE (n := 60) (lv' := [(9, .int (-1)), (8, .int 0), (0, .ref o0), (3, .int a2), (4, .int a3), (5, .int a4), (6, .int x_7), (7, .int x_13)]) dX1_game_58 rfl rfl (by decide) rfl ?_
    refine z_iconst (n := 61) (v := 0) dX1_game_60 rfl (by decide) ?_
    refine z_istoreE (n := 63) (lv' := [(10, .int 0), (9, .int (-1)), (8, .int 0), (0, .ref o0), (3, .int a2), (4, .int a3), (5, .int a4), (6, .int x_7), (7, .int x_13)]) dX1_game_61 rfl rfl (by decide) rfl ?_
    refine z_sub [3, 4, 5, 6, 7, 8, 2, 1, 0] rfl ?_
    obtain ⟨t_81, e_80, hF⟩ := zb1_some hF
    obtain ⟨v8_78, v9_79⟩ := t_81
    dsimp only [zn2] at hF
    have H_82 : zW l G MX1_game 10 241 (zxc r.1) (zxs r.1) 195 [(5, .int a4), (8, .int v8_78), (9, .int v9_79)] [] K F I_41 L (zQe (zoi r.1) K F r.2 L) := by
      refine z_iload (n := 197) dX1_game_195 rfl 0 rfl ?_
      refine z_if_ne (n := 200) (t := 205) dX1_game_197 rfl (by decide) (fun hc => ?_) (fun hc => ?_)
      · replace hF := (if_pos hc).symm.trans hF
        refine z_iload (n := 207) dX1_game_205 rfl 2 rfl ?_
        have hF := Option.some.inj hF; subst hF
        exact z_iret dX1_game_207 rfl rfl ⟨rfl, rfl, rfl, rfl, rfl⟩
      · replace hF := (if_neg hc).symm.trans hF
        refine z_iload (n := 202) dX1_game_200 rfl 1 rfl ?_
        refine z_goto (t := 207) dX1_game_202 (by decide) ?_
        have hF := Option.some.inj hF; subst hF
        exact z_iret dX1_game_207 rfl rfl ⟨rfl, rfl, rfl, rfl, rfl⟩
    refine zloop_ind (P := fun s : Int32 × Int32 × Int32 => zW l G MX1_game 10 241 (zxc r.1) (zxs r.1) 63 [(0, .ref o0), (3, .int a2), (4, .int a3), (5, .int a4), (6, .int x_7), (7, .int x_13), (8, .int s.1), (9, .int s.2.1), (10, .int s.2.2)] [] K F I_41 L (zQe (zoi r.1) K F r.2 L)) (fun s r hb kl kr => ?_) e_80
    exact W_X1_game_L63 (o0 := o0) (a0 := a0) (a1 := a1) (a2 := a2) (a3 := a3) (a4 := a4) htr hb (fun z0 z1 z2 e => kl _ e) (fun y0 y1 e => by cases kr _ e; exact H_82)
  clear e_37
  refine z_icmp_eq (n := 40) (t := 50) dX1_game_37 rfl (by decide) (fun hc => ?_) (fun hc => ?_)
  · replace hF := (if_pos hc).symm.trans hF
    refine z_iconst (n := 51) (v := 0) dX1_game_50 rfl (by decide) ?_
    refine z_sub [2, 5, 6, 7, 1, 0] rfl ?_
    exact H_38 0 hF
  · replace hF := (if_neg hc).symm.trans hF
    refine z_iload_n (n := 41) dX1_game_40 rfl 5 rfl rfl ?_
    refine z_iload (n := 43) dX1_game_41 rfl 6 rfl ?_
    refine z_icmp_eq (n := 46) (t := 50) dX1_game_43 rfl (by decide) (fun hc => ?_) (fun hc => ?_)
    · replace hF := (if_pos hc).symm.trans hF
      refine z_iconst (n := 51) (v := 0) dX1_game_50 rfl (by decide) ?_
      refine z_sub [2, 5, 6, 7, 1, 0] rfl ?_
      exact H_38 0 hF
    · replace hF := (if_neg hc).symm.trans hF
      refine z_iconst (n := 47) (v := 1) dX1_game_46 rfl (by decide) ?_
      refine z_goto (t := 51) dX1_game_47 (by decide) ?_
      refine z_sub [2, 5, 6, 7, 1, 0] rfl ?_
      exact H_38 1 hF
abbrev MX1_guesses : zM := (RX1, cX1_guesses, 1, (some .int), "guesses", [])
noncomputable def F_X1_guesses (K : zKd) (F : zFd) (o0 : Nat) (I : zId) : Option (Int32) := zka K o0 0 (fun n_1 => zb1 (F_X1_bands K F o0 I) (fun x_4 => some (x_4 * 30)))
set_option maxHeartbeats 1000000 in
theorem C_X1_guesses {l : Launch} {G : zGt} (htr : l.stackTraces = false) {K : zKd} {F : zFd} {L : zLd} {o0 : Nat} {I : zId} {r : Int32} (hF : F_X1_guesses K F o0 I = some r) : zMet l G yX1_guesses (ws_ yX1_guesses cX1_guesses 1 (some .int)) 2 40 0 0 [.ref o0] K F I L (zQe (.inl (some (.int r))) K F I L) := by
  refine zMet.of (by decide +kernel) htr (Nat.le_of_ble_eq_true rfl) ?_
  change zW l G MX1_guesses 2 40 0 0 0 [(0, .ref o0)] [] K F I L (zQe (.inl (some (.int r))) K F I L)
  unfold F_X1_guesses at hF
  refine z_aload_n (n := 1) dX1_guesses_0 rfl 0 rfl rfl ?_
  obtain ⟨n_1, hk_2, hF⟩ := zka_some hF
  obtain ⟨x_4, c_3, hF⟩ := zb1_some hF
  refine z_cV (n := 4) (st := []) (C_X1_bands htr c_3) dX1_guesses_1 rfl (lw_V q1385 q1387 qs30 q105 q1388) hcee_X1_bands rfl (by decide) hk_2 rfl rfl rfl (Nat.le_of_ble_eq_true rfl) (Nat.le_refl _) (Nat.le_refl _) ?_
  refine z_bipush (n := 6) (v := 30) dX1_guesses_4 rfl (by decide) ?_
  refine z_imul (n := 7) dX1_guesses_6 rfl ?_
  have hF := Option.some.inj hF; subst hF
  exact z_iret dX1_guesses_7 rfl rfl ⟨rfl, rfl, rfl, rfl, rfl⟩
theorem hcee_X1_draw : zCee yX1_draw RX1 1 := ⟨rfl, by decide +kernel, by decide +kernel, by decide +kernel⟩
abbrev MX1_happens : zM := (RX1, cX1_happens, 3, none, "happens", [])
noncomputable def F_X1_happens (K : zKd) (F : zFd) (o0 : Nat) (I : zId) : Option (zId) := zka K o0 0 (fun n_1 => zb1 (F_X1_forests K F o0 I) (fun x_4 => zb2 (F_X1_draw K F o0 x_4 I) (fun x_6 I_7 => zb2 (F_X1_draw K F o0 4 I_7) (fun x_9 I_10 => if ¬ x_9 = 0 then if ¬ x_9 = 1 then some I_10 else zg (decide (600 ≤ o0)) (zb1 (F o0 4) (fun o_12 => zka K o_12 5 (fun n_14 => zg (decide (600 ≤ o_12)) (zb1 (F o_12 0) (fun o_17 => zka K o_17 64 (fun n_19 => zg (zin x_6 n_19) (zb1 (F o0 0) (fun o_22 => zka K o_22 1 (fun n_24 => zg (decide (600 ≤ o_22)) (zb1 (F o_22 4) (fun o_27 => zka K o_27 2 (fun n_29 => zb1 (F_J2_get K F o_27 x_6 I_10) (fun q_32 => zb1 q_32 (fun o_33 => zka K o_33 9 (fun n_35 => zg (decide (600 ≤ o_33)) (if (I_10 o_33 2) < ((I_10 o_17 x_6.toNatClampNeg) + 10) then some I_10 else zb1 (F o0 4) (fun o_38 => zka K o_38 5 (fun n_40 => zg (decide (600 ≤ o_38)) (zb1 (F o_38 0) (fun o_43 => zka K o_43 64 (fun n_45 => zg (zin x_6 n_45) (zg (zin x_6 n_45) (zg (decide (600 ≤ o_43)) (zlet (zu I_10 o_43 x_6.toNatClampNeg ((I_10 o_43 x_6.toNatClampNeg) + 10)) (fun I_50 => some I_50))))))))))))))))))))))))) else zg (decide (600 ≤ o0)) (zb1 (F o0 4) (fun o_53 => zka K o_53 5 (fun n_55 => zg (decide (600 ≤ o_53)) (zb1 (F o_53 0) (fun o_58 => zka K o_58 64 (fun n_60 => zg (zin x_6 n_60) (zb1 (F o0 4) (fun o_63 => zka K o_63 5 (fun n_65 => zg (decide (600 ≤ o_63)) (zb1 (F o_63 0) (fun o_68 => zka K o_68 64 (fun n_70 => zg (zin x_6 n_70) (zg (zin x_6 n_60) (zg (decide (600 ≤ o_58)) (zlet (zu I_10 o_58 x_6.toNatClampNeg ((I_10 o_58 x_6.toNatClampNeg) - ((I_10 o_68 x_6.toNatClampNeg) / 10))) (fun I_75 => zb1 (F o0 4) (fun o_77 => zka K o_77 5 (fun n_79 => zg (decide (600 ≤ o_77)) (zb1 (F o_77 1) (fun o_82 => zb1 (F o0 4) (fun o_84 => zka K o_84 5 (fun n_86 => zg (decide (600 ≤ o_84)) (zb1 (F o_84 1) (fun o_89 => zka K o_89 64 (fun n_91 => zg (zin x_6 n_91) (zb1 (F o0 4) (fun o_94 => zka K o_94 5 (fun n_96 => zg (decide (600 ≤ o_94)) (zb1 (F o_94 0) (fun o_99 => zka K o_99 64 (fun n_101 => zg (zin x_6 n_101) (zka K o_82 64 (fun n_104 => zg (zin x_6 n_104) (zg (decide (600 ≤ o_82)) (zlet (zu I_75 o_82 x_6.toNatClampNeg (zmin (I_75 o_89 x_6.toNatClampNeg) (I_75 o_99 x_6.toNatClampNeg))) (fun I_108 => some I_108))))))))))))))))))))))))))))))))))))))))
set_option maxHeartbeats 1000000 in
theorem C_X1_happens {l : Launch} {G : zGt} (htr : l.stackTraces = false) {K : zKd} {F : zFd} {L : zLd} {o0 : Nat} {I : zId} {r : zId} (hF : F_X1_happens K F o0 I = some r) : zMet l G yX1_happens (ws_ yX1_happens cX1_happens 3 none) 3 64 0 0 [.ref o0] K F I L (zQe (.inl none) K F r L) := by
  refine zMet.of (by decide +kernel) htr (Nat.le_of_ble_eq_true rfl) ?_
  change zW l G MX1_happens 3 64 0 0 0 [(0, .ref o0)] [] K F I L (zQe (.inl none) K F r L)
  unfold F_X1_happens at hF
  refine z_aload_n (n := 1) dX1_happens_0 rfl 0 rfl rfl ?_
  refine z_aload_n (n := 2) dX1_happens_1 rfl 0 rfl rfl ?_
  obtain ⟨n_1, hk_2, hF⟩ := zka_some hF
  obtain ⟨x_4, c_3, hF⟩ := zb1_some hF
  refine z_cV (n := 5) (st := [.ref o0]) (C_X1_forests htr c_3) dX1_happens_2 rfl (lw_V q923 q925 qs12 q105 q926) hcee_X1_forests rfl (by decide) hk_2 rfl rfl rfl (Nat.le_of_ble_eq_true rfl) (Nat.le_refl _) (Nat.le_refl _) ?_
  obtain ⟨x_6, I_7, c_5, hF⟩ := zb2_some hF
  refine z_cV (n := 8) (st := []) (C_X1_draw htr c_5) dX1_happens_5 rfl (lw_V q1657 q1659 qs47 q105 q1660) hcee_X1_draw rfl (by decide) hk_2 rfl rfl rfl (Nat.le_of_ble_eq_true rfl) (Nat.le_refl _) (Nat.le_refl _) ?_
  refine z_istore_nE (n := 9) (lv' := [(1, .int x_6), (0, .ref o0)]) dX1_happens_8 rfl rfl rfl (by decide) rfl ?_
  refine z_aload_n (n := 10) dX1_happens_9 rfl 1 rfl rfl ?_
  refine z_iconst (n := 11) (v := 4) dX1_happens_10 rfl (by decide) ?_
  obtain ⟨x_9, I_10, c_8, hF⟩ := zb2_some hF
  refine z_cV (n := 14) (st := []) (C_X1_draw htr c_8) dX1_happens_11 rfl (lw_V q1657 q1659 qs47 q105 q1660) hcee_X1_draw rfl (by decide) hk_2 rfl rfl rfl (Nat.le_of_ble_eq_true rfl) (Nat.le_refl _) (Nat.le_refl _) ?_
  refine z_istore_nE (n := 15) (lv' := [(2, .int x_9), (1, .int x_6), (0, .ref o0)]) dX1_happens_14 rfl rfl rfl (by decide) rfl ?_
  refine z_iload_n (n := 16) dX1_happens_15 rfl 0 rfl rfl ?_
  refine z_if_ne (n := 19) (t := 76) dX1_happens_16 rfl (by decide) (fun hc => ?_) (fun hc => ?_)
  · replace hF := (if_pos hc).symm.trans hF
    refine z_iload_n (n := 77) dX1_happens_76 rfl 0 rfl rfl ?_
    refine z_iconst (n := 78) (v := 1) dX1_happens_77 rfl (by decide) ?_
    refine z_icmp_ne (n := 81) (t := 127) dX1_happens_78 rfl (by decide) (fun hc => ?_) (fun hc => ?_)
    · replace hF := (if_pos hc).symm.trans hF
      have hF := Option.some.inj hF; subst hF
      exact z_vret dX1_happens_127 rfl ⟨rfl, rfl, rfl, rfl, rfl⟩
    · replace hF := (if_neg hc).symm.trans hF
      refine z_aload_n (n := 82) dX1_happens_81 rfl 2 rfl rfl ?_
      obtain ⟨hb_11, hF⟩ := zg_some hF
      obtain ⟨o_12, hr_13, hF⟩ := zb1_some hF
      refine z_getRS (n := 85) dX1_happens_82 rfl zok0 fX1_34_0 rfl hk_2 (Or.inl (zbig hb_11)) hr_13 ?_
      obtain ⟨n_14, hk_15, hF⟩ := zka_some hF
      obtain ⟨hb_16, hF⟩ := zg_some hF
      obtain ⟨o_17, hr_18, hF⟩ := zb1_some hF
      refine z_getRS (n := 88) dX1_happens_85 rfl zok5 fX1_176_5 rfl hk_15 (Or.inl (zbig hb_16)) hr_18 ?_
      refine z_iload_n (n := 89) dX1_happens_88 rfl 1 rfl rfl ?_
      obtain ⟨n_19, hk_20, hF⟩ := zka_some hF
      obtain ⟨h_21, hF⟩ := zg_some hF
      refine z_ialdK (n := 90) x_6.toNatClampNeg rfl dX1_happens_89 rfl hk_20 (zin_ok h_21) ?_
      refine z_bipush (n := 92) (v := 10) dX1_happens_90 rfl (by decide) ?_
      refine z_iadd (n := 93) dX1_happens_92 rfl ?_
      refine z_aload_n (n := 94) dX1_happens_93 rfl 2 rfl rfl ?_
      obtain ⟨o_22, hr_23, hF⟩ := zb1_some hF
      refine z_getRS (n := 97) dX1_happens_94 rfl zok0 fX1_10_0 rfl hk_2 (Or.inl (zbig hb_11)) hr_23 ?_
      obtain ⟨n_24, hk_25, hF⟩ := zka_some hF
      obtain ⟨hb_26, hF⟩ := zg_some hF
      obtain ⟨o_27, hr_28, hF⟩ := zb1_some hF
      refine z_getRS (n := 100) dX1_happens_97 rfl zok1 fX1_58_1 rfl hk_25 (Or.inl (zbig hb_26)) hr_28 ?_
      refine z_iload_n (n := 101) dX1_happens_100 rfl 1 rfl rfl ?_
      obtain ⟨n_29, hk_30, hF⟩ := zka_some hF
      obtain ⟨q_32, c_31, hF⟩ := zb1_some hF
      refine z_cV (n := 104) (st := [.int ((I_10 o_17 x_6.toNatClampNeg) + 10)]) (C_J2_get htr c_31) dX1_happens_101 rfl (lw_V q917 q813 q814 q109 q815) hcee_J2_get rfl (by decide) hk_30 rfl rfl rfl (Nat.le_of_ble_eq_true rfl) (Nat.le_refl _) (Nat.le_refl _) ?_
      obtain ⟨o_33, hr_34, hF⟩ := zb1_some hF
      rw [hr_34]
      obtain ⟨n_35, hk_36, hF⟩ := zka_some hF
      refine z_castS (n := 107) dX1_happens_104 rfl hk_36 rfl q1404 rfl ?_
      obtain ⟨hb_37, hF⟩ := zg_some hF
      refine z_getI (n := 110) dX1_happens_107 rfl zok9 fX1_182_9 rfl hk_36 (Or.inl (zbig hb_37)) ?_
      refine z_icmp_gt (n := 113) (t := 127) dX1_happens_110 rfl (by decide) (fun hc => ?_) (fun hc => ?_)
      · replace hF := (if_pos hc).symm.trans hF
        have hF := Option.some.inj hF; subst hF
        exact z_vret dX1_happens_127 rfl ⟨rfl, rfl, rfl, rfl, rfl⟩
      · replace hF := (if_neg hc).symm.trans hF
        refine z_aload_n (n := 114) dX1_happens_113 rfl 2 rfl rfl ?_
        obtain ⟨o_38, hr_39, hF⟩ := zb1_some hF
        refine z_getRS (n := 117) dX1_happens_114 rfl zok0 fX1_34_0 rfl hk_2 (Or.inl (zbig hb_11)) hr_39 ?_
        obtain ⟨n_40, hk_41, hF⟩ := zka_some hF
        obtain ⟨hb_42, hF⟩ := zg_some hF
        obtain ⟨o_43, hr_44, hF⟩ := zb1_some hF
        refine z_getRS (n := 120) dX1_happens_117 rfl zok5 fX1_176_5 rfl hk_41 (Or.inl (zbig hb_42)) hr_44 ?_
        refine z_iload_n (n := 121) dX1_happens_120 rfl 1 rfl rfl ?_
        refine z_dup2 (n := 122) dX1_happens_121 rfl rfl rfl ?_
        obtain ⟨n_45, hk_46, hF⟩ := zka_some hF
        obtain ⟨h_47, hF⟩ := zg_some hF
        refine z_ialdK (n := 123) x_6.toNatClampNeg rfl dX1_happens_122 rfl hk_46 (zin_ok h_47) ?_
        refine z_bipush (n := 125) (v := 10) dX1_happens_123 rfl (by decide) ?_
        refine z_iadd (n := 126) dX1_happens_125 rfl ?_
        obtain ⟨h_48, hF⟩ := zg_some hF
        obtain ⟨hb_49, hF⟩ := zg_some hF
        obtain ⟨I_50, e_51, hF⟩ := zlet_ob hF
        refine z_iastK (n := 127) x_6.toNatClampNeg rfl dX1_happens_126 rfl hk_46 (zbig hb_49) (zin_ok h_48) e_51 ?_
        have hF := Option.some.inj hF; subst hF
        exact z_vret dX1_happens_127 rfl ⟨rfl, rfl, rfl, rfl, rfl⟩
  · replace hF := (if_neg hc).symm.trans hF
    refine z_aload_n (n := 20) dX1_happens_19 rfl 2 rfl rfl ?_
    obtain ⟨hb_52, hF⟩ := zg_some hF
    obtain ⟨o_53, hr_54, hF⟩ := zb1_some hF
    refine z_getRS (n := 23) dX1_happens_20 rfl zok0 fX1_34_0 rfl hk_2 (Or.inl (zbig hb_52)) hr_54 ?_
    obtain ⟨n_55, hk_56, hF⟩ := zka_some hF
    obtain ⟨hb_57, hF⟩ := zg_some hF
    obtain ⟨o_58, hr_59, hF⟩ := zb1_some hF
    refine z_getRS (n := 26) dX1_happens_23 rfl zok5 fX1_176_5 rfl hk_56 (Or.inl (zbig hb_57)) hr_59 ?_
    refine z_iload_n (n := 27) dX1_happens_26 rfl 1 rfl rfl ?_
    refine z_dup2 (n := 28) dX1_happens_27 rfl rfl rfl ?_
    obtain ⟨n_60, hk_61, hF⟩ := zka_some hF
    obtain ⟨h_62, hF⟩ := zg_some hF
    refine z_ialdK (n := 29) x_6.toNatClampNeg rfl dX1_happens_28 rfl hk_61 (zin_ok h_62) ?_
    refine z_aload_n (n := 30) dX1_happens_29 rfl 2 rfl rfl ?_
    obtain ⟨o_63, hr_64, hF⟩ := zb1_some hF
    refine z_getRS (n := 33) dX1_happens_30 rfl zok0 fX1_34_0 rfl hk_2 (Or.inl (zbig hb_52)) hr_64 ?_
    obtain ⟨n_65, hk_66, hF⟩ := zka_some hF
    obtain ⟨hb_67, hF⟩ := zg_some hF
    obtain ⟨o_68, hr_69, hF⟩ := zb1_some hF
    refine z_getRS (n := 36) dX1_happens_33 rfl zok5 fX1_176_5 rfl hk_66 (Or.inl (zbig hb_67)) hr_69 ?_
    refine z_iload_n (n := 37) dX1_happens_36 rfl 1 rfl rfl ?_
    obtain ⟨n_70, hk_71, hF⟩ := zka_some hF
    obtain ⟨h_72, hF⟩ := zg_some hF
    refine z_ialdK (n := 38) x_6.toNatClampNeg rfl dX1_happens_37 rfl hk_71 (zin_ok h_72) ?_
    refine z_bipush (n := 40) (v := 10) dX1_happens_38 rfl (by decide) ?_
    refine z_idiv (n := 41) dX1_happens_40 rfl (by decide) ?_
    refine z_isub (n := 42) dX1_happens_41 rfl ?_
    obtain ⟨h_73, hF⟩ := zg_some hF
    obtain ⟨hb_74, hF⟩ := zg_some hF
    obtain ⟨I_75, e_76, hF⟩ := zlet_ob hF
    refine z_iastK (n := 43) x_6.toNatClampNeg rfl dX1_happens_42 rfl hk_61 (zbig hb_74) (zin_ok h_73) e_76 ?_
    refine z_aload_n (n := 44) dX1_happens_43 rfl 2 rfl rfl ?_
    obtain ⟨o_77, hr_78, hF⟩ := zb1_some hF
    refine z_getRS (n := 47) dX1_happens_44 rfl zok0 fX1_34_0 rfl hk_2 (Or.inl (zbig hb_52)) hr_78 ?_
    obtain ⟨n_79, hk_80, hF⟩ := zka_some hF
    obtain ⟨hb_81, hF⟩ := zg_some hF
    obtain ⟨o_82, hr_83, hF⟩ := zb1_some hF
    refine z_getRS (n := 50) dX1_happens_47 rfl zok5 fX1_179_5 rfl hk_80 (Or.inl (zbig hb_81)) hr_83 ?_
    refine z_iload_n (n := 51) dX1_happens_50 rfl 1 rfl rfl ?_
    refine z_aload_n (n := 52) dX1_happens_51 rfl 2 rfl rfl ?_
    obtain ⟨o_84, hr_85, hF⟩ := zb1_some hF
    refine z_getRS (n := 55) dX1_happens_52 rfl zok0 fX1_34_0 rfl hk_2 (Or.inl (zbig hb_52)) hr_85 ?_
    obtain ⟨n_86, hk_87, hF⟩ := zka_some hF
    obtain ⟨hb_88, hF⟩ := zg_some hF
    obtain ⟨o_89, hr_90, hF⟩ := zb1_some hF
    refine z_getRS (n := 58) dX1_happens_55 rfl zok5 fX1_179_5 rfl hk_87 (Or.inl (zbig hb_88)) hr_90 ?_
    refine z_iload_n (n := 59) dX1_happens_58 rfl 1 rfl rfl ?_
    obtain ⟨n_91, hk_92, hF⟩ := zka_some hF
    obtain ⟨h_93, hF⟩ := zg_some hF
    refine z_ialdK (n := 60) x_6.toNatClampNeg rfl dX1_happens_59 rfl hk_92 (zin_ok h_93) ?_
    refine z_aload_n (n := 61) dX1_happens_60 rfl 2 rfl rfl ?_
    obtain ⟨o_94, hr_95, hF⟩ := zb1_some hF
    refine z_getRS (n := 64) dX1_happens_61 rfl zok0 fX1_34_0 rfl hk_2 (Or.inl (zbig hb_52)) hr_95 ?_
    obtain ⟨n_96, hk_97, hF⟩ := zka_some hF
    obtain ⟨hb_98, hF⟩ := zg_some hF
    obtain ⟨o_99, hr_100, hF⟩ := zb1_some hF
    refine z_getRS (n := 67) dX1_happens_64 rfl zok5 fX1_176_5 rfl hk_97 (Or.inl (zbig hb_98)) hr_100 ?_
    refine z_iload_n (n := 68) dX1_happens_67 rfl 1 rfl rfl ?_
    obtain ⟨n_101, hk_102, hF⟩ := zka_some hF
    obtain ⟨h_103, hF⟩ := zg_some hF
    refine z_ialdK (n := 69) x_6.toNatClampNeg rfl dX1_happens_68 rfl hk_102 (zin_ok h_103) ?_
    refine z_min (n := 72) dX1_happens_69 rfl q1454 q290 q119 q291 (by decide) (Nat.le_of_ble_eq_true rfl) ?_
    obtain ⟨n_104, hk_105, hF⟩ := zka_some hF
    obtain ⟨h_106, hF⟩ := zg_some hF
    obtain ⟨hb_107, hF⟩ := zg_some hF
    obtain ⟨I_108, e_109, hF⟩ := zlet_ob hF
    refine z_iastK (n := 73) x_6.toNatClampNeg rfl dX1_happens_72 rfl hk_105 (zbig hb_107) (zin_ok h_106) e_109 ?_
    refine z_goto (t := 127) dX1_happens_73 (by decide) ?_
    have hF := Option.some.inj hF; subst hF
    exact z_vret dX1_happens_127 rfl ⟨rfl, rfl, rfl, rfl, rfl⟩
theorem fX1_284_4 : zFld RX1 284 4 2 := ⟨_, rfl, by decide, _, Or.inr ⟨_, q703⟩, Or.inl rfl⟩
theorem fX1_287_4 : zFld RX1 287 4 3 := ⟨_, rfl, by decide, _, Or.inr ⟨_, q705⟩, Or.inl rfl⟩
theorem fX1_290_4 : zFld RX1 290 4 4 := ⟨_, rfl, by decide, _, Or.inr ⟨_, q707⟩, Or.inl rfl⟩
abbrev MX1_isSpied : zM := (RX1, cX1_isSpied, 3, (some .boolean), "isSpied", [])
noncomputable def F_X1_isSpied_L10 (K : zKd) (F : zFd) (o0 : Nat) (v1_1 : Int32) (I_2 : zId) (v2_3 : Int32) : Option ((Int32) ⊕ ((Unit) ⊕ (Int32 × zId))) := zka K o0 0 (fun n_4 => zg (decide (600 ≤ o0)) (zb1 (F o0 1) (fun o_7 => zka K o_7 4 (fun n_9 => zg (decide (600 ≤ o_7)) (if (I_2 o_7 7) ≤ v2_3 then some (.inr (.inl ())) else zb1 (F o0 1) (fun o_12 => zka K o_12 4 (fun n_14 => zg (decide (600 ≤ o_12)) (zb1 (F o_12 3) (fun o_17 => zka K o_17 64 (fun n_19 => zg (zin v2_3 n_19) (if ¬ (I_2 o_17 v2_3.toNatClampNeg) = v1_1 then zlet (v2_3 + 1) (fun v2_22 => some (.inl v2_22)) else zb1 (F o0 4) (fun o_24 => zka K o_24 5 (fun n_26 => zg (decide (600 ≤ o_24)) (zb1 (F o_24 6) (fun o_29 => zb1 (F o0 1) (fun o_31 => zka K o_31 4 (fun n_33 => zg (decide (600 ≤ o_31)) (zb1 (F o_31 2) (fun o_36 => zka K o_36 64 (fun n_38 => zg (zin v2_3 n_38) (zka K o_29 64 (fun n_41 => zg (zin (I_2 o_36 v2_3.toNatClampNeg) n_41) (zb1 (F o0 1) (fun o_44 => zka K o_44 4 (fun n_46 => zg (decide (600 ≤ o_44)) (zb1 (F o_44 4) (fun o_49 => zka K o_49 64 (fun n_51 => zg (zin v2_3 n_51) (if (I_2 o_29 ((I_2 o_36 v2_3.toNatClampNeg).toNatClampNeg)) = (I_2 o_49 v2_3.toNatClampNeg) then zlet (v2_3 + 1) (fun v2_54 => some (.inl v2_54)) else some (.inr (.inr (0, I_2))))))))))))))))))))))))))))))))
noncomputable def F_X1_isSpied_L2 (K : zKd) (F : zFd) (o0 : Nat) (v1_1 : Int32) (I_2 : zId) : Option ((Int32 × zId) ⊕ ((zId) ⊕ (Int32 × zId))) := if 20 < v1_1 then some (.inr (.inl I_2)) else zs1 (zloop (fun s : Int32 => F_X1_isSpied_L10 K F o0 v1_1 I_2 s) 0) (fun u_56 => zka K o0 0 (fun n_57 => zg (decide (600 ≤ o0)) (zb1 (F o0 4) (fun o_60 => zb1 (F o0 0) (fun o_62 => zka K o_60 5 (fun n_64 => zb1 (F_X6_goes K F o_60 o_62 I_2) (fun I_67 => zlet (v1_1 + 1) (fun v1_68 => some (.inl (v1_68, I_67)))))))))) (fun z_71 => some (.inr (.inr z_71)))
noncomputable def F_X1_isSpied (K : zKd) (F : zFd) (o0 : Nat) (I : zId) : Option (Int32 × zId) := zs1 (zloop (fun s : Int32 × zId => F_X1_isSpied_L2 K F o0 s.1 s.2) (0, I)) (fun I_74 => some (1, I_74)) (fun z_76 => some z_76)
set_option maxHeartbeats 1000000 in
theorem W_X1_isSpied_L10 {l : Launch} {G : zGt} (htr : l.stackTraces = false) {K : zKd} {F : zFd} {L : zLd} {Q : zQt} {o0 : Nat} {v1_1 : Int32} {I_2 : zId} {v2_3 : Int32} {r : (Int32) ⊕ ((Unit) ⊕ (Int32 × zId))} (hF : F_X1_isSpied_L10 K F o0 v1_1 I_2 v2_3 = some r) (kl : ∀ (z0 : Int32), r = .inl z0 → zW l G MX1_isSpied 1005 24071 0 0 10 [(0, .ref o0), (1, .int v1_1), (2, .int z0)] [] K F I_2 L Q) (kx : ∀ (y0 : Unit), r = .inr (.inl y0) → zW l G MX1_isSpied 1005 24071 0 0 71 [(0, .ref o0), (1, .int v1_1)] [] K F I_2 L Q) (kq : ∀ z : Int32 × zId, r = .inr (.inr z) → Q (.inl (some (.int z.1))) K F z.2 L) : zW l G MX1_isSpied 1005 24071 0 0 10 [(0, .ref o0), (1, .int v1_1), (2, .int v2_3)] [] K F I_2 L Q := by
  unfold F_X1_isSpied_L10 at hF
  refine z_iload_n (n := 11) dX1_isSpied_10 rfl 2 rfl rfl ?_
  refine z_aload_n (n := 12) dX1_isSpied_11 rfl 0 rfl rfl ?_
  obtain ⟨n_4, hk_5, hF⟩ := zka_some hF
  obtain ⟨hb_6, hF⟩ := zg_some hF
  obtain ⟨o_7, hr_8, hF⟩ := zb1_some hF
  refine z_getRS (n := 15) dX1_isSpied_12 rfl zok0 fX1_19_0 rfl hk_5 (Or.inl (zbig hb_6)) hr_8 ?_
  obtain ⟨n_9, hk_10, hF⟩ := zka_some hF
  obtain ⟨hb_11, hF⟩ := zg_some hF
  refine z_getI (n := 18) dX1_isSpied_15 rfl zok4 fX1_129_4 rfl hk_10 (Or.inl (zbig hb_11)) ?_
  refine z_icmp_ge (n := 21) (t := 71) dX1_isSpied_18 rfl (by decide) (fun hc => ?_) (fun hc => ?_)
  · replace hF := (if_pos hc).symm.trans hF
    refine z_sub [0, 1] rfl ?_
    have hF := Option.some.inj hF; subst hF
    exact kx () rfl
  · replace hF := (if_neg hc).symm.trans hF
    refine z_aload_n (n := 22) dX1_isSpied_21 rfl 0 rfl rfl ?_
    obtain ⟨o_12, hr_13, hF⟩ := zb1_some hF
    refine z_getRS (n := 25) dX1_isSpied_22 rfl zok0 fX1_19_0 rfl hk_5 (Or.inl (zbig hb_6)) hr_13 ?_
    obtain ⟨n_14, hk_15, hF⟩ := zka_some hF
    obtain ⟨hb_16, hF⟩ := zg_some hF
    obtain ⟨o_17, hr_18, hF⟩ := zb1_some hF
    refine z_getRS (n := 28) dX1_isSpied_25 rfl zok4 fX1_287_4 rfl hk_15 (Or.inl (zbig hb_16)) hr_18 ?_
    refine z_iload_n (n := 29) dX1_isSpied_28 rfl 2 rfl rfl ?_
    obtain ⟨n_19, hk_20, hF⟩ := zka_some hF
    obtain ⟨h_21, hF⟩ := zg_some hF
    refine z_ialdK (n := 30) v2_3.toNatClampNeg rfl dX1_isSpied_29 rfl hk_20 (zin_ok h_21) ?_
    refine z_iload_n (n := 31) dX1_isSpied_30 rfl 1 rfl rfl ?_
    refine z_icmp_ne (n := 34) (t := 65) dX1_isSpied_31 rfl (by decide) (fun hc => ?_) (fun hc => ?_)
    · replace hF := (if_pos hc).symm.trans hF
      obtain ⟨v2_22, e_23, hF⟩ := zlet_ob hF
      refine z_iincE (n := 68) (w := 1) (v := v2_22) (lv' := [(2, .int v2_22), (0, .ref o0), (1, .int v1_1)]) dX1_isSpied_65 rfl 2 rfl (by decide) e_23 (by decide) rfl ?_
      refine z_goto (t := 10) dX1_isSpied_68 (by decide) ?_
      refine z_sub [1, 2, 0] rfl ?_
      have hF := Option.some.inj hF; subst hF
      exact kl v2_22 rfl
    · replace hF := (if_neg hc).symm.trans hF
      refine z_aload_n (n := 35) dX1_isSpied_34 rfl 0 rfl rfl ?_
      obtain ⟨o_24, hr_25, hF⟩ := zb1_some hF
      refine z_getRS (n := 38) dX1_isSpied_35 rfl zok0 fX1_34_0 rfl hk_5 (Or.inl (zbig hb_6)) hr_25 ?_
      obtain ⟨n_26, hk_27, hF⟩ := zka_some hF
      obtain ⟨hb_28, hF⟩ := zg_some hF
      obtain ⟨o_29, hr_30, hF⟩ := zb1_some hF
      refine z_getRS (n := 41) dX1_isSpied_38 rfl zok5 fX1_206_5 rfl hk_27 (Or.inl (zbig hb_28)) hr_30 ?_
      refine z_aload_n (n := 42) dX1_isSpied_41 rfl 0 rfl rfl ?_
      obtain ⟨o_31, hr_32, hF⟩ := zb1_some hF
      refine z_getRS (n := 45) dX1_isSpied_42 rfl zok0 fX1_19_0 rfl hk_5 (Or.inl (zbig hb_6)) hr_32 ?_
      obtain ⟨n_33, hk_34, hF⟩ := zka_some hF
      obtain ⟨hb_35, hF⟩ := zg_some hF
      obtain ⟨o_36, hr_37, hF⟩ := zb1_some hF
      refine z_getRS (n := 48) dX1_isSpied_45 rfl zok4 fX1_284_4 rfl hk_34 (Or.inl (zbig hb_35)) hr_37 ?_
      refine z_iload_n (n := 49) dX1_isSpied_48 rfl 2 rfl rfl ?_
      obtain ⟨n_38, hk_39, hF⟩ := zka_some hF
      obtain ⟨h_40, hF⟩ := zg_some hF
      refine z_ialdK (n := 50) v2_3.toNatClampNeg rfl dX1_isSpied_49 rfl hk_39 (zin_ok h_40) ?_
      obtain ⟨n_41, hk_42, hF⟩ := zka_some hF
      obtain ⟨h_43, hF⟩ := zg_some hF
      refine z_ialdK (n := 51) ((I_2 o_36 v2_3.toNatClampNeg).toNatClampNeg) rfl dX1_isSpied_50 rfl hk_42 (zin_ok h_43) ?_
      refine z_aload_n (n := 52) dX1_isSpied_51 rfl 0 rfl rfl ?_
      obtain ⟨o_44, hr_45, hF⟩ := zb1_some hF
      refine z_getRS (n := 55) dX1_isSpied_52 rfl zok0 fX1_19_0 rfl hk_5 (Or.inl (zbig hb_6)) hr_45 ?_
      obtain ⟨n_46, hk_47, hF⟩ := zka_some hF
      obtain ⟨hb_48, hF⟩ := zg_some hF
      obtain ⟨o_49, hr_50, hF⟩ := zb1_some hF
      refine z_getRS (n := 58) dX1_isSpied_55 rfl zok4 fX1_290_4 rfl hk_47 (Or.inl (zbig hb_48)) hr_50 ?_
      refine z_iload_n (n := 59) dX1_isSpied_58 rfl 2 rfl rfl ?_
      obtain ⟨n_51, hk_52, hF⟩ := zka_some hF
      obtain ⟨h_53, hF⟩ := zg_some hF
      refine z_ialdK (n := 60) v2_3.toNatClampNeg rfl dX1_isSpied_59 rfl hk_52 (zin_ok h_53) ?_
      refine z_icmp_eq (n := 63) (t := 65) dX1_isSpied_60 rfl (by decide) (fun hc => ?_) (fun hc => ?_)
      · replace hF := (if_pos hc).symm.trans hF
        obtain ⟨v2_54, e_55, hF⟩ := zlet_ob hF
        refine z_iincE (n := 68) (w := 1) (v := v2_54) (lv' := [(2, .int v2_54), (0, .ref o0), (1, .int v1_1)]) dX1_isSpied_65 rfl 2 rfl (by decide) e_55 (by decide) rfl ?_
        refine z_goto (t := 10) dX1_isSpied_68 (by decide) ?_
        refine z_sub [1, 2, 0] rfl ?_
        have hF := Option.some.inj hF; subst hF
        exact kl v2_54 rfl
      · replace hF := (if_neg hc).symm.trans hF
        refine z_iconst (n := 64) (v := 0) dX1_isSpied_63 rfl (by decide) ?_
        have hF := Option.some.inj hF; subst hF
        exact z_iret dX1_isSpied_64 rfl rfl (kq _ rfl)
set_option maxHeartbeats 1000000 in
theorem W_X1_isSpied_L2 {l : Launch} {G : zGt} (htr : l.stackTraces = false) {K : zKd} {F : zFd} {L : zLd} {Q : zQt} {o0 : Nat} {v1_1 : Int32} {I_2 : zId} {r : (Int32 × zId) ⊕ ((zId) ⊕ (Int32 × zId))} (hF : F_X1_isSpied_L2 K F o0 v1_1 I_2 = some r) (kl : ∀ (z0 : Int32) (z1 : zId), r = .inl (z0, z1) → zW l G MX1_isSpied 1005 24071 0 0 2 [(0, .ref o0), (1, .int z0)] [] K F z1 L Q) (kx : ∀ (y0 : zId), r = .inr (.inl y0) → zW l G MX1_isSpied 1005 24071 0 0 88 [] [] K F y0 L Q) (kq : ∀ z : Int32 × zId, r = .inr (.inr z) → Q (.inl (some (.int z.1))) K F z.2 L) : zW l G MX1_isSpied 1005 24071 0 0 2 [(0, .ref o0), (1, .int v1_1)] [] K F I_2 L Q := by
  unfold F_X1_isSpied_L2 at hF
  refine z_iload_n (n := 3) dX1_isSpied_2 rfl 1 rfl rfl ?_
  refine z_bipush (n := 5) (v := 20) dX1_isSpied_3 rfl (by decide) ?_
  refine z_icmp_gt (n := 8) (t := 88) dX1_isSpied_5 rfl (by decide) (fun hc => ?_) (fun hc => ?_)
  · replace hF := (if_pos hc).symm.trans hF
    refine z_sub [] rfl ?_
    have hF := Option.some.inj hF; subst hF
    exact kx I_2 rfl
  · replace hF := (if_neg hc).symm.trans hF
    refine z_iconst (n := 9) (v := 0) dX1_isSpied_8 rfl (by decide) ?_
    refine z_istore_nE (n := 10) (lv' := [(2, .int 0), (0, .ref o0), (1, .int v1_1)]) dX1_isSpied_9 rfl rfl rfl (by decide) rfl ?_
    refine z_sub [1, 2, 0] rfl ?_
    rcases zs1_some hF with ⟨t_72, e_70, hF⟩ | ⟨t_72, e_70, hF⟩
    · skip
      obtain ⟨u_56, rfl⟩ : ∃ z, z = t_72 := ⟨_, rfl⟩
      have H_73 : zW l G MX1_isSpied 1005 24071 0 0 71 [(0, .ref o0), (1, .int v1_1)] [] K F I_2 L Q := by
        refine z_aload_n (n := 72) dX1_isSpied_71 rfl 0 rfl rfl ?_
        obtain ⟨n_57, hk_58, hF⟩ := zka_some hF
        obtain ⟨hb_59, hF⟩ := zg_some hF
        obtain ⟨o_60, hr_61, hF⟩ := zb1_some hF
        refine z_getRS (n := 75) dX1_isSpied_72 rfl zok0 fX1_34_0 rfl hk_58 (Or.inl (zbig hb_59)) hr_61 ?_
        refine z_aload_n (n := 76) dX1_isSpied_75 rfl 0 rfl rfl ?_
        obtain ⟨o_62, hr_63, hF⟩ := zb1_some hF
        refine z_getRS (n := 79) dX1_isSpied_76 rfl zok0 fX1_10_0 rfl hk_58 (Or.inl (zbig hb_59)) hr_63 ?_
        obtain ⟨n_64, hk_65, hF⟩ := zka_some hF
        obtain ⟨I_67, c_66, hF⟩ := zb1_some hF
        refine z_cV (n := 82) (st := []) (C_X6_goes htr c_66) dX1_isSpied_79 rfl (lw_V q829 q830 q831 q130 q832) hcee_X6_goes rfl (by decide) hk_65 rfl rfl rfl (Nat.le_of_ble_eq_true rfl) (Nat.le_refl _) (Nat.le_refl _) ?_
        obtain ⟨v1_68, e_69, hF⟩ := zlet_ob hF
        refine z_iincE (n := 85) (w := 1) (v := v1_68) (lv' := [(1, .int v1_68), (0, .ref o0)]) dX1_isSpied_82 rfl 1 rfl (by decide) e_69 (by decide) rfl ?_
        refine z_goto (t := 2) dX1_isSpied_85 (by decide) ?_
        refine z_sub [1, 0] rfl ?_
        have hF := Option.some.inj hF; subst hF
        exact kl v1_68 I_67 rfl
      refine zloop_ind (P := fun s : Int32 => zW l G MX1_isSpied 1005 24071 0 0 10 [(0, .ref o0), (1, .int v1_1), (2, .int s)] [] K F I_2 L Q) (fun s r hb kl kr => ?_) e_70
      exact W_X1_isSpied_L10 (o0 := o0) htr hb (fun z0 e => kl _ e) (fun y0 e => by cases kr _ e; exact H_73) (fun z e => by cases kr _ e)
    · skip
      have hq := Option.some.inj hF
      refine zloop_ind (P := fun s : Int32 => zW l G MX1_isSpied 1005 24071 0 0 10 [(0, .ref o0), (1, .int v1_1), (2, .int s)] [] K F I_2 L Q) (fun s r hb kl kr => ?_) e_70
      exact W_X1_isSpied_L10 (o0 := o0) htr hb (fun z0 e => kl _ e) (fun y0 e => by cases kr _ e) (fun z e => by cases kr _ e; subst hq; exact (kq _ rfl))
set_option maxHeartbeats 1000000 in
theorem C_X1_isSpied {l : Launch} {G : zGt} (htr : l.stackTraces = false) {K : zKd} {F : zFd} {L : zLd} {o0 : Nat} {I : zId} {r : Int32 × zId} (hF : F_X1_isSpied K F o0 I = some r) : zMet l G yX1_isSpied (ws_ yX1_isSpied cX1_isSpied 3 (some .boolean)) 1005 24071 0 0 [.ref o0] K F I L (zQe (.inl (some (.int r.1))) K F r.2 L) := by
  refine zMet.of (by decide +kernel) htr (Nat.le_of_ble_eq_true rfl) ?_
  change zW l G MX1_isSpied 1005 24071 0 0 0 [(0, .ref o0)] [] K F I L (zQe (.inl (some (.int r.1))) K F r.2 L)
  unfold F_X1_isSpied at hF
  refine z_iconst (n := 1) (v := 0) dX1_isSpied_0 rfl (by decide) ?_
  refine z_istore_nE (n := 2) (lv' := [(1, .int 0), (0, .ref o0)]) dX1_isSpied_1 rfl rfl rfl (by decide) rfl ?_
  refine z_sub [1, 0] rfl ?_
  rcases zs1_some hF with ⟨t_77, e_75, hF⟩ | ⟨t_77, e_75, hF⟩
  · skip
    obtain ⟨I_74, rfl⟩ : ∃ z, z = t_77 := ⟨_, rfl⟩
    have H_78 : zW l G MX1_isSpied 1005 24071 0 0 88 [] [] K F I_74 L (zQe (.inl (some (.int r.1))) K F r.2 L) := by
      refine z_iconst (n := 89) (v := 1) dX1_isSpied_88 rfl (by decide) ?_
      have hF := Option.some.inj hF; subst hF
      exact z_iret dX1_isSpied_89 rfl rfl ⟨rfl, rfl, rfl, rfl, rfl⟩
    refine zloop_ind (P := fun s : Int32 × zId => zW l G MX1_isSpied 1005 24071 0 0 2 [(0, .ref o0), (1, .int s.1)] [] K F s.2 L (zQe (.inl (some (.int r.1))) K F r.2 L)) (fun s r hb kl kr => ?_) e_75
    exact W_X1_isSpied_L2 (o0 := o0) htr hb (fun z0 z1 e => kl _ e) (fun y0 e => by cases kr _ e; exact H_78) (fun z e => by cases kr _ e)
  · skip
    have hq := Option.some.inj hF
    refine zloop_ind (P := fun s : Int32 × zId => zW l G MX1_isSpied 1005 24071 0 0 2 [(0, .ref o0), (1, .int s.1)] [] K F s.2 L (zQe (.inl (some (.int r.1))) K F r.2 L)) (fun s r hb kl kr => ?_) e_75
    exact W_X1_isSpied_L2 (o0 := o0) htr hb (fun z0 z1 e => kl _ e) (fun y0 e => by cases kr _ e) (fun z e => by cases kr _ e; subst hq; exact ⟨rfl, rfl, rfl, rfl, rfl⟩)
abbrev MX1_isGuess : zM := (RX1, cX1_isGuess, 3, (some .boolean), "isGuess", [])
noncomputable def F_X1_isGuess (K : zKd) (F : zFd) (o0 : Nat) (a0 : Int32) (I : zId) : Option (Int32 × zId) := zlet (a0 / 30) (fun v2_1 => zka K o0 0 (fun n_3 => zg (decide (600 ≤ o0)) (zb1 (F o0 3) (fun o_6 => zka K o_6 5 (fun n_8 => zg (decide (600 ≤ o_6)) (zb1 (F o_6 3) (fun o_11 => zka K o_11 64 (fun n_13 => zg (zin v2_1 n_13) (if ¬ (I o_11 v2_1.toNatClampNeg) = ((a0 - a0 / 30 * 30) + 1) then zb1 (F o0 4) (fun o_16 => zb1 (F o0 3) (fun o_18 => zka K o_16 5 (fun n_20 => zb1 (F_X6_like K F o_16 o_18 I) (fun I_23 => zb1 (F o0 4) (fun o_24 => zka K o_24 5 (fun n_26 => zg (decide (600 ≤ o_24)) (zb1 (F o_24 3) (fun o_29 => zka K o_29 64 (fun n_31 => zg (zin v2_1 n_31) (zg (decide (600 ≤ o_29)) (zlet (zu I_23 o_29 v2_1.toNatClampNeg ((a0 - a0 / 30 * 30) + 1)) (fun I_35 => some (1, I_35))))))))))))) else some (0, I))))))))))
set_option maxHeartbeats 1000000 in
theorem C_X1_isGuess {l : Launch} {G : zGt} (htr : l.stackTraces = false) {K : zKd} {F : zFd} {L : zLd} {o0 : Nat} {a0 : Int32} {I : zId} {r : Int32 × zId} (hF : F_X1_isGuess K F o0 a0 I = some r) : zMet l G yX1_isGuess (ws_ yX1_isGuess cX1_isGuess 3 (some .boolean)) 2 81 0 0 [.ref o0, .int a0] K F I L (zQe (.inl (some (.int r.1))) K F r.2 L) := by
  refine zMet.of (by decide +kernel) htr (Nat.le_of_ble_eq_true rfl) ?_
  change zW l G MX1_isGuess 2 81 0 0 0 [(0, .ref o0), (1, .int a0)] [] K F I L (zQe (.inl (some (.int r.1))) K F r.2 L)
  unfold F_X1_isGuess at hF
  refine z_iload_n (n := 1) dX1_isGuess_0 rfl 1 rfl rfl ?_
  refine z_bipush (n := 3) (v := 30) dX1_isGuess_1 rfl (by decide) ?_
  refine z_idiv (n := 4) dX1_isGuess_3 rfl (by decide) ?_
  obtain ⟨v2_1, e_2, hF⟩ := zlet_ob hF
  refine z_istore_nE (n := 5) (lv' := [(2, .int v2_1), (0, .ref o0), (1, .int a0)]) dX1_isGuess_4 rfl e_2 rfl (by decide) rfl ?_
  refine z_aload_n (n := 6) dX1_isGuess_5 rfl 1 rfl rfl ?_
  obtain ⟨n_3, hk_4, hF⟩ := zka_some hF
  obtain ⟨hb_5, hF⟩ := zg_some hF
  obtain ⟨o_6, hr_7, hF⟩ := zb1_some hF
  refine z_getRS (n := 9) dX1_isGuess_6 rfl zok0 fX1_30_0 rfl hk_4 (Or.inl (zbig hb_5)) hr_7 ?_
  obtain ⟨n_8, hk_9, hF⟩ := zka_some hF
  obtain ⟨hb_10, hF⟩ := zg_some hF
  obtain ⟨o_11, hr_12, hF⟩ := zb1_some hF
  refine z_getRS (n := 12) dX1_isGuess_9 rfl zok5 fX1_200_5 rfl hk_9 (Or.inl (zbig hb_10)) hr_12 ?_
  refine z_iload_n (n := 13) dX1_isGuess_12 rfl 0 rfl rfl ?_
  obtain ⟨n_13, hk_14, hF⟩ := zka_some hF
  obtain ⟨h_15, hF⟩ := zg_some hF
  refine z_ialdK (n := 14) v2_1.toNatClampNeg rfl dX1_isGuess_13 rfl hk_14 (zin_ok h_15) ?_
  refine z_iload_n (n := 15) dX1_isGuess_14 rfl 2 rfl rfl ?_
  refine z_bipush (n := 17) (v := 30) dX1_isGuess_15 rfl (by decide) ?_
  refine z_irem (n := 18) dX1_isGuess_17 rfl (by decide) ?_
  refine z_iconst (n := 19) (v := 1) dX1_isGuess_18 rfl (by decide) ?_
  refine z_iadd (n := 20) dX1_isGuess_19 rfl ?_
  refine z_icmp_ne (n := 23) (t := 25) dX1_isGuess_20 rfl (by decide) (fun hc => ?_) (fun hc => ?_)
  · replace hF := (if_pos hc).symm.trans hF
    refine z_aload_n (n := 26) dX1_isGuess_25 rfl 1 rfl rfl ?_
    obtain ⟨o_16, hr_17, hF⟩ := zb1_some hF
    refine z_getRS (n := 29) dX1_isGuess_26 rfl zok0 fX1_34_0 rfl hk_4 (Or.inl (zbig hb_5)) hr_17 ?_
    refine z_aload_n (n := 30) dX1_isGuess_29 rfl 1 rfl rfl ?_
    obtain ⟨o_18, hr_19, hF⟩ := zb1_some hF
    refine z_getRS (n := 33) dX1_isGuess_30 rfl zok0 fX1_30_0 rfl hk_4 (Or.inl (zbig hb_5)) hr_19 ?_
    obtain ⟨n_20, hk_21, hF⟩ := zka_some hF
    obtain ⟨I_23, c_22, hF⟩ := zb1_some hF
    refine z_cV (n := 36) (st := []) (C_X6_like htr c_22) dX1_isGuess_33 rfl (lw_V q918 q821 q822 q130 q823) hcee_X6_like rfl (by decide) hk_21 rfl rfl rfl (Nat.le_of_ble_eq_true rfl) (Nat.le_refl _) (Nat.le_refl _) ?_
    refine z_aload_n (n := 37) dX1_isGuess_36 rfl 1 rfl rfl ?_
    obtain ⟨o_24, hr_25, hF⟩ := zb1_some hF
    refine z_getRS (n := 40) dX1_isGuess_37 rfl zok0 fX1_34_0 rfl hk_4 (Or.inl (zbig hb_5)) hr_25 ?_
    obtain ⟨n_26, hk_27, hF⟩ := zka_some hF
    obtain ⟨hb_28, hF⟩ := zg_some hF
    obtain ⟨o_29, hr_30, hF⟩ := zb1_some hF
    refine z_getRS (n := 43) dX1_isGuess_40 rfl zok5 fX1_200_5 rfl hk_27 (Or.inl (zbig hb_28)) hr_30 ?_
    refine z_iload_n (n := 44) dX1_isGuess_43 rfl 0 rfl rfl ?_
    refine z_iload_n (n := 45) dX1_isGuess_44 rfl 2 rfl rfl ?_
    refine z_bipush (n := 47) (v := 30) dX1_isGuess_45 rfl (by decide) ?_
    refine z_irem (n := 48) dX1_isGuess_47 rfl (by decide) ?_
    refine z_iconst (n := 49) (v := 1) dX1_isGuess_48 rfl (by decide) ?_
    refine z_iadd (n := 50) dX1_isGuess_49 rfl ?_
    obtain ⟨n_31, hk_32, hF⟩ := zka_some hF
    obtain ⟨h_33, hF⟩ := zg_some hF
    obtain ⟨hb_34, hF⟩ := zg_some hF
    obtain ⟨I_35, e_36, hF⟩ := zlet_ob hF
    refine z_iastK (n := 51) v2_1.toNatClampNeg rfl dX1_isGuess_50 rfl hk_32 (zbig hb_34) (zin_ok h_33) e_36 ?_
    refine z_iconst (n := 52) (v := 1) dX1_isGuess_51 rfl (by decide) ?_
    have hF := Option.some.inj hF; subst hF
    exact z_iret dX1_isGuess_52 rfl rfl ⟨rfl, rfl, rfl, rfl, rfl⟩
  · replace hF := (if_neg hc).symm.trans hF
    refine z_iconst (n := 24) (v := 0) dX1_isGuess_23 rfl (by decide) ?_
    have hF := Option.some.inj hF; subst hF
    exact z_iret dX1_isGuess_24 rfl rfl ⟨rfl, rfl, rfl, rfl, rfl⟩
theorem hcee_X1_guesses : zCee yX1_guesses RX1 0 := ⟨rfl, by decide +kernel, by decide +kernel, by decide +kernel⟩
theorem hcee_X1_isGuess : zCee yX1_isGuess RX1 1 := ⟨rfl, by decide +kernel, by decide +kernel, by decide +kernel⟩
theorem hcee_X1_isSpied : zCee yX1_isSpied RX1 0 := ⟨rfl, by decide +kernel, by decide +kernel, by decide +kernel⟩
abbrev MX1_hidden : zM := (RX1, cX1_hidden, 5, (some .int), "hidden", [])
noncomputable def F_X1_hidden_L45 (K : zKd) (F : zFd) (o0 : Nat) (v2_9 : Int32) (v3_10 : Int32) (v4_11 : Int32) (I_12 : zId) : Option ((Int32 × Int32 × Int32 × zId) ⊕ (Int32 × Int32 × zId)) := zka K o0 0 (fun n_13 => zb1 (F_X1_guesses K F o0 I_12) (fun x_16 => if x_16 ≤ v4_11 then some (.inr ((v2_9, v3_10, I_12))) else zb2 (F_X1_isGuess K F o0 v4_11 I_12) (fun x_18 I_19 => if x_18 = 0 then zlet (v4_11 + 1) (fun v4_20 => some (.inl (v2_9, v3_10, v4_20, I_19))) else zb2 (F_X1_isSpied K F o0 I_19) (fun x_23 I_24 => if ¬ x_23 = 0 then zlet (v2_9 + 1) (fun v2_25 => if ¬ v3_10 = (-1) then zlet (v4_11 + 1) (fun v4_27 => some (.inl (v2_25, v3_10, v4_27, I_24))) else zlet ((((v4_11 / 30) * 100) + (v4_11 - v4_11 / 30 * 30)) + 1) (fun v3_29 => zlet (v4_11 + 1) (fun v4_31 => some (.inl (v2_25, v3_29, v4_31, I_24))))) else zlet (v4_11 + 1) (fun v4_33 => some (.inl (v2_9, v3_10, v4_33, I_24)))))))
noncomputable def F_X1_hidden (K : zKd) (F : zFd) (o0 : Nat) (a0 : Int32) (I : zId) : Option ((Int32 ⊕ (String × Nat)) × zId) := zb1 (F_X1_within K F a0 0 2 I) (fun x_2 => zb2 (F_X1_there K F x_2 I) (fun s_4 I_5 => zsum s_4 (fun x_7 => if ¬ a0 = 2 then zb1 (zloop (fun s : Int32 × Int32 × Int32 × zId => F_X1_hidden_L45 K F o0 s.1 s.2.1 s.2.2.1 s.2.2.2) (0, (-1), 0, I_5)) (zn3 (fun v2_35 v3_36 I_37 => if ¬ a0 = 0 then some (.inl v3_36, I_37) else some (.inl v2_35, I_37))) else zka K o0 0 (fun n_41 => zg (decide (600 ≤ o0)) (zb1 (F o0 4) (fun o_44 => zb1 (F o0 3) (fun o_46 => zka K o_44 5 (fun n_48 => zb1 (F_X6_like K F o_44 o_46 I_5) (fun I_51 => zb2 (F_X1_isSpied K F o0 I_51) (fun x_53 I_54 => if x_53 = 0 then some (.inl 0, I_54) else some (.inl 1, I_54))))))))) (fun w_8 => some (.inr w_8, I_5))))
set_option maxHeartbeats 1000000 in
theorem W_X1_hidden_L45 {l : Launch} {G : zGt} (htr : l.stackTraces = false) {K : zKd} {F : zFd} {L : zLd} {Q : zQt} {mE wE : Nat} {o0 : Nat} {a0 : Int32} {v2_9 : Int32} {v3_10 : Int32} {v4_11 : Int32} {I_12 : zId} {r : (Int32 × Int32 × Int32 × zId) ⊕ (Int32 × Int32 × zId)} (hF : F_X1_hidden_L45 K F o0 v2_9 v3_10 v4_11 I_12 = some r) (kl : ∀ (z0 : Int32) (z1 : Int32) (z2 : Int32) (z3 : zId), r = .inl (z0, z1, z2, z3) → zW l G MX1_hidden 1006 24093 mE wE 45 [(0, .ref o0), (1, .int a0), (2, .int z0), (3, .int z1), (4, .int z2)] [] K F z3 L Q) (kx : ∀ (y0 : Int32) (y1 : Int32) (y2 : zId), r = .inr (y0, y1, y2) → zW l G MX1_hidden 1006 24093 mE wE 104 [(1, .int a0), (2, .int y0), (3, .int y1)] [] K F y2 L Q)  : zW l G MX1_hidden 1006 24093 mE wE 45 [(0, .ref o0), (1, .int a0), (2, .int v2_9), (3, .int v3_10), (4, .int v4_11)] [] K F I_12 L Q := by
  unfold F_X1_hidden_L45 at hF
  refine z_iload (n := 47) dX1_hidden_45 rfl 4 rfl ?_
  refine z_aload_n (n := 48) dX1_hidden_47 rfl 0 rfl rfl ?_
  obtain ⟨n_13, hk_14, hF⟩ := zka_some hF
  obtain ⟨x_16, c_15, hF⟩ := zb1_some hF
  refine z_cV (n := 51) (st := [.int v4_11]) (C_X1_guesses htr c_15) dX1_hidden_48 rfl (lw_V q1615 q1617 qs42 q105 q1618) hcee_X1_guesses rfl (by decide) hk_14 rfl rfl rfl (Nat.le_of_ble_eq_true rfl) (Nat.le_refl _) (Nat.le_refl _) ?_
  refine z_icmp_ge (n := 54) (t := 104) dX1_hidden_51 rfl (by decide) (fun hc => ?_) (fun hc => ?_)
  · replace hF := (if_pos hc).symm.trans hF
    refine z_sub [1, 2, 3] rfl ?_
    have hF := Option.some.inj hF; subst hF
    exact kx v2_9 v3_10 I_12 rfl
  · replace hF := (if_neg hc).symm.trans hF
    refine z_aload_n (n := 55) dX1_hidden_54 rfl 0 rfl rfl ?_
    refine z_iload (n := 57) dX1_hidden_55 rfl 4 rfl ?_
    obtain ⟨x_18, I_19, c_17, hF⟩ := zb2_some hF
    refine z_cV (n := 60) (st := []) (C_X1_isGuess htr c_17) dX1_hidden_57 rfl (lw_V q1619 q1621 qs43 q105 q1622) hcee_X1_isGuess rfl (by decide) hk_14 rfl rfl rfl (Nat.le_of_ble_eq_true rfl) (Nat.le_refl _) (Nat.le_refl _) ?_
    refine z_if_eq (n := 63) (t := 98) dX1_hidden_60 rfl (by decide) (fun hc => ?_) (fun hc => ?_)
    · replace hF := (if_pos hc).symm.trans hF
      obtain ⟨v4_20, e_21, hF⟩ := zlet_ob hF
      refine z_iincE (n := 101) (w := 1) (v := v4_20) (lv' := [(4, .int v4_20), (0, .ref o0), (1, .int a0), (2, .int v2_9), (3, .int v3_10)]) dX1_hidden_98 rfl 4 rfl (by decide) e_21 (by decide) rfl ?_
      refine z_goto (t := 45) dX1_hidden_101 (by decide) ?_
      refine z_sub [1, 2, 3, 4, 0] rfl ?_
      have hF := Option.some.inj hF; subst hF
      exact kl v2_9 v3_10 v4_20 I_19 rfl
    · replace hF := (if_neg hc).symm.trans hF
      refine z_aload_n (n := 64) dX1_hidden_63 rfl 0 rfl rfl ?_
      obtain ⟨x_23, I_24, c_22, hF⟩ := zb2_some hF
      refine z_cV (n := 67) (st := []) (C_X1_isSpied htr c_22) dX1_hidden_64 rfl (lw_V q1611 q1613 qs41 q105 q1614) hcee_X1_isSpied rfl (by decide) hk_14 rfl rfl rfl (Nat.le_of_ble_eq_true rfl) (Nat.le_refl _) (Nat.le_refl _) ?_
      refine z_if_ne (n := 70) (t := 73) dX1_hidden_67 rfl (by decide) (fun hc => ?_) (fun hc => ?_)
      · replace hF := (if_pos hc).symm.trans hF
        obtain ⟨v2_25, e_26, hF⟩ := zlet_ob hF
        refine z_iincE (n := 76) (w := 1) (v := v2_25) (lv' := [(2, .int v2_25), (0, .ref o0), (1, .int a0), (3, .int v3_10), (4, .int v4_11)]) dX1_hidden_73 rfl 2 rfl (by decide) e_26 (by decide) rfl ?_
        refine z_iload_n (n := 77) dX1_hidden_76 rfl 3 rfl rfl ?_
        refine z_iconst (n := 78) (v := (-1)) dX1_hidden_77 rfl (by decide) ?_
        refine z_icmp_ne (n := 81) (t := 98) dX1_hidden_78 rfl (by decide) (fun hc => ?_) (fun hc => ?_)
        · replace hF := (if_pos hc).symm.trans hF
          obtain ⟨v4_27, e_28, hF⟩ := zlet_ob hF
          refine z_iincE (n := 101) (w := 1) (v := v4_27) (lv' := [(4, .int v4_27), (2, .int v2_25), (0, .ref o0), (1, .int a0), (3, .int v3_10)]) dX1_hidden_98 rfl 4 rfl (by decide) e_28 (by decide) rfl ?_
          refine z_goto (t := 45) dX1_hidden_101 (by decide) ?_
          refine z_sub [2, 3, 1, 4, 0] rfl ?_
          have hF := Option.some.inj hF; subst hF
          exact kl v2_25 v3_10 v4_27 I_24 rfl
        · replace hF := (if_neg hc).symm.trans hF
          refine z_iload (n := 83) dX1_hidden_81 rfl 4 rfl ?_
          refine z_bipush (n := 85) (v := 30) dX1_hidden_83 rfl (by decide) ?_
          refine z_idiv (n := 86) dX1_hidden_85 rfl (by decide) ?_
          refine z_bipush (n := 88) (v := 100) dX1_hidden_86 rfl (by decide) ?_
          refine z_imul (n := 89) dX1_hidden_88 rfl ?_
          refine z_iload (n := 91) dX1_hidden_89 rfl 4 rfl ?_
          refine z_bipush (n := 93) (v := 30) dX1_hidden_91 rfl (by decide) ?_
          refine z_irem (n := 94) dX1_hidden_93 rfl (by decide) ?_
          refine z_iadd (n := 95) dX1_hidden_94 rfl ?_
          refine z_iconst (n := 96) (v := 1) dX1_hidden_95 rfl (by decide) ?_
          refine z_iadd (n := 97) dX1_hidden_96 rfl ?_
          obtain ⟨v3_29, e_30, hF⟩ := zlet_ob hF
          refine z_istore_nE (n := 98) (lv' := [(3, .int v3_29), (2, .int v2_25), (0, .ref o0), (1, .int a0), (4, .int v4_11)]) dX1_hidden_97 rfl e_30 rfl (by decide) rfl ?_
          obtain ⟨v4_31, e_32, hF⟩ := zlet_ob hF
          refine z_iincE (n := 101) (w := 1) (v := v4_31) (lv' := [(4, .int v4_31), (3, .int v3_29), (2, .int v2_25), (0, .ref o0), (1, .int a0)]) dX1_hidden_98 rfl 4 rfl (by decide) e_32 (by decide) rfl ?_
          refine z_goto (t := 45) dX1_hidden_101 (by decide) ?_
          refine z_sub [3, 4, 2, 1, 0] rfl ?_
          have hF := Option.some.inj hF; subst hF
          exact kl v2_25 v3_29 v4_31 I_24 rfl
      · replace hF := (if_neg hc).symm.trans hF
        refine z_goto (t := 98) dX1_hidden_70 (by decide) ?_
        obtain ⟨v4_33, e_34, hF⟩ := zlet_ob hF
        refine z_iincE (n := 101) (w := 1) (v := v4_33) (lv' := [(4, .int v4_33), (0, .ref o0), (1, .int a0), (2, .int v2_9), (3, .int v3_10)]) dX1_hidden_98 rfl 4 rfl (by decide) e_34 (by decide) rfl ?_
        refine z_goto (t := 45) dX1_hidden_101 (by decide) ?_
        refine z_sub [1, 2, 3, 4, 0] rfl ?_
        have hF := Option.some.inj hF; subst hF
        exact kl v2_9 v3_10 v4_33 I_24 rfl
set_option maxHeartbeats 1000000 in
theorem C_X1_hidden {l : Launch} {G : zGt} (htr : l.stackTraces = false) {K : zKd} {F : zFd} {L : zLd} {o0 : Nat} {a0 : Int32} {I : zId} {r : (Int32 ⊕ (String × Nat)) × zId} (hF : F_X1_hidden K F o0 a0 I = some r) : zMet l G yX1_hidden (ws_ yX1_hidden cX1_hidden 5 (some .int)) 1006 24093 (zxc r.1) (zxs r.1) [.ref o0, .int a0] K F I L (zQe (zoi r.1) K F r.2 L) := by
  refine zMet.of (by decide +kernel) htr (Nat.le_of_ble_eq_true rfl) ?_
  change zW l G MX1_hidden 1006 24093 (zxc r.1) (zxs r.1) 0 [(0, .ref o0), (1, .int a0)] [] K F I L (zQe (zoi r.1) K F r.2 L)
  unfold F_X1_hidden at hF
  refine z_iload_n (n := 1) dX1_hidden_0 rfl 1 rfl rfl ?_
  refine z_iconst (n := 2) (v := 0) dX1_hidden_1 rfl (by decide) ?_
  refine z_iconst (n := 3) (v := 2) dX1_hidden_2 rfl (by decide) ?_
  obtain ⟨x_2, c_1, hF⟩ := zb1_some hF
  refine z_cS (n := 6) (st := []) (C_X1_within htr c_1) dX1_hidden_3 rfl (lw_S q786 q787 q105 q788) hcee_X1_within rfl (by decide) rfl (Nat.le_of_ble_eq_true rfl) (Nat.le_refl _) (Nat.le_refl _) ?_
  obtain ⟨s_4, I_5, c_3, hF⟩ := zb2_some hF
  rcases zsum_some hF with ⟨x_7, e_6, hF⟩ | ⟨w_8, e_6, hF⟩
  rotate_left
  · first | rw [e_6] at c_3 ⊢ | rw [e_6] at c_3
    have hF := Option.some.inj hF; subst hF
    refine z_cSx (n := 9) (mc2 := 0) (ms2 := 0) (st := []) (C_X1_there htr c_3) dX1_hidden_6 rfl (lw_S q1367 q1368 q105 q1369) hcee_X1_there rfl (by decide) rfl (Nat.le_of_ble_eq_true rfl) (Nat.le_refl _) (Nat.le_refl _) ?_
    exact z_out rfl ⟨rfl, rfl, rfl, rfl, rfl⟩
  first | rw [e_6] at c_3 ⊢ | rw [e_6] at c_3
  refine z_cS (n := 9) (st := []) (C_X1_there htr c_3) dX1_hidden_6 rfl (lw_S q1367 q1368 q105 q1369) hcee_X1_there rfl (by decide) rfl (Nat.le_of_ble_eq_true rfl) (Nat.le_refl _) (Nat.le_refl _) ?_
  refine z_iload_n (n := 10) dX1_hidden_9 rfl 1 rfl rfl ?_
  refine z_iconst (n := 11) (v := 2) dX1_hidden_10 rfl (by decide) ?_
  refine z_icmp_ne (n := 14) (t := 38) dX1_hidden_11 rfl (by decide) (fun hc => ?_) (fun hc => ?_)
  · replace hF := (if_pos hc).symm.trans hF
    refine z_iconst (n := 39) (v := 0) dX1_hidden_38 rfl (by decide) ?_
    refine z_istore_nE (n := 40) (lv' := [(2, .int 0), (0, .ref o0), (1, .int a0)]) dX1_hidden_39 rfl rfl rfl (by decide) rfl ?_
    refine z_iconst (n := 41) (v := (-1)) dX1_hidden_40 rfl (by decide) ?_
    refine z_istore_nE (n := 42) (lv' := [(3, .int (-1)), (2, .int 0), (0, .ref o0), (1, .int a0)]) dX1_hidden_41 rfl rfl rfl (by decide) rfl ?_
    refine z_iconst (n := 43) (v := 0) dX1_hidden_42 rfl (by decide) ?_
    refine z_istoreE (n := 45) (lv' := [(4, .int 0), (3, .int (-1)), (2, .int 0), (0, .ref o0), (1, .int a0)]) dX1_hidden_43 rfl rfl (by decide) rfl ?_
    refine z_sub [3, 4, 2, 1, 0] rfl ?_
    obtain ⟨t_39, e_38, hF⟩ := zb1_some hF
    obtain ⟨v2_35, v3_36, I_37⟩ := t_39
    dsimp only [zn3] at hF
    have H_40 : zW l G MX1_hidden 1006 24093 (zxc r.1) (zxs r.1) 104 [(1, .int a0), (2, .int v2_35), (3, .int v3_36)] [] K F I_37 L (zQe (zoi r.1) K F r.2 L) := by
      refine z_iload_n (n := 105) dX1_hidden_104 rfl 0 rfl rfl ?_
      refine z_if_ne (n := 108) (t := 112) dX1_hidden_105 rfl (by decide) (fun hc => ?_) (fun hc => ?_)
      · replace hF := (if_pos hc).symm.trans hF
        refine z_iload_n (n := 113) dX1_hidden_112 rfl 2 rfl rfl ?_
        have hF := Option.some.inj hF; subst hF
        exact z_iret dX1_hidden_113 rfl rfl ⟨rfl, rfl, rfl, rfl, rfl⟩
      · replace hF := (if_neg hc).symm.trans hF
        refine z_iload_n (n := 109) dX1_hidden_108 rfl 1 rfl rfl ?_
        refine z_goto (t := 113) dX1_hidden_109 (by decide) ?_
        have hF := Option.some.inj hF; subst hF
        exact z_iret dX1_hidden_113 rfl rfl ⟨rfl, rfl, rfl, rfl, rfl⟩
    refine zloop_ind (P := fun s : Int32 × Int32 × Int32 × zId => zW l G MX1_hidden 1006 24093 (zxc r.1) (zxs r.1) 45 [(0, .ref o0), (1, .int a0), (2, .int s.1), (3, .int s.2.1), (4, .int s.2.2.1)] [] K F s.2.2.2 L (zQe (zoi r.1) K F r.2 L)) (fun s r hb kl kr => ?_) e_38
    exact W_X1_hidden_L45 (o0 := o0) (a0 := a0) htr hb (fun z0 z1 z2 z3 e => kl _ e) (fun y0 y1 y2 e => by cases kr _ e; exact H_40)
  · replace hF := (if_neg hc).symm.trans hF
    refine z_aload_n (n := 15) dX1_hidden_14 rfl 0 rfl rfl ?_
    obtain ⟨n_41, hk_42, hF⟩ := zka_some hF
    obtain ⟨hb_43, hF⟩ := zg_some hF
    obtain ⟨o_44, hr_45, hF⟩ := zb1_some hF
    refine z_getRS (n := 18) dX1_hidden_15 rfl zok0 fX1_34_0 rfl hk_42 (Or.inl (zbig hb_43)) hr_45 ?_
    refine z_aload_n (n := 19) dX1_hidden_18 rfl 0 rfl rfl ?_
    obtain ⟨o_46, hr_47, hF⟩ := zb1_some hF
    refine z_getRS (n := 22) dX1_hidden_19 rfl zok0 fX1_30_0 rfl hk_42 (Or.inl (zbig hb_43)) hr_47 ?_
    obtain ⟨n_48, hk_49, hF⟩ := zka_some hF
    obtain ⟨I_51, c_50, hF⟩ := zb1_some hF
    refine z_cV (n := 25) (st := []) (C_X6_like htr c_50) dX1_hidden_22 rfl (lw_V q918 q821 q822 q130 q823) hcee_X6_like rfl (by decide) hk_49 rfl rfl rfl (Nat.le_of_ble_eq_true rfl) (Nat.le_refl _) (Nat.le_refl _) ?_
    refine z_aload_n (n := 26) dX1_hidden_25 rfl 0 rfl rfl ?_
    obtain ⟨x_53, I_54, c_52, hF⟩ := zb2_some hF
    refine z_cV (n := 29) (st := []) (C_X1_isSpied htr c_52) dX1_hidden_26 rfl (lw_V q1611 q1613 qs41 q105 q1614) hcee_X1_isSpied rfl (by decide) hk_42 rfl rfl rfl (Nat.le_of_ble_eq_true rfl) (Nat.le_refl _) (Nat.le_refl _) ?_
    refine z_if_eq (n := 32) (t := 36) dX1_hidden_29 rfl (by decide) (fun hc => ?_) (fun hc => ?_)
    · replace hF := (if_pos hc).symm.trans hF
      refine z_iconst (n := 37) (v := 0) dX1_hidden_36 rfl (by decide) ?_
      have hF := Option.some.inj hF; subst hF
      exact z_iret dX1_hidden_37 rfl rfl ⟨rfl, rfl, rfl, rfl, rfl⟩
    · replace hF := (if_neg hc).symm.trans hF
      refine z_iconst (n := 33) (v := 1) dX1_hidden_32 rfl (by decide) ?_
      refine z_goto (t := 37) dX1_hidden_33 (by decide) ?_
      have hF := Option.some.inj hF; subst hF
      exact z_iret dX1_hidden_37 rfl rfl ⟨rfl, rfl, rfl, rfl, rfl⟩
theorem hcee_X6_allDead : zCee yX6_allDead RX6 1 := ⟨rfl, by decide +kernel, by decide +kernel, by decide +kernel⟩
abbrev MX1_hostages : zM := (RX1, cX1_hostages, 2, (some .int), "hostages", [])
noncomputable def F_X1_hostages (K : zKd) (F : zFd) (o0 : Nat) (a0 : Int32) (I : zId) : Option ((Int32 ⊕ (String × Nat)) × zId) := zb1 (F_X1_within K F a0 0 50 I) (fun x_2 => zb2 (F_X1_right K F x_2 I) (fun s_4 I_5 => zsum s_4 (fun x_7 => zka K o0 0 (fun n_9 => zg (decide (600 ≤ o0)) (zb1 (F o0 4) (fun o_12 => zb1 (F o0 3) (fun o_14 => zka K o_12 5 (fun n_16 => zb1 (F_X6_like K F o_12 o_14 I_5) (fun I_19 => zb1 (F_X1_goesBy K F o0 a0 I_19) (fun I_21 => zb1 (F o0 4) (fun o_22 => zb1 (F_X1_bands K F o0 I_21) (fun x_25 => zka K o_22 5 (fun n_26 => zb1 (F_X6_allDead K F o_22 x_25 I_21) (fun x_29 => zb1 (F o0 3) (fun o_30 => zb1 (F_X1_bands K F o0 I_21) (fun x_33 => zka K o_30 5 (fun n_34 => zb1 (F_X6_allDead K F o_30 x_33 I_21) (fun x_37 => some (.inl (x_29 - x_37), I_21))))))))))))))))) (fun w_8 => some (.inr w_8, I_5))))
set_option maxHeartbeats 1000000 in
theorem C_X1_hostages {l : Launch} {G : zGt} (htr : l.stackTraces = false) {K : zKd} {F : zFd} {L : zLd} {o0 : Nat} {a0 : Int32} {I : zId} {r : (Int32 ⊕ (String × Nat)) × zId} (hF : F_X1_hostages K F o0 a0 I = some r) : zMet l G yX1_hostages (ws_ yX1_hostages cX1_hostages 2 (some .int)) 1006 24093 (zxc r.1) (zxs r.1) [.ref o0, .int a0] K F I L (zQe (zoi r.1) K F r.2 L) := by
  refine zMet.of (by decide +kernel) htr (Nat.le_of_ble_eq_true rfl) ?_
  change zW l G MX1_hostages 1006 24093 (zxc r.1) (zxs r.1) 0 [(0, .ref o0), (1, .int a0)] [] K F I L (zQe (zoi r.1) K F r.2 L)
  unfold F_X1_hostages at hF
  refine z_iload_n (n := 1) dX1_hostages_0 rfl 1 rfl rfl ?_
  refine z_iconst (n := 2) (v := 0) dX1_hostages_1 rfl (by decide) ?_
  refine z_bipush (n := 4) (v := 50) dX1_hostages_2 rfl (by decide) ?_
  obtain ⟨x_2, c_1, hF⟩ := zb1_some hF
  refine z_cS (n := 7) (st := []) (C_X1_within htr c_1) dX1_hostages_4 rfl (lw_S q786 q787 q105 q788) hcee_X1_within rfl (by decide) rfl (Nat.le_of_ble_eq_true rfl) (Nat.le_refl _) (Nat.le_refl _) ?_
  obtain ⟨s_4, I_5, c_3, hF⟩ := zb2_some hF
  rcases zsum_some hF with ⟨x_7, e_6, hF⟩ | ⟨w_8, e_6, hF⟩
  rotate_left
  · first | rw [e_6] at c_3 ⊢ | rw [e_6] at c_3
    have hF := Option.some.inj hF; subst hF
    refine z_cSx (n := 10) (mc2 := 0) (ms2 := 0) (st := []) (C_X1_right htr c_3) dX1_hostages_7 rfl (lw_S q954 q955 q105 q956) hcee_X1_right rfl (by decide) rfl (Nat.le_of_ble_eq_true rfl) (Nat.le_refl _) (Nat.le_refl _) ?_
    exact z_out rfl ⟨rfl, rfl, rfl, rfl, rfl⟩
  first | rw [e_6] at c_3 ⊢ | rw [e_6] at c_3
  refine z_cS (n := 10) (st := []) (C_X1_right htr c_3) dX1_hostages_7 rfl (lw_S q954 q955 q105 q956) hcee_X1_right rfl (by decide) rfl (Nat.le_of_ble_eq_true rfl) (Nat.le_refl _) (Nat.le_refl _) ?_
  refine z_aload_n (n := 11) dX1_hostages_10 rfl 0 rfl rfl ?_
  obtain ⟨n_9, hk_10, hF⟩ := zka_some hF
  obtain ⟨hb_11, hF⟩ := zg_some hF
  obtain ⟨o_12, hr_13, hF⟩ := zb1_some hF
  refine z_getRS (n := 14) dX1_hostages_11 rfl zok0 fX1_34_0 rfl hk_10 (Or.inl (zbig hb_11)) hr_13 ?_
  refine z_aload_n (n := 15) dX1_hostages_14 rfl 0 rfl rfl ?_
  obtain ⟨o_14, hr_15, hF⟩ := zb1_some hF
  refine z_getRS (n := 18) dX1_hostages_15 rfl zok0 fX1_30_0 rfl hk_10 (Or.inl (zbig hb_11)) hr_15 ?_
  obtain ⟨n_16, hk_17, hF⟩ := zka_some hF
  obtain ⟨I_19, c_18, hF⟩ := zb1_some hF
  refine z_cV (n := 21) (st := []) (C_X6_like htr c_18) dX1_hostages_18 rfl (lw_V q918 q821 q822 q130 q823) hcee_X6_like rfl (by decide) hk_17 rfl rfl rfl (Nat.le_of_ble_eq_true rfl) (Nat.le_refl _) (Nat.le_refl _) ?_
  refine z_aload_n (n := 22) dX1_hostages_21 rfl 0 rfl rfl ?_
  refine z_iload_n (n := 23) dX1_hostages_22 rfl 1 rfl rfl ?_
  obtain ⟨I_21, c_20, hF⟩ := zb1_some hF
  refine z_cV (n := 26) (st := []) (C_X1_goesBy htr c_20) dX1_hostages_23 rfl (lw_V q1469 q1471 qs35 q105 q1472) hcee_X1_goesBy rfl (by decide) hk_10 rfl rfl rfl (Nat.le_of_ble_eq_true rfl) (Nat.le_refl _) (Nat.le_refl _) ?_
  refine z_aload_n (n := 27) dX1_hostages_26 rfl 0 rfl rfl ?_
  obtain ⟨o_22, hr_23, hF⟩ := zb1_some hF
  refine z_getRS (n := 30) dX1_hostages_27 rfl zok0 fX1_34_0 rfl hk_10 (Or.inl (zbig hb_11)) hr_23 ?_
  refine z_aload_n (n := 31) dX1_hostages_30 rfl 0 rfl rfl ?_
  obtain ⟨x_25, c_24, hF⟩ := zb1_some hF
  refine z_cV (n := 34) (st := [.ref o_22]) (C_X1_bands htr c_24) dX1_hostages_31 rfl (lw_V q1385 q1387 qs30 q105 q1388) hcee_X1_bands rfl (by decide) hk_10 rfl rfl rfl (Nat.le_of_ble_eq_true rfl) (Nat.le_refl _) (Nat.le_refl _) ?_
  obtain ⟨n_26, hk_27, hF⟩ := zka_some hF
  obtain ⟨x_29, c_28, hF⟩ := zb1_some hF
  refine z_cV (n := 37) (st := []) (C_X6_allDead htr c_28) dX1_hostages_34 rfl (lw_V q1494 q1495 q1496 q130 q1497) hcee_X6_allDead rfl (by decide) hk_27 rfl rfl rfl (Nat.le_of_ble_eq_true rfl) (Nat.le_refl _) (Nat.le_refl _) ?_
  refine z_aload_n (n := 38) dX1_hostages_37 rfl 0 rfl rfl ?_
  obtain ⟨o_30, hr_31, hF⟩ := zb1_some hF
  refine z_getRS (n := 41) dX1_hostages_38 rfl zok0 fX1_30_0 rfl hk_10 (Or.inl (zbig hb_11)) hr_31 ?_
  refine z_aload_n (n := 42) dX1_hostages_41 rfl 0 rfl rfl ?_
  obtain ⟨x_33, c_32, hF⟩ := zb1_some hF
  refine z_cV (n := 45) (st := [.ref o_30, .int x_29]) (C_X1_bands htr c_32) dX1_hostages_42 rfl (lw_V q1385 q1387 qs30 q105 q1388) hcee_X1_bands rfl (by decide) hk_10 rfl rfl rfl (Nat.le_of_ble_eq_true rfl) (Nat.le_refl _) (Nat.le_refl _) ?_
  obtain ⟨n_34, hk_35, hF⟩ := zka_some hF
  obtain ⟨x_37, c_36, hF⟩ := zb1_some hF
  refine z_cV (n := 48) (st := [.int x_29]) (C_X6_allDead htr c_36) dX1_hostages_45 rfl (lw_V q1494 q1495 q1496 q130 q1497) hcee_X6_allDead rfl (by decide) hk_35 rfl rfl rfl (Nat.le_of_ble_eq_true rfl) (Nat.le_refl _) (Nat.le_refl _) ?_
  refine z_isub (n := 49) dX1_hostages_48 rfl ?_
  have hF := Option.some.inj hF; subst hF
  exact z_iret dX1_hostages_49 rfl rfl ⟨rfl, rfl, rfl, rfl, rfl⟩
theorem fX1_23_0 : zFld RX1 23 0 2 := ⟨_, rfl, by decide, _, Or.inl q735, Or.inl rfl⟩
theorem fX1_132_0 : zFld RX1 132 0 5 := ⟨_, rfl, by decide, _, Or.inl q738, Or.inl rfl⟩
theorem hcee_X5_like : zCee yX5_like RX5 1 := ⟨rfl, by decide +kernel, by decide +kernel, by decide +kernel⟩
abbrev MX1_image : zM := (RX1, cX1_image, 1, none, "image", [])
noncomputable def F_X1_image (K : zKd) (F : zFd) (o0 : Nat) (I : zId) : Option (zId) := zka K o0 0 (fun n_1 => zg (decide (600 ≤ o0)) (zb1 (F o0 2) (fun o_4 => zb1 (F o0 1) (fun o_6 => zka K o_4 4 (fun n_8 => zb1 (F_X5_like K F o_4 o_6 I) (fun I_11 => zlet (zu I_11 o0 5 1) (fun I_12 => some I_12)))))))
set_option maxHeartbeats 1000000 in
theorem C_X1_image {l : Launch} {G : zGt} (htr : l.stackTraces = false) {K : zKd} {F : zFd} {L : zLd} {o0 : Nat} {I : zId} {r : zId} (hF : F_X1_image K F o0 I = some r) : zMet l G yX1_image (ws_ yX1_image cX1_image 1 none) 4 103 0 0 [.ref o0] K F I L (zQe (.inl none) K F r L) := by
  refine zMet.of (by decide +kernel) htr (Nat.le_of_ble_eq_true rfl) ?_
  change zW l G MX1_image 4 103 0 0 0 [(0, .ref o0)] [] K F I L (zQe (.inl none) K F r L)
  unfold F_X1_image at hF
  refine z_aload_n (n := 1) dX1_image_0 rfl 0 rfl rfl ?_
  obtain ⟨n_1, hk_2, hF⟩ := zka_some hF
  obtain ⟨hb_3, hF⟩ := zg_some hF
  obtain ⟨o_4, hr_5, hF⟩ := zb1_some hF
  refine z_getRS (n := 4) dX1_image_1 rfl zok0 fX1_23_0 rfl hk_2 (Or.inl (zbig hb_3)) hr_5 ?_
  refine z_aload_n (n := 5) dX1_image_4 rfl 0 rfl rfl ?_
  obtain ⟨o_6, hr_7, hF⟩ := zb1_some hF
  refine z_getRS (n := 8) dX1_image_5 rfl zok0 fX1_19_0 rfl hk_2 (Or.inl (zbig hb_3)) hr_7 ?_
  obtain ⟨n_8, hk_9, hF⟩ := zka_some hF
  obtain ⟨I_11, c_10, hF⟩ := zb1_some hF
  refine z_cV (n := 11) (st := []) (C_X5_like htr c_10) dX1_image_8 rfl (lw_V q936 q937 q938 q129 q939) hcee_X5_like rfl (by decide) hk_9 rfl rfl rfl (Nat.le_of_ble_eq_true rfl) (Nat.le_refl _) (Nat.le_refl _) ?_
  refine z_aload_n (n := 12) dX1_image_11 rfl 0 rfl rfl ?_
  refine z_iconst (n := 13) (v := 1) dX1_image_12 rfl (by decide) ?_
  obtain ⟨I_12, e_13, hF⟩ := zlet_ob hF
  refine z_putIE (n := 16) dX1_image_13 rfl zok0 fX1_132_0 (Or.inl ⟨_, rfl, rfl⟩) rfl ⟨rfl, rfl⟩ hk_2 (zbig hb_3) e_13 ?_
  have hF := Option.some.inj hF; subst hF
  exact z_vret dX1_image_16 rfl ⟨rfl, rfl, rfl, rfl, rfl⟩
theorem fX1_26_4 : zFld RX1 26 4 0 := ⟨_, rfl, by decide, _, Or.inr ⟨_, q699⟩, Or.inl rfl⟩
theorem fX1_45_0 : zFld RX1 45 0 9 := ⟨_, rfl, by decide, _, Or.inl q742, Or.inl rfl⟩
theorem fX1_49_0 : zFld RX1 49 0 10 := ⟨_, rfl, by decide, _, Or.inl q743, Or.inl rfl⟩
theorem hcee_X5_init : zCee yX5_init RX5 0 := ⟨rfl, by decide +kernel, by decide +kernel, by decide +kernel⟩
abbrev MX1_init : zM := (RX1, cX1_init, 1, none, "<init>", [])
noncomputable def F_X1_init (o0 : Nat) (h : zSt) : Option ((Nat × Nat) × (zSt)) := zpay (1, 11) (zg (zfree h) (zlet (hN h) (fun o_4 => zlet (znA h 1 0) (fun h_2 => zc1 (F_X2_init o_4 h_2) (fun c_8 h_7 => zpay c_8 (zka (hK h_7) o0 0 (fun n_9 => zg (decide (600 ≤ o0)) (zlet (zsF h_7 (zu (jF h_7) o0 0 (some o_4))) (fun h_12 => zpay (1, 8) (zg (zfree h_12) (zlet (hN h_12) (fun o_17 => zlet (znA h_12 4 0) (fun h_15 => zc1 (F_X5_init o_17 h_15) (fun c_21 h_20 => zpay c_21 (zka (hK h_20) o0 0 (fun n_22 => zlet (zsF h_20 (zu (jF h_20) o0 1 (some o_17))) (fun h_24 => zpay (1, 8) (zg (zfree h_24) (zlet (hN h_24) (fun o_29 => zlet (znA h_24 4 0) (fun h_27 => zc1 (F_X5_init o_29 h_27) (fun c_33 h_32 => zpay c_33 (zka (hK h_32) o0 0 (fun n_34 => zlet (zsF h_32 (zu (jF h_32) o0 2 (some o_29))) (fun h_36 => zka (hK h_36) o0 0 (fun n_38 => zb1 ((jF h_36) o0 1) (fun o_40 => zka (hK h_36) o_40 4 (fun n_42 => zg (decide (600 ≤ o_40)) (zb1 ((jF h_36) o_40 0) (fun o_45 => zlet (zsF h_36 (zu (jF h_36) o0 3 (some o_45))) (fun h_47 => zpay (1, 13) (zg (zfree h_47) (zlet (hN h_47) (fun o_52 => zlet (znA h_47 5 0) (fun h_50 => zc1 (F_X6_init o_52 h_50) (fun c_56 h_55 => zpay c_56 (zka (hK h_55) o0 0 (fun n_57 => zlet (zsF h_55 (zu (jF h_55) o0 4 (some o_52))) (fun h_59 => zpay (1, 700) (zg (zfree h_59) (zlet (hN h_59) (fun o_64 => zlet (znA h_59 65 700) (fun h_62 => zka (hK h_62) o0 0 (fun n_66 => zlet (zsF h_62 (zu (jF h_62) o0 6 (some o_64))) (fun h_68 => zka (hK h_68) o0 0 (fun n_70 => zlet (zsI h_68 (zu (hI h_68) o0 8 (-1))) (fun h_72 => zpay (1, 2048) (zg (zfree h_72) (zlet (hN h_72) (fun o_77 => zlet (znA h_72 64 2048) (fun h_75 => zka (hK h_75) o0 0 (fun n_79 => zlet (zsF h_75 (zu (jF h_75) o0 9 (some o_77))) (fun h_81 => zpay (1, 1080) (zg (zfree h_81) (zlet (hN h_81) (fun o_86 => zlet (znA h_81 64 1080) (fun h_84 => zka (hK h_84) o0 0 (fun n_88 => zlet (zsF h_84 (zu (jF h_84) o0 10 (some o_86))) (fun h_90 => some ((0, 0), h_90))))))))))))))))))))))))))))))))))))))))))))))))))))))))))))
set_option maxHeartbeats 1000000 in
theorem C_X1_init {l : Launch} {G : zGt} (htr : l.stackTraces = false) {o0 : Nat} {h : zSt} {cc : Nat × Nat} {r : zSt} (hF : F_X1_init o0 h = some (cc, r)) : zMet l G yX1_init (ws_ yX1_init cX1_init 1 none) 8 212 (cc.1 + 0) (cc.2 + 0) [.ref o0] (hK h) (jF h) (hI h) (hL h) (zQe (.inl none) (hK r) (jF r) (hI r) (hL r)) := by
  refine zMet.of (by decide +kernel) htr (Nat.le_of_ble_eq_true rfl) ?_
  change zW l G MX1_init 8 212 (cc.1 + 0) (cc.2 + 0) 0 [(0, .ref o0)] [] (hK h) (jF h) (hI h) (hL h) (zQe (.inl none) (hK r) (jF r) (hI r) (hL r))
  unfold F_X1_init at hF
  refine z_aload_n (n := 1) dX1_init_0 rfl 0 rfl rfl ?_
  refine z_objInit (n := 4) dX1_init_1 rfl q150 q151 q152 (by decide) (Nat.le_of_ble_eq_true rfl) ?_
  refine z_aload_n (n := 5) dX1_init_4 rfl 0 rfl rfl ?_
  obtain ⟨cc, hF, hcc⟩ := zpay_some hF
  refine z_payE hcc ?_
  obtain ⟨hn_1, hF⟩ := zg_some hF
  obtain ⟨o_4, e_5, hF⟩ := zlet_ob hF
  obtain ⟨h_2, e_3, hF⟩ := zlet_ob hF
  refine z_newT (n := 8) dX1_init_5 rfl zok1 ⟨_, rfl, rfl, q154⟩ q153 q106 hn_1 e_5 e_3 rfl ?_
  refine z_dup (n := 9) dX1_init_8 rfl rfl ?_
  obtain ⟨c_8, h_7, c_6, hF⟩ := zc1_some hF
  obtain ⟨cc, hF, hcc⟩ := zpay_some hF
  refine z_payE hcc ?_
  refine z_cIN (n := 12) (mc2 := (cc.1 + 0)) (ms2 := (cc.2 + 0)) (st := [.ref o_4, .ref o0]) (C_X2_init htr c_6) dX1_init_9 rfl q157 q106 q155 q156 rfl hcee_X2_init rfl (by decide) rfl (Nat.le_of_ble_eq_true rfl) (Nat.le_of_eq (Nat.add_comm _ _)) (Nat.le_of_eq (Nat.add_comm _ _)) ?_
  obtain ⟨n_9, hk_10, hF⟩ := zka_some hF
  obtain ⟨hb_11, hF⟩ := zg_some hF
  obtain ⟨h_12, e_13, hF⟩ := zlet_ob hF
  refine z_putR (r := (some o_4)) (n := 15) dX1_init_12 rfl zok0 fX1_10_0 (Or.inl ⟨_, rfl, rfl⟩) rfl hk_10 (zbig hb_11) ?_
  refine z_toF e_13 ?_
  refine z_aload_n (n := 16) dX1_init_15 rfl 0 rfl rfl ?_
  obtain ⟨cc, hF, hcc⟩ := zpay_some hF
  refine z_payE hcc ?_
  obtain ⟨hn_14, hF⟩ := zg_some hF
  obtain ⟨o_17, e_18, hF⟩ := zlet_ob hF
  obtain ⟨h_15, e_16, hF⟩ := zlet_ob hF
  refine z_newT (n := 19) dX1_init_16 rfl zok4 ⟨_, rfl, rfl, q578⟩ q577 q129 hn_14 e_18 e_16 rfl ?_
  refine z_dup (n := 20) dX1_init_19 rfl rfl ?_
  obtain ⟨c_21, h_20, c_19, hF⟩ := zc1_some hF
  obtain ⟨cc, hF, hcc⟩ := zpay_some hF
  refine z_payE hcc ?_
  refine z_cI (n := 23) (mc2 := (cc.1 + 0)) (ms2 := (cc.2 + 0)) (st := [.ref o_17, .ref o0]) (C_X5_init htr c_19) dX1_init_20 rfl q581 q129 q579 q580 rfl hcee_X5_init rfl (by decide) rfl (Nat.le_of_ble_eq_true rfl) (Nat.le_of_eq (Nat.add_comm _ _)) (Nat.le_of_eq (Nat.add_comm _ _)) ?_
  obtain ⟨n_22, hk_23, hF⟩ := zka_some hF
  obtain ⟨h_24, e_25, hF⟩ := zlet_ob hF
  refine z_putR (r := (some o_17)) (n := 26) dX1_init_23 rfl zok0 fX1_19_0 (Or.inr ⟨rfl, _, rfl, rfl, rfl⟩) rfl hk_23 (zbig hb_11) ?_
  refine z_toF e_25 ?_
  refine z_aload_n (n := 27) dX1_init_26 rfl 0 rfl rfl ?_
  obtain ⟨cc, hF, hcc⟩ := zpay_some hF
  refine z_payE hcc ?_
  obtain ⟨hn_26, hF⟩ := zg_some hF
  obtain ⟨o_29, e_30, hF⟩ := zlet_ob hF
  obtain ⟨h_27, e_28, hF⟩ := zlet_ob hF
  refine z_newT (n := 30) dX1_init_27 rfl zok4 ⟨_, rfl, rfl, q578⟩ q577 q129 hn_26 e_30 e_28 rfl ?_
  refine z_dup (n := 31) dX1_init_30 rfl rfl ?_
  obtain ⟨c_33, h_32, c_31, hF⟩ := zc1_some hF
  obtain ⟨cc, hF, hcc⟩ := zpay_some hF
  refine z_payE hcc ?_
  refine z_cI (n := 34) (mc2 := (cc.1 + 0)) (ms2 := (cc.2 + 0)) (st := [.ref o_29, .ref o0]) (C_X5_init htr c_31) dX1_init_31 rfl q581 q129 q579 q580 rfl hcee_X5_init rfl (by decide) rfl (Nat.le_of_ble_eq_true rfl) (Nat.le_of_eq (Nat.add_comm _ _)) (Nat.le_of_eq (Nat.add_comm _ _)) ?_
  obtain ⟨n_34, hk_35, hF⟩ := zka_some hF
  obtain ⟨h_36, e_37, hF⟩ := zlet_ob hF
  refine z_putR (r := (some o_29)) (n := 37) dX1_init_34 rfl zok0 fX1_23_0 (Or.inr ⟨rfl, _, rfl, rfl, rfl⟩) rfl hk_35 (zbig hb_11) ?_
  refine z_toF e_37 ?_
  refine z_aload_n (n := 38) dX1_init_37 rfl 0 rfl rfl ?_
  refine z_aload_n (n := 39) dX1_init_38 rfl 0 rfl rfl ?_
  obtain ⟨n_38, hk_39, hF⟩ := zka_some hF
  obtain ⟨o_40, hr_41, hF⟩ := zb1_some hF
  refine z_getRS (n := 42) dX1_init_39 rfl zok0 fX1_19_0 rfl hk_39 (Or.inl (zbig hb_11)) hr_41 ?_
  obtain ⟨n_42, hk_43, hF⟩ := zka_some hF
  obtain ⟨hb_44, hF⟩ := zg_some hF
  obtain ⟨o_45, hr_46, hF⟩ := zb1_some hF
  refine z_getRS (n := 45) dX1_init_42 rfl zok4 fX1_26_4 rfl hk_43 (Or.inl (zbig hb_44)) hr_46 ?_
  obtain ⟨h_47, e_48, hF⟩ := zlet_ob hF
  refine z_putR (r := (some o_45)) (n := 48) dX1_init_45 rfl zok0 fX1_30_0 (Or.inr ⟨rfl, _, rfl, rfl, rfl⟩) rfl hk_39 (zbig hb_11) ?_
  refine z_toF e_48 ?_
  refine z_aload_n (n := 49) dX1_init_48 rfl 0 rfl rfl ?_
  obtain ⟨cc, hF, hcc⟩ := zpay_some hF
  refine z_payE hcc ?_
  obtain ⟨hn_49, hF⟩ := zg_some hF
  obtain ⟨o_52, e_53, hF⟩ := zlet_ob hF
  obtain ⟨h_50, e_51, hF⟩ := zlet_ob hF
  refine z_newT (n := 52) dX1_init_49 rfl zok5 ⟨_, rfl, rfl, q584⟩ q731 q130 hn_49 e_53 e_51 rfl ?_
  refine z_dup (n := 53) dX1_init_52 rfl rfl ?_
  obtain ⟨c_56, h_55, c_54, hF⟩ := zc1_some hF
  obtain ⟨cc, hF, hcc⟩ := zpay_some hF
  refine z_payE hcc ?_
  refine z_cIN (n := 56) (mc2 := (cc.1 + 0)) (ms2 := (cc.2 + 0)) (st := [.ref o_52, .ref o0]) (C_X6_init htr c_54) dX1_init_53 rfl q587 q130 q732 q586 rfl hcee_X6_init rfl (by decide) rfl (Nat.le_of_ble_eq_true rfl) (Nat.le_of_eq (Nat.add_comm _ _)) (Nat.le_of_eq (Nat.add_comm _ _)) ?_
  obtain ⟨n_57, hk_58, hF⟩ := zka_some hF
  obtain ⟨h_59, e_60, hF⟩ := zlet_ob hF
  refine z_putR (r := (some o_52)) (n := 59) dX1_init_56 rfl zok0 fX1_34_0 (Or.inr ⟨rfl, _, rfl, rfl, rfl⟩) rfl hk_58 (zbig hb_11) ?_
  refine z_toF e_60 ?_
  refine z_aload_n (n := 60) dX1_init_59 rfl 0 rfl rfl ?_
  refine z_sipush (n := 63) (v := 700) dX1_init_60 rfl (by decide) ?_
  obtain ⟨cc, hF, hcc⟩ := zpay_some hF
  refine z_payE hcc ?_
  obtain ⟨hn_61, hF⟩ := zg_some hF
  obtain ⟨o_64, e_65, hF⟩ := zlet_ob hF
  obtain ⟨h_62, e_63, hF⟩ := zlet_ob hF
  refine z_newaT (t := 1) (n := 65) .byte dX1_init_63 rfl rfl (by decide) q247 (by decide) (by decide) (by decide) hn_61 e_65 e_63 ?_
  obtain ⟨n_66, hk_67, hF⟩ := zka_some hF
  obtain ⟨h_68, e_69, hF⟩ := zlet_ob hF
  refine z_putR (r := (some o_64)) (n := 68) dX1_init_65 rfl zok0 fX1_37_0 (Or.inr ⟨rfl, _, rfl, rfl, rfl⟩) rfl hk_67 (zbig hb_11) ?_
  refine z_toF e_69 ?_
  refine z_aload_n (n := 69) dX1_init_68 rfl 0 rfl rfl ?_
  refine z_iconst (n := 70) (v := (-1)) dX1_init_69 rfl (by decide) ?_
  obtain ⟨n_70, hk_71, hF⟩ := zka_some hF
  obtain ⟨h_72, e_73, hF⟩ := zlet_ob hF
  refine z_putIE (n := 73) dX1_init_70 rfl zok0 fX1_41_0 (Or.inl ⟨_, rfl, rfl⟩) rfl ⟨rfl, rfl⟩ hk_71 (zbig hb_11) rfl ?_
  refine z_toI e_73 ?_
  refine z_aload_n (n := 74) dX1_init_73 rfl 0 rfl rfl ?_
  refine z_sipush (n := 77) (v := 2048) dX1_init_74 rfl (by decide) ?_
  obtain ⟨cc, hF, hcc⟩ := zpay_some hF
  refine z_payE hcc ?_
  obtain ⟨hn_74, hF⟩ := zg_some hF
  obtain ⟨o_77, e_78, hF⟩ := zlet_ob hF
  obtain ⟨h_75, e_76, hF⟩ := zlet_ob hF
  refine z_newaT (t := 0) (n := 79) .int dX1_init_77 rfl rfl (by decide) q521 (by decide) (by decide) (by decide) hn_74 e_78 e_76 ?_
  obtain ⟨n_79, hk_80, hF⟩ := zka_some hF
  obtain ⟨h_81, e_82, hF⟩ := zlet_ob hF
  refine z_putR (r := (some o_77)) (n := 82) dX1_init_79 rfl zok0 fX1_45_0 (Or.inr ⟨rfl, _, rfl, rfl, rfl⟩) rfl hk_80 (zbig hb_11) ?_
  refine z_toF e_82 ?_
  refine z_aload_n (n := 83) dX1_init_82 rfl 0 rfl rfl ?_
  refine z_sipush (n := 86) (v := 1080) dX1_init_83 rfl (by decide) ?_
  obtain ⟨cc, hF, hcc⟩ := zpay_some hF
  refine z_payE hcc ?_
  obtain ⟨hn_83, hF⟩ := zg_some hF
  obtain ⟨o_86, e_87, hF⟩ := zlet_ob hF
  obtain ⟨h_84, e_85, hF⟩ := zlet_ob hF
  refine z_newaT (t := 0) (n := 88) .int dX1_init_86 rfl rfl (by decide) q521 (by decide) (by decide) (by decide) hn_83 e_87 e_85 ?_
  obtain ⟨n_88, hk_89, hF⟩ := zka_some hF
  obtain ⟨h_90, e_91, hF⟩ := zlet_ob hF
  refine z_putR (r := (some o_86)) (n := 91) dX1_init_88 rfl zok0 fX1_49_0 (Or.inr ⟨rfl, _, rfl, rfl, rfl⟩) rfl hk_89 (zbig hb_11) ?_
  refine z_toF e_91 ?_
  obtain ⟨rfl, rfl⟩ := zpair hF
  exact z_vret dX1_init_91 rfl ⟨rfl, rfl, rfl, rfl, rfl⟩
theorem fX1_113_8 : zFld RX1 113 8 7 := ⟨_, rfl, by decide, _, Or.inr ⟨_, q1110⟩, Or.inl rfl⟩
theorem fX1_119_8 : zFld RX1 119 8 6 := ⟨_, rfl, by decide, _, Or.inr ⟨_, q1108⟩, Or.inl rfl⟩
theorem hcee_X6_begins : zCee yX6_begins RX6 1 := ⟨rfl, by decide +kernel, by decide +kernel, by decide +kernel⟩
theorem hcee_X8_init : zCee yX8_init RX8 2 := ⟨rfl, by decide +kernel, by decide +kernel, by decide +kernel⟩
theorem hcee_X8_land : zCee yX8_land RX8 0 := ⟨rfl, by decide +kernel, by decide +kernel, by decide +kernel⟩
abbrev MX1_land : zM := (RX1, cX1_land, 3, (some .int), "land", [((30 : Nat), (49 : Nat), (52 : Nat), (111 : Nat))])
noncomputable def F_X1_land (o0 : Nat) (a0 : Int32) (h : zSt) : Option ((Nat × Nat) × ((Int32 ⊕ (String × Nat)) × zSt)) := zlet (fun (w_1 : Int32) => zb2 (F_X1_right (hK h) (jF h) w_1 (hI h)) (fun s_6 I_7 => zpay (zxc s_6, zxs s_6) (zlet (zsFI h (jF h) I_7) (fun h_9 => zsum s_6 (fun x_11 => zka (hK h_9) o0 0 (fun n_13 => zg (decide (600 ≤ o0)) (zlet (zsI h_9 (zu (hI h_9) o0 7 0)) (fun h_16 => zka (hK h_16) o0 0 (fun n_18 => zlet (zsI h_16 (zu (hI h_16) o0 8 (-1))) (fun h_20 => zpay (1, 9) (zg (zfree h_20) (zlet (hN h_20) (fun o_25 => zlet (znA h_20 7 0) (fun h_23 => zka (hK h_23) o0 0 (fun n_27 => zb1 ((jF h_23) o0 6) (fun o_29 => zc1 (F_X8_init o_25 o_29 a0 h_23) (fun c_33 h_32 => zpay c_33 (zka (hK h_32) o_25 7 (fun n_34 => zc1 (F_X8_land o_25 h_32) (fun c_39 => zn2 (fun s_37 h_38 => zpay c_39 (zsum s_37 (fun q_42 => zb1 q_42 (fun o_70 => zka (hK h_38) o0 0 (fun n_72 => zlet (zsF h_38 (zu (jF h_38) o0 0 (some o_70))) (fun h_74 => zka (hK h_74) o0 0 (fun n_76 => zb1 ((jF h_74) o0 3) (fun o_78 => zb1 ((jF h_74) o0 0) (fun o_80 => zka (hK h_74) o_78 5 (fun n_82 => zb1 (F_X6_begins (hK h_74) (jF h_74) o_78 o_80 (hI h_74)) (fun I_85 => zlet (zsFI h_74 (jF h_74) I_85) (fun h_86 => zka (hK h_86) o0 0 (fun n_88 => zb1 ((jF h_86) o0 1) (fun o_90 => zka (hK h_86) o_90 4 (fun n_92 => zg (decide (600 ≤ o_90)) (zlet (zsI h_86 (zu (hI h_86) o_90 6 0)) (fun h_95 => zka (hK h_95) o0 0 (fun n_97 => zb1 ((jF h_95) o0 1) (fun o_99 => zka (hK h_95) o_99 4 (fun n_101 => zg (decide (600 ≤ o_99)) (zlet (zsI h_95 (zu (hI h_95) o_99 7 0)) (fun h_104 => zka (hK h_104) o0 0 (fun n_106 => zlet (zsI h_104 (zu (hI h_104) o0 5 0)) (fun h_108 => some ((0, 0), (.inl 0, h_108)))))))))))))))))))))))) (fun w_43 => zx (decide (w_43.1 = "SableCrown$Fault")) (zka (hK h_38) w_43.2 8 (fun n_45 => zg (decide (600 ≤ w_43.2)) (zka (hK h_38) o0 0 (fun n_48 => zlet (zsI h_38 (zu (hI h_38) o0 8 ((hI h_38) w_43.2 7))) (fun h_50 => zka (hK h_50) o0 0 (fun n_52 => zb1 ((jF h_50) o0 1) (fun o_54 => zka (hK h_50) o_54 4 (fun n_56 => zg (decide (600 ≤ o_54)) (zb1 ((jF h_50) o_54 5) (fun o_59 => zka (hK h_50) o_59 64 (fun n_61 => zg (zin 0 n_61) (zg (zin 0 n_61) (zg (decide (600 ≤ o_59)) (zlet (zsI h_50 (zu (hI h_50) o_59 0 (((hI h_50) o_59 0) + 1))) (fun h_66 => zka (hK h_66) w_43.2 8 (fun n_68 => some ((0, 0), (.inl ((hI h_66) w_43.2 6), h_66)))))))))))))))))) (none)))))))))))))))))))) (fun w_12 => some ((0, 0), (.inr w_12, h_9))))))) (fun k_2 => if a0 < 0 then k_2 0 else zka (hK h) o0 0 (fun n_110 => zg (decide (600 ≤ o0)) (if ((hI h) o0 7) < a0 then k_2 0 else k_2 1)))
set_option maxHeartbeats 1000000 in
theorem C_X1_land {l : Launch} {G : zGt} (htr : l.stackTraces = false) {o0 : Nat} {a0 : Int32} {h : zSt} {cc : Nat × Nat} {r : (Int32 ⊕ (String × Nat)) × zSt} (hF : F_X1_land o0 a0 h = some (cc, r)) : zMet l G yX1_land (wsW_ yX1_land cX1_land 3 (some .int) [((30 : Nat), (49 : Nat), (52 : Nat), (111 : Nat))]) 1026 21166 (cc.1 + 0) (cc.2 + 0) [.ref o0, .int a0] (hK h) (jF h) (hI h) (hL h) (zQe (zoi r.1) (hK r.2) (jF r.2) (hI r.2) (hL r.2)) := by
  refine zMet.ofH (by decide +kernel) htr (Nat.le_of_ble_eq_true rfl) ?_
  change zW l G MX1_land 1026 21166 (cc.1 + 0) (cc.2 + 0) 0 [(0, .ref o0), (1, .int a0)] [] (hK h) (jF h) (hI h) (hL h) (zQe (zoi r.1) (hK r.2) (jF r.2) (hI r.2) (hL r.2))
  unfold F_X1_land at hF
  refine z_iload_n (n := 1) dX1_land_0 rfl 1 rfl rfl ?_
  obtain ⟨k_2, e_3, hF⟩ := zlet_ob hF
  have H_4 : ∀ (w_1 : Int32) (cc : Nat × Nat), k_2 w_1 = some (cc, r) → zW l G MX1_land 1026 21166 (cc.1 + 0) (cc.2 + 0) 17 [(0, .ref o0), (1, .int a0)] [.int w_1] (hK h) (jF h) (hI h) (hL h) (zQe (zoi r.1) (hK r.2) (jF r.2) (hI r.2) (hL r.2)) := by
    intro w_1 cc hF
    subst e_3
    dsimp only at hF
    obtain ⟨s_6, I_7, c_5, hF⟩ := zb2_some hF
    obtain ⟨cc, hF, hcc⟩ := zpay_some hF
    refine z_payE hcc ?_
    obtain ⟨h_9, e_10, hF⟩ := zlet_ob hF
    rcases zsum_some hF with ⟨x_11, e_8, hF⟩ | ⟨w_12, e_8, hF⟩
    rotate_left
    · first | rw [e_8] at c_5 ⊢ | rw [e_8] at c_5
      obtain ⟨rfl, rfl⟩ := zpair hF
      refine z_cSx (n := 20) (mc2 := (((0, 0) : Nat × Nat).1 + 0)) (ms2 := (((0, 0) : Nat × Nat).2 + 0)) (st := []) (C_X1_right htr c_5) dX1_land_17 rfl (lw_S q954 q955 q105 q956) hcee_X1_right rfl (by decide) rfl (Nat.le_of_ble_eq_true rfl) (Nat.le_of_eq (Nat.add_comm _ _)) (Nat.le_of_eq (Nat.add_comm _ _)) ?_
      exact z_outC (by decide) (by subst e_10; exact ⟨rfl, rfl, rfl, rfl, rfl⟩)
    first | rw [e_8] at c_5 ⊢ | rw [e_8] at c_5
    refine z_cS (n := 20) (mc2 := (cc.1 + 0)) (ms2 := (cc.2 + 0)) (st := []) (C_X1_right htr c_5) dX1_land_17 rfl (lw_S q954 q955 q105 q956) hcee_X1_right rfl (by decide) rfl (Nat.le_of_ble_eq_true rfl) (Nat.le_of_eq (Nat.add_comm _ _)) (Nat.le_of_eq (Nat.add_comm _ _)) ?_
    refine z_toFI e_10 ?_
    refine z_aload_n (n := 21) dX1_land_20 rfl 0 rfl rfl ?_
    refine z_iconst (n := 22) (v := 0) dX1_land_21 rfl (by decide) ?_
    obtain ⟨n_13, hk_14, hF⟩ := zka_some hF
    obtain ⟨hb_15, hF⟩ := zg_some hF
    obtain ⟨h_16, e_17, hF⟩ := zlet_ob hF
    refine z_putIE (n := 25) dX1_land_22 rfl zok0 fX1_93_0 (Or.inl ⟨_, rfl, rfl⟩) rfl ⟨rfl, rfl⟩ hk_14 (zbig hb_15) rfl ?_
    refine z_toI e_17 ?_
    refine z_aload_n (n := 26) dX1_land_25 rfl 0 rfl rfl ?_
    refine z_iconst (n := 27) (v := (-1)) dX1_land_26 rfl (by decide) ?_
    obtain ⟨n_18, hk_19, hF⟩ := zka_some hF
    obtain ⟨h_20, e_21, hF⟩ := zlet_ob hF
    refine z_putIE (n := 30) dX1_land_27 rfl zok0 fX1_41_0 (Or.inl ⟨_, rfl, rfl⟩) rfl ⟨rfl, rfl⟩ hk_19 (zbig hb_15) rfl ?_
    refine z_toI e_21 ?_
    refine z_aload_n (n := 31) dX1_land_30 rfl 0 rfl rfl ?_
    obtain ⟨cc, hF, hcc⟩ := zpay_some hF
    refine z_payE hcc ?_
    obtain ⟨hn_22, hF⟩ := zg_some hF
    obtain ⟨o_25, e_26, hF⟩ := zlet_ob hF
    obtain ⟨h_23, e_24, hF⟩ := zlet_ob hF
    refine z_newT (n := 34) dX1_land_31 rfl zok7 ⟨_, rfl, rfl, q969⟩ q968 q132 hn_22 e_26 e_24 rfl ?_
    refine z_dup (n := 35) dX1_land_34 rfl rfl ?_
    refine z_aload_n (n := 36) dX1_land_35 rfl 0 rfl rfl ?_
    obtain ⟨n_27, hk_28, hF⟩ := zka_some hF
    obtain ⟨o_29, hr_30, hF⟩ := zb1_some hF
    refine z_getRS (n := 39) dX1_land_36 rfl zok0 fX1_37_0 rfl hk_28 (Or.inl (zbig hb_15)) hr_30 ?_
    refine z_iload_n (n := 40) dX1_land_39 rfl 1 rfl rfl ?_
    obtain ⟨c_33, h_32, c_31, hF⟩ := zc1_some hF
    obtain ⟨cc, hF, hcc⟩ := zpay_some hF
    refine z_payE hcc ?_
    refine z_cI (n := 43) (mc2 := (cc.1 + 0)) (ms2 := (cc.2 + 0)) (st := [.ref o_25, .ref o0]) (C_X8_init htr c_31) dX1_land_40 rfl q972 q132 q970 q971 rfl hcee_X8_init rfl (by decide) rfl (Nat.le_of_ble_eq_true rfl) (Nat.le_of_eq (Nat.add_comm _ _)) (Nat.le_of_eq (Nat.add_comm _ _)) ?_
    obtain ⟨n_34, hk_35, hF⟩ := zka_some hF
    obtain ⟨c_39, t_40, c_36, hF⟩ := zc1_some hF
    obtain ⟨s_37, h_38⟩ := t_40
    dsimp only [zn2] at hF
    obtain ⟨cc, hF, hcc⟩ := zpay_some hF
    refine z_payE hcc ?_
    rcases zsum_some hF with ⟨q_42, e_41, hF⟩ | ⟨w_43, e_41, hF⟩
    rotate_left
    · first | rw [e_41] at c_36 ⊢ | rw [e_41] at c_36
      rcases zx_some hF with ⟨hx_44, hF⟩ | ⟨hx_44, hF⟩
      · skip
        refine z_cVx (n := 46) (mc2 := (cc.1 + 0)) (ms2 := (cc.2 + 0)) (st := [.ref o0]) (C_X8_land htr c_36) dX1_land_43 rfl (lw_V q1071 q1072 q1073 q132 q1074) hcee_X8_land rfl (by decide) hk_35 rfl rfl rfl (Nat.le_of_ble_eq_true rfl) (Nat.le_of_eq (Nat.add_comm _ _)) (Nat.le_of_eq (Nat.add_comm _ _)) ?_
        refine z_catchF (of_decide_eq_true hx_44) rfl rfl (by decide) q953 q1096 ?_
        refine z_astore_nS (n := 53) (lv' := [(2, .ref w_43.2), (0, .ref o0), (1, .int a0)]) dX1_land_52 rfl rfl (by decide) rfl ?_
        refine z_aload_n (n := 54) dX1_land_53 rfl 1 rfl rfl ?_
        refine z_aload_n (n := 55) dX1_land_54 rfl 0 rfl rfl ?_
        obtain ⟨n_45, hk_46, hF⟩ := zka_some hF
        obtain ⟨hb_47, hF⟩ := zg_some hF
        refine z_getI (n := 58) dX1_land_55 rfl zok8 fX1_113_8 rfl hk_46 (Or.inl (zbig hb_47)) ?_
        obtain ⟨n_48, hk_49, hF⟩ := zka_some hF
        obtain ⟨h_50, e_51, hF⟩ := zlet_ob hF
        refine z_putIE (n := 61) dX1_land_58 rfl zok0 fX1_41_0 (Or.inl ⟨_, rfl, rfl⟩) rfl ⟨rfl, rfl⟩ hk_49 (zbig hb_15) rfl ?_
        refine z_toI e_51 ?_
        refine z_aload_n (n := 62) dX1_land_61 rfl 1 rfl rfl ?_
        obtain ⟨n_52, hk_53, hF⟩ := zka_some hF
        obtain ⟨o_54, hr_55, hF⟩ := zb1_some hF
        refine z_getRS (n := 65) dX1_land_62 rfl zok0 fX1_19_0 rfl hk_53 (Or.inl (zbig hb_15)) hr_55 ?_
        obtain ⟨n_56, hk_57, hF⟩ := zka_some hF
        obtain ⟨hb_58, hF⟩ := zg_some hF
        obtain ⟨o_59, hr_60, hF⟩ := zb1_some hF
        refine z_getRS (n := 68) dX1_land_65 rfl zok4 fX1_116_4 rfl hk_57 (Or.inl (zbig hb_58)) hr_60 ?_
        refine z_iconst (n := 69) (v := 0) dX1_land_68 rfl (by decide) ?_
        refine z_dup2 (n := 70) dX1_land_69 rfl rfl rfl ?_
        obtain ⟨n_61, hk_62, hF⟩ := zka_some hF
        obtain ⟨h_63, hF⟩ := zg_some hF
        refine z_ialdK (n := 71) 0 (by decide) dX1_land_70 rfl hk_62 (zin_ok h_63) ?_
        refine z_iconst (n := 72) (v := 1) dX1_land_71 rfl (by decide) ?_
        refine z_iadd (n := 73) dX1_land_72 rfl ?_
        obtain ⟨h_64, hF⟩ := zg_some hF
        obtain ⟨hb_65, hF⟩ := zg_some hF
        obtain ⟨h_66, e_67, hF⟩ := zlet_ob hF
        refine z_iastK (n := 74) 0 (by decide) dX1_land_73 rfl hk_62 (zbig hb_65) (zin_ok h_64) rfl ?_
        refine z_toI e_67 ?_
        refine z_aload_n (n := 75) dX1_land_74 rfl 0 rfl rfl ?_
        obtain ⟨n_68, hk_69, hF⟩ := zka_some hF
        refine z_getI (n := 78) dX1_land_75 rfl zok8 fX1_119_8 rfl hk_69 (Or.inl (zbig hb_47)) ?_
        obtain ⟨rfl, rfl⟩ := zpair hF
        exact z_iret dX1_land_78 rfl rfl ⟨rfl, rfl, rfl, rfl, rfl⟩
      cases hF
    first | rw [e_41] at c_36 ⊢ | rw [e_41] at c_36
    refine z_cV (n := 46) (mc2 := (cc.1 + 0)) (ms2 := (cc.2 + 0)) (st := [.ref o0]) (C_X8_land htr c_36) dX1_land_43 rfl (lw_V q1071 q1072 q1073 q132 q1074) hcee_X8_land rfl (by decide) hk_35 rfl rfl rfl (Nat.le_of_ble_eq_true rfl) (Nat.le_of_eq (Nat.add_comm _ _)) (Nat.le_of_eq (Nat.add_comm _ _)) ?_
    obtain ⟨o_70, hr_71, hF⟩ := zb1_some hF
    rw [hr_71]
    obtain ⟨n_72, hk_73, hF⟩ := zka_some hF
    obtain ⟨h_74, e_75, hF⟩ := zlet_ob hF
    refine z_putR (r := (some o_70)) (n := 49) dX1_land_46 rfl zok0 fX1_10_0 (Or.inl ⟨_, rfl, rfl⟩) rfl hk_73 (zbig hb_15) ?_
    refine z_toF e_75 ?_
    refine z_goto (t := 79) dX1_land_49 (by decide) ?_
    refine z_aload_n (n := 80) dX1_land_79 rfl 0 rfl rfl ?_
    obtain ⟨n_76, hk_77, hF⟩ := zka_some hF
    obtain ⟨o_78, hr_79, hF⟩ := zb1_some hF
    refine z_getRS (n := 83) dX1_land_80 rfl zok0 fX1_30_0 rfl hk_77 (Or.inl (zbig hb_15)) hr_79 ?_
    refine z_aload_n (n := 84) dX1_land_83 rfl 0 rfl rfl ?_
    obtain ⟨o_80, hr_81, hF⟩ := zb1_some hF
    refine z_getRS (n := 87) dX1_land_84 rfl zok0 fX1_10_0 rfl hk_77 (Or.inl (zbig hb_15)) hr_81 ?_
    obtain ⟨n_82, hk_83, hF⟩ := zka_some hF
    obtain ⟨I_85, c_84, hF⟩ := zb1_some hF
    refine z_cV (n := 90) (mc2 := (cc.1 + 0)) (ms2 := (cc.2 + 0)) (st := []) (C_X6_begins htr c_84) dX1_land_87 rfl (lw_V q1354 q1355 q1356 q130 q1357) hcee_X6_begins rfl (by decide) hk_83 rfl rfl rfl (Nat.le_of_ble_eq_true rfl) (Nat.le_refl _) (Nat.le_refl _) ?_
    obtain ⟨h_86, e_87, hF⟩ := zlet_ob hF
    refine z_toFI e_87 ?_
    refine z_aload_n (n := 91) dX1_land_90 rfl 0 rfl rfl ?_
    obtain ⟨n_88, hk_89, hF⟩ := zka_some hF
    obtain ⟨o_90, hr_91, hF⟩ := zb1_some hF
    refine z_getRS (n := 94) dX1_land_91 rfl zok0 fX1_19_0 rfl hk_89 (Or.inl (zbig hb_15)) hr_91 ?_
    refine z_iconst (n := 95) (v := 0) dX1_land_94 rfl (by decide) ?_
    obtain ⟨n_92, hk_93, hF⟩ := zka_some hF
    obtain ⟨hb_94, hF⟩ := zg_some hF
    obtain ⟨h_95, e_96, hF⟩ := zlet_ob hF
    refine z_putIE (n := 98) dX1_land_95 rfl zok4 fX1_126_4 (Or.inl ⟨_, rfl, rfl⟩) rfl ⟨rfl, rfl⟩ hk_93 (zbig hb_94) rfl ?_
    refine z_toI e_96 ?_
    refine z_aload_n (n := 99) dX1_land_98 rfl 0 rfl rfl ?_
    obtain ⟨n_97, hk_98, hF⟩ := zka_some hF
    obtain ⟨o_99, hr_100, hF⟩ := zb1_some hF
    refine z_getRS (n := 102) dX1_land_99 rfl zok0 fX1_19_0 rfl hk_98 (Or.inl (zbig hb_15)) hr_100 ?_
    refine z_iconst (n := 103) (v := 0) dX1_land_102 rfl (by decide) ?_
    obtain ⟨n_101, hk_102, hF⟩ := zka_some hF
    obtain ⟨hb_103, hF⟩ := zg_some hF
    obtain ⟨h_104, e_105, hF⟩ := zlet_ob hF
    refine z_putIE (n := 106) dX1_land_103 rfl zok4 fX1_129_4 (Or.inl ⟨_, rfl, rfl⟩) rfl ⟨rfl, rfl⟩ hk_102 (zbig hb_103) rfl ?_
    refine z_toI e_105 ?_
    refine z_aload_n (n := 107) dX1_land_106 rfl 0 rfl rfl ?_
    refine z_iconst (n := 108) (v := 0) dX1_land_107 rfl (by decide) ?_
    obtain ⟨n_106, hk_107, hF⟩ := zka_some hF
    obtain ⟨h_108, e_109, hF⟩ := zlet_ob hF
    refine z_putIE (n := 111) dX1_land_108 rfl zok0 fX1_132_0 (Or.inl ⟨_, rfl, rfl⟩) rfl ⟨rfl, rfl⟩ hk_107 (zbig hb_15) rfl ?_
    refine z_toI e_109 ?_
    refine z_iconst (n := 112) (v := 0) dX1_land_111 rfl (by decide) ?_
    obtain ⟨rfl, rfl⟩ := zpair hF
    exact z_iret dX1_land_112 rfl rfl ⟨rfl, rfl, rfl, rfl, rfl⟩
  clear e_3
  refine z_if_lt (n := 4) (t := 16) dX1_land_1 rfl (by decide) (fun hc => ?_) (fun hc => ?_)
  · replace hF := (if_pos hc).symm.trans hF
    refine z_iconst (n := 17) (v := 0) dX1_land_16 rfl (by decide) ?_
    exact H_4 0 _ hF
  · replace hF := (if_neg hc).symm.trans hF
    refine z_iload_n (n := 5) dX1_land_4 rfl 1 rfl rfl ?_
    refine z_aload_n (n := 6) dX1_land_5 rfl 0 rfl rfl ?_
    obtain ⟨n_110, hk_111, hF⟩ := zka_some hF
    obtain ⟨hb_112, hF⟩ := zg_some hF
    refine z_getI (n := 9) dX1_land_6 rfl zok0 fX1_93_0 rfl hk_111 (Or.inl (zbig hb_112)) ?_
    refine z_icmp_gt (n := 12) (t := 16) dX1_land_9 rfl (by decide) (fun hc => ?_) (fun hc => ?_)
    · replace hF := (if_pos hc).symm.trans hF
      refine z_iconst (n := 17) (v := 0) dX1_land_16 rfl (by decide) ?_
      exact H_4 0 _ hF
    · replace hF := (if_neg hc).symm.trans hF
      refine z_iconst (n := 13) (v := 1) dX1_land_12 rfl (by decide) ?_
      refine z_goto (t := 17) dX1_land_13 (by decide) ?_
      exact H_4 1 _ hF
theorem fX1_251_5 : zFld RX1 251 5 12 := ⟨_, rfl, by decide, _, Or.inr ⟨_, q614⟩, Or.inl rfl⟩
abbrev MX1_lastBlack : zM := (RX1, cX1_lastBlack, 5, (some .int), "lastBlack", [])
noncomputable def F_X1_lastBlack_L27 (K : zKd) (F : zFd) (o0 : Nat) (v2_20 : Int32) (v3_21 : Int32) (v4_22 : Int32) (I_23 : zId) : Option ((Int32 × Int32 × Int32 × zId) ⊕ (Int32 × Int32 × zId)) := if 50 < v4_22 then some (.inr ((v2_20, v3_21, I_23))) else zka K o0 0 (fun n_24 => zg (decide (600 ≤ o0)) (zb1 (F o0 4) (fun o_27 => zb1 (F o0 0) (fun o_29 => zka K o_27 5 (fun n_31 => zb1 (F_X6_goes K F o_27 o_29 I_23) (fun I_34 => zb1 (F o0 4) (fun o_35 => zka K o_35 5 (fun n_37 => zg (decide (600 ≤ o_35)) (if ¬ (I_34 o_35 12) = (-1) then zb1 (F o0 4) (fun o_40 => zka K o_40 5 (fun n_42 => zg (decide (600 ≤ o_40)) (zlet (I_34 o_40 12) (fun v3_45 => zlet (v4_22 + 1) (fun v4_47 => some (.inl (v4_22, v3_45, v4_47, I_34))))))) else zlet (v4_22 + 1) (fun v4_49 => some (.inl (v2_20, v3_21, v4_49, I_34))))))))))))
noncomputable def F_X1_lastBlack (K : zKd) (F : zFd) (o0 : Nat) (a0 : Int32) (I : zId) : Option ((Int32 ⊕ (String × Nat)) × zId) := zb1 (F_X1_within K F a0 0 1 I) (fun x_2 => zb2 (F_X1_there K F x_2 I) (fun s_4 I_5 => zsum s_4 (fun x_7 => zka K o0 0 (fun n_9 => zg (decide (600 ≤ o0)) (zb1 (F o0 4) (fun o_12 => zb1 (F o0 3) (fun o_14 => zka K o_12 5 (fun n_16 => zb1 (F_X6_like K F o_12 o_14 I_5) (fun I_19 => zb1 (zloop (fun s : Int32 × Int32 × Int32 × zId => F_X1_lastBlack_L27 K F o0 s.1 s.2.1 s.2.2.1 s.2.2.2) ((-1), (-1), 1, I_19)) (zn3 (fun v2_51 v3_52 I_53 => if ¬ a0 = 0 then some (.inl v3_52, I_53) else some (.inl v2_51, I_53)))))))))) (fun w_8 => some (.inr w_8, I_5))))
set_option maxHeartbeats 1000000 in
theorem W_X1_lastBlack_L27 {l : Launch} {G : zGt} (htr : l.stackTraces = false) {K : zKd} {F : zFd} {L : zLd} {Q : zQt} {mE wE : Nat} {o0 : Nat} {a0 : Int32} {v2_20 : Int32} {v3_21 : Int32} {v4_22 : Int32} {I_23 : zId} {r : (Int32 × Int32 × Int32 × zId) ⊕ (Int32 × Int32 × zId)} (hF : F_X1_lastBlack_L27 K F o0 v2_20 v3_21 v4_22 I_23 = some r) (kl : ∀ (z0 : Int32) (z1 : Int32) (z2 : Int32) (z3 : zId), r = .inl (z0, z1, z2, z3) → zW l G MX1_lastBlack 1005 24071 mE wE 27 [(0, .ref o0), (1, .int a0), (2, .int z0), (3, .int z1), (4, .int z2)] [] K F z3 L Q) (kx : ∀ (y0 : Int32) (y1 : Int32) (y2 : zId), r = .inr (y0, y1, y2) → zW l G MX1_lastBlack 1005 24071 mE wE 76 [(1, .int a0), (2, .int y0), (3, .int y1)] [] K F y2 L Q)  : zW l G MX1_lastBlack 1005 24071 mE wE 27 [(0, .ref o0), (1, .int a0), (2, .int v2_20), (3, .int v3_21), (4, .int v4_22)] [] K F I_23 L Q := by
  unfold F_X1_lastBlack_L27 at hF
  refine z_iload (n := 29) dX1_lastBlack_27 rfl 4 rfl ?_
  refine z_bipush (n := 31) (v := 50) dX1_lastBlack_29 rfl (by decide) ?_
  refine z_icmp_gt (n := 34) (t := 76) dX1_lastBlack_31 rfl (by decide) (fun hc => ?_) (fun hc => ?_)
  · replace hF := (if_pos hc).symm.trans hF
    refine z_sub [1, 2, 3] rfl ?_
    have hF := Option.some.inj hF; subst hF
    exact kx v2_20 v3_21 I_23 rfl
  · replace hF := (if_neg hc).symm.trans hF
    refine z_aload_n (n := 35) dX1_lastBlack_34 rfl 0 rfl rfl ?_
    obtain ⟨n_24, hk_25, hF⟩ := zka_some hF
    obtain ⟨hb_26, hF⟩ := zg_some hF
    obtain ⟨o_27, hr_28, hF⟩ := zb1_some hF
    refine z_getRS (n := 38) dX1_lastBlack_35 rfl zok0 fX1_34_0 rfl hk_25 (Or.inl (zbig hb_26)) hr_28 ?_
    refine z_aload_n (n := 39) dX1_lastBlack_38 rfl 0 rfl rfl ?_
    obtain ⟨o_29, hr_30, hF⟩ := zb1_some hF
    refine z_getRS (n := 42) dX1_lastBlack_39 rfl zok0 fX1_10_0 rfl hk_25 (Or.inl (zbig hb_26)) hr_30 ?_
    obtain ⟨n_31, hk_32, hF⟩ := zka_some hF
    obtain ⟨I_34, c_33, hF⟩ := zb1_some hF
    refine z_cV (n := 45) (st := []) (C_X6_goes htr c_33) dX1_lastBlack_42 rfl (lw_V q829 q830 q831 q130 q832) hcee_X6_goes rfl (by decide) hk_32 rfl rfl rfl (Nat.le_of_ble_eq_true rfl) (Nat.le_refl _) (Nat.le_refl _) ?_
    refine z_aload_n (n := 46) dX1_lastBlack_45 rfl 0 rfl rfl ?_
    obtain ⟨o_35, hr_36, hF⟩ := zb1_some hF
    refine z_getRS (n := 49) dX1_lastBlack_46 rfl zok0 fX1_34_0 rfl hk_25 (Or.inl (zbig hb_26)) hr_36 ?_
    obtain ⟨n_37, hk_38, hF⟩ := zka_some hF
    obtain ⟨hb_39, hF⟩ := zg_some hF
    refine z_getI (n := 52) dX1_lastBlack_49 rfl zok5 fX1_251_5 rfl hk_38 (Or.inl (zbig hb_39)) ?_
    refine z_iconst (n := 53) (v := (-1)) dX1_lastBlack_52 rfl (by decide) ?_
    refine z_icmp_ne (n := 56) (t := 59) dX1_lastBlack_53 rfl (by decide) (fun hc => ?_) (fun hc => ?_)
    · replace hF := (if_pos hc).symm.trans hF
      refine z_iload (n := 61) dX1_lastBlack_59 rfl 4 rfl ?_
      refine z_istore_nE (n := 62) (lv' := [(2, .int v4_22), (0, .ref o0), (1, .int a0), (3, .int v3_21), (4, .int v4_22)]) dX1_lastBlack_61 rfl rfl rfl (by decide) rfl ?_
      refine z_aload_n (n := 63) dX1_lastBlack_62 rfl 1 rfl rfl ?_
      obtain ⟨o_40, hr_41, hF⟩ := zb1_some hF
      refine z_getRS (n := 66) dX1_lastBlack_63 rfl zok0 fX1_34_0 rfl hk_25 (Or.inl (zbig hb_26)) hr_41 ?_
      obtain ⟨n_42, hk_43, hF⟩ := zka_some hF
      obtain ⟨hb_44, hF⟩ := zg_some hF
      refine z_getI (n := 69) dX1_lastBlack_66 rfl zok5 fX1_251_5 rfl hk_43 (Or.inl (zbig hb_44)) ?_
      obtain ⟨v3_45, e_46, hF⟩ := zlet_ob hF
      refine z_istore_nE (n := 70) (lv' := [(3, .int v3_45), (2, .int v4_22), (0, .ref o0), (1, .int a0), (4, .int v4_22)]) dX1_lastBlack_69 rfl e_46 rfl (by decide) rfl ?_
      obtain ⟨v4_47, e_48, hF⟩ := zlet_ob hF
      refine z_iincE (n := 73) (w := 1) (v := v4_47) (lv' := [(4, .int v4_47), (3, .int v3_45), (2, .int v4_22), (0, .ref o0), (1, .int a0)]) dX1_lastBlack_70 rfl 4 rfl (by decide) e_48 (by decide) rfl ?_
      refine z_goto (t := 27) dX1_lastBlack_73 (by decide) ?_
      refine z_sub [3, 4, 2, 1, 0] rfl ?_
      have hF := Option.some.inj hF; subst hF
      exact kl v4_22 v3_45 v4_47 I_34 rfl
    · replace hF := (if_neg hc).symm.trans hF
      refine z_goto (t := 70) dX1_lastBlack_56 (by decide) ?_
      obtain ⟨v4_49, e_50, hF⟩ := zlet_ob hF
      refine z_iincE (n := 73) (w := 1) (v := v4_49) (lv' := [(4, .int v4_49), (0, .ref o0), (1, .int a0), (2, .int v2_20), (3, .int v3_21)]) dX1_lastBlack_70 rfl 4 rfl (by decide) e_50 (by decide) rfl ?_
      refine z_goto (t := 27) dX1_lastBlack_73 (by decide) ?_
      refine z_sub [1, 2, 3, 4, 0] rfl ?_
      have hF := Option.some.inj hF; subst hF
      exact kl v2_20 v3_21 v4_49 I_34 rfl
set_option maxHeartbeats 1000000 in
theorem C_X1_lastBlack {l : Launch} {G : zGt} (htr : l.stackTraces = false) {K : zKd} {F : zFd} {L : zLd} {o0 : Nat} {a0 : Int32} {I : zId} {r : (Int32 ⊕ (String × Nat)) × zId} (hF : F_X1_lastBlack K F o0 a0 I = some r) : zMet l G yX1_lastBlack (ws_ yX1_lastBlack cX1_lastBlack 5 (some .int)) 1005 24071 (zxc r.1) (zxs r.1) [.ref o0, .int a0] K F I L (zQe (zoi r.1) K F r.2 L) := by
  refine zMet.of (by decide +kernel) htr (Nat.le_of_ble_eq_true rfl) ?_
  change zW l G MX1_lastBlack 1005 24071 (zxc r.1) (zxs r.1) 0 [(0, .ref o0), (1, .int a0)] [] K F I L (zQe (zoi r.1) K F r.2 L)
  unfold F_X1_lastBlack at hF
  refine z_iload_n (n := 1) dX1_lastBlack_0 rfl 1 rfl rfl ?_
  refine z_iconst (n := 2) (v := 0) dX1_lastBlack_1 rfl (by decide) ?_
  refine z_iconst (n := 3) (v := 1) dX1_lastBlack_2 rfl (by decide) ?_
  obtain ⟨x_2, c_1, hF⟩ := zb1_some hF
  refine z_cS (n := 6) (st := []) (C_X1_within htr c_1) dX1_lastBlack_3 rfl (lw_S q786 q787 q105 q788) hcee_X1_within rfl (by decide) rfl (Nat.le_of_ble_eq_true rfl) (Nat.le_refl _) (Nat.le_refl _) ?_
  obtain ⟨s_4, I_5, c_3, hF⟩ := zb2_some hF
  rcases zsum_some hF with ⟨x_7, e_6, hF⟩ | ⟨w_8, e_6, hF⟩
  rotate_left
  · first | rw [e_6] at c_3 ⊢ | rw [e_6] at c_3
    have hF := Option.some.inj hF; subst hF
    refine z_cSx (n := 9) (mc2 := 0) (ms2 := 0) (st := []) (C_X1_there htr c_3) dX1_lastBlack_6 rfl (lw_S q1367 q1368 q105 q1369) hcee_X1_there rfl (by decide) rfl (Nat.le_of_ble_eq_true rfl) (Nat.le_refl _) (Nat.le_refl _) ?_
    exact z_out rfl ⟨rfl, rfl, rfl, rfl, rfl⟩
  first | rw [e_6] at c_3 ⊢ | rw [e_6] at c_3
  refine z_cS (n := 9) (st := []) (C_X1_there htr c_3) dX1_lastBlack_6 rfl (lw_S q1367 q1368 q105 q1369) hcee_X1_there rfl (by decide) rfl (Nat.le_of_ble_eq_true rfl) (Nat.le_refl _) (Nat.le_refl _) ?_
  refine z_aload_n (n := 10) dX1_lastBlack_9 rfl 0 rfl rfl ?_
  obtain ⟨n_9, hk_10, hF⟩ := zka_some hF
  obtain ⟨hb_11, hF⟩ := zg_some hF
  obtain ⟨o_12, hr_13, hF⟩ := zb1_some hF
  refine z_getRS (n := 13) dX1_lastBlack_10 rfl zok0 fX1_34_0 rfl hk_10 (Or.inl (zbig hb_11)) hr_13 ?_
  refine z_aload_n (n := 14) dX1_lastBlack_13 rfl 0 rfl rfl ?_
  obtain ⟨o_14, hr_15, hF⟩ := zb1_some hF
  refine z_getRS (n := 17) dX1_lastBlack_14 rfl zok0 fX1_30_0 rfl hk_10 (Or.inl (zbig hb_11)) hr_15 ?_
  obtain ⟨n_16, hk_17, hF⟩ := zka_some hF
  obtain ⟨I_19, c_18, hF⟩ := zb1_some hF
  refine z_cV (n := 20) (st := []) (C_X6_like htr c_18) dX1_lastBlack_17 rfl (lw_V q918 q821 q822 q130 q823) hcee_X6_like rfl (by decide) hk_17 rfl rfl rfl (Nat.le_of_ble_eq_true rfl) (Nat.le_refl _) (Nat.le_refl _) ?_
  refine z_iconst (n := 21) (v := (-1)) dX1_lastBlack_20 rfl (by decide) ?_
  refine z_istore_nE (n := 22) (lv' := [(2, .int (-1)), (0, .ref o0), (1, .int a0)]) dX1_lastBlack_21 rfl rfl rfl (by decide) rfl ?_
  refine z_iconst (n := 23) (v := (-1)) dX1_lastBlack_22 rfl (by decide) ?_
  refine z_istore_nE (n := 24) (lv' := [(3, .int (-1)), (2, .int (-1)), (0, .ref o0), (1, .int a0)]) dX1_lastBlack_23 rfl rfl rfl (by decide) rfl ?_
  refine z_iconst (n := 25) (v := 1) dX1_lastBlack_24 rfl (by decide) ?_
  refine z_istoreE (n := 27) (lv' := [(4, .int 1), (3, .int (-1)), (2, .int (-1)), (0, .ref o0), (1, .int a0)]) dX1_lastBlack_25 rfl rfl (by decide) rfl ?_
  refine z_sub [3, 4, 2, 1, 0] rfl ?_
  obtain ⟨t_55, e_54, hF⟩ := zb1_some hF
  obtain ⟨v2_51, v3_52, I_53⟩ := t_55
  dsimp only [zn3] at hF
  have H_56 : zW l G MX1_lastBlack 1005 24071 (zxc r.1) (zxs r.1) 76 [(1, .int a0), (2, .int v2_51), (3, .int v3_52)] [] K F I_53 L (zQe (zoi r.1) K F r.2 L) := by
    refine z_iload_n (n := 77) dX1_lastBlack_76 rfl 0 rfl rfl ?_
    refine z_if_ne (n := 80) (t := 84) dX1_lastBlack_77 rfl (by decide) (fun hc => ?_) (fun hc => ?_)
    · replace hF := (if_pos hc).symm.trans hF
      refine z_iload_n (n := 85) dX1_lastBlack_84 rfl 2 rfl rfl ?_
      have hF := Option.some.inj hF; subst hF
      exact z_iret dX1_lastBlack_85 rfl rfl ⟨rfl, rfl, rfl, rfl, rfl⟩
    · replace hF := (if_neg hc).symm.trans hF
      refine z_iload_n (n := 81) dX1_lastBlack_80 rfl 1 rfl rfl ?_
      refine z_goto (t := 85) dX1_lastBlack_81 (by decide) ?_
      have hF := Option.some.inj hF; subst hF
      exact z_iret dX1_lastBlack_85 rfl rfl ⟨rfl, rfl, rfl, rfl, rfl⟩
  refine zloop_ind (P := fun s : Int32 × Int32 × Int32 × zId => zW l G MX1_lastBlack 1005 24071 (zxc r.1) (zxs r.1) 27 [(0, .ref o0), (1, .int a0), (2, .int s.1), (3, .int s.2.1), (4, .int s.2.2.1)] [] K F s.2.2.2 L (zQe (zoi r.1) K F r.2 L)) (fun s r hb kl kr => ?_) e_54
  exact W_X1_lastBlack_L27 (o0 := o0) (a0 := a0) htr hb (fun z0 z1 z2 z3 e => kl _ e) (fun y0 y1 y2 e => by cases kr _ e; exact H_56)
abbrev MX1_unlike : zM := (RX1, cX1_unlike, 7, (some .int), "unlike", [])
noncomputable def F_X1_unlike_L17 (K : zKd) (F : zFd) (o0 : Nat) (a0 : Int32) (I : zId) (v4_2 : Int32) (v5_3 : Int32) (v6_4 : Int32) : Option ((Int32 × Int32) ⊕ (Int32)) := if v4_2 ≤ v6_4 then some (.inr (v5_3)) else if v5_3 = 0 then some (.inr (v5_3)) else zka K o0 0 (fun n_5 => zg (decide (600 ≤ o0)) (zb1 (F o0 10) (fun o_8 => zka K o_8 64 (fun n_10 => zg (zin (((6 : Int32) * v4_2) + a0) n_10) (zb1 (F o0 10) (fun o_13 => zka K o_13 64 (fun n_15 => zg (zin (((6 : Int32) * v6_4) + a0) n_15) (if (I o_8 ((((6 : Int32) * v4_2) + a0).toNatClampNeg)) = (I o_13 ((((6 : Int32) * v6_4) + a0).toNatClampNeg)) then zlet (v6_4 + 1) (fun v6_18 => some (.inl (0, v6_18))) else zlet (v6_4 + 1) (fun v6_20 => some (.inl (1, v6_20)))))))))))
noncomputable def F_X1_unlike_L5 (K : zKd) (F : zFd) (o0 : Nat) (a0 : Int32) (a1 : Int32) (I : zId) (v3_1 : Int32) (v4_2 : Int32) : Option ((Int32 × Int32) ⊕ (Int32)) := if a1 ≤ v4_2 then some (.inr (v3_1)) else zb1 (zloop (fun s : Int32 × Int32 => F_X1_unlike_L17 K F o0 a0 I v4_2 s.1 s.2) (1, 0)) (fun v5_22 => if v5_22 = 0 then zlet (v4_2 + 1) (fun v4_23 => some (.inl (v3_1, v4_23))) else zlet (v3_1 + 1) (fun v3_25 => zlet (v4_2 + 1) (fun v4_27 => some (.inl (v3_25, v4_27)))))
noncomputable def F_X1_unlike (K : zKd) (F : zFd) (o0 : Nat) (a0 : Int32) (a1 : Int32) (I : zId) : Option (Int32) := zb1 (zloop (fun s : Int32 × Int32 => F_X1_unlike_L5 K F o0 a0 a1 I s.1 s.2) (0, 0)) (fun v3_32 => some v3_32)
set_option maxHeartbeats 1000000 in
theorem W_X1_unlike_L17 {l : Launch} {G : zGt} (htr : l.stackTraces = false) {K : zKd} {F : zFd} {L : zLd} {Q : zQt} {o0 : Nat} {a0 : Int32} {a1 : Int32} {I : zId} {v3_1 : Int32} {v4_2 : Int32} {v5_3 : Int32} {v6_4 : Int32} {r : (Int32 × Int32) ⊕ (Int32)} (hF : F_X1_unlike_L17 K F o0 a0 I v4_2 v5_3 v6_4 = some r) (kl : ∀ (z0 : Int32) (z1 : Int32), r = .inl (z0, z1) → zW l G MX1_unlike 0 0 0 0 17 [(0, .ref o0), (1, .int a0), (2, .int a1), (3, .int v3_1), (4, .int v4_2), (5, .int z0), (6, .int z1)] [] K F I L Q) (kx : ∀ (y0 : Int32), r = .inr y0 → zW l G MX1_unlike 0 0 0 0 69 [(0, .ref o0), (1, .int a0), (2, .int a1), (3, .int v3_1), (4, .int v4_2), (5, .int y0)] [] K F I L Q)  : zW l G MX1_unlike 0 0 0 0 17 [(0, .ref o0), (1, .int a0), (2, .int a1), (3, .int v3_1), (4, .int v4_2), (5, .int v5_3), (6, .int v6_4)] [] K F I L Q := by
  unfold F_X1_unlike_L17 at hF
  refine z_iload (n := 19) dX1_unlike_17 rfl 6 rfl ?_
  refine z_iload (n := 21) dX1_unlike_19 rfl 4 rfl ?_
  refine z_icmp_ge (n := 24) (t := 69) dX1_unlike_21 rfl (by decide) (fun hc => ?_) (fun hc => ?_)
  · replace hF := (if_pos hc).symm.trans hF
    refine z_sub [0, 1, 2, 3, 4, 5] rfl ?_
    have hF := Option.some.inj hF; subst hF
    exact kx v5_3 rfl
  · replace hF := (if_neg hc).symm.trans hF
    refine z_iload (n := 26) dX1_unlike_24 rfl 5 rfl ?_
    refine z_if_eq (n := 29) (t := 69) dX1_unlike_26 rfl (by decide) (fun hc => ?_) (fun hc => ?_)
    · replace hF := (if_pos hc).symm.trans hF
      refine z_sub [0, 1, 2, 3, 4, 5] rfl ?_
      have hF := Option.some.inj hF; subst hF
      exact kx v5_3 rfl
    · replace hF := (if_neg hc).symm.trans hF
      refine z_aload_n (n := 30) dX1_unlike_29 rfl 0 rfl rfl ?_
      obtain ⟨n_5, hk_6, hF⟩ := zka_some hF
      obtain ⟨hb_7, hF⟩ := zg_some hF
      obtain ⟨o_8, hr_9, hF⟩ := zb1_some hF
      refine z_getRS (n := 33) dX1_unlike_30 rfl zok0 fX1_49_0 rfl hk_6 (Or.inl (zbig hb_7)) hr_9 ?_
      refine z_bipush (n := 35) (v := 6) dX1_unlike_33 rfl (by decide) ?_
      refine z_iload (n := 37) dX1_unlike_35 rfl 4 rfl ?_
      refine z_imul (n := 38) dX1_unlike_37 rfl ?_
      refine z_iload_n (n := 39) dX1_unlike_38 rfl 1 rfl rfl ?_
      refine z_iadd (n := 40) dX1_unlike_39 rfl ?_
      obtain ⟨n_10, hk_11, hF⟩ := zka_some hF
      obtain ⟨h_12, hF⟩ := zg_some hF
      refine z_ialdK (n := 41) ((((6 : Int32) * v4_2) + a0).toNatClampNeg) rfl dX1_unlike_40 rfl hk_11 (zin_ok h_12) ?_
      refine z_aload_n (n := 42) dX1_unlike_41 rfl 0 rfl rfl ?_
      obtain ⟨o_13, hr_14, hF⟩ := zb1_some hF
      refine z_getRS (n := 45) dX1_unlike_42 rfl zok0 fX1_49_0 rfl hk_6 (Or.inl (zbig hb_7)) hr_14 ?_
      refine z_bipush (n := 47) (v := 6) dX1_unlike_45 rfl (by decide) ?_
      refine z_iload (n := 49) dX1_unlike_47 rfl 6 rfl ?_
      refine z_imul (n := 50) dX1_unlike_49 rfl ?_
      refine z_iload_n (n := 51) dX1_unlike_50 rfl 1 rfl rfl ?_
      refine z_iadd (n := 52) dX1_unlike_51 rfl ?_
      obtain ⟨n_15, hk_16, hF⟩ := zka_some hF
      obtain ⟨h_17, hF⟩ := zg_some hF
      refine z_ialdK (n := 53) ((((6 : Int32) * v6_4) + a0).toNatClampNeg) rfl dX1_unlike_52 rfl hk_16 (zin_ok h_17) ?_
      refine z_icmp_eq (n := 56) (t := 60) dX1_unlike_53 rfl (by decide) (fun hc => ?_) (fun hc => ?_)
      · replace hF := (if_pos hc).symm.trans hF
        refine z_iconst (n := 61) (v := 0) dX1_unlike_60 rfl (by decide) ?_
        refine z_istoreE (n := 63) (lv' := [(5, .int 0), (0, .ref o0), (1, .int a0), (2, .int a1), (3, .int v3_1), (4, .int v4_2), (6, .int v6_4)]) dX1_unlike_61 rfl rfl (by decide) rfl ?_
        obtain ⟨v6_18, e_19, hF⟩ := zlet_ob hF
        refine z_iincE (n := 66) (w := 1) (v := v6_18) (lv' := [(6, .int v6_18), (5, .int 0), (0, .ref o0), (1, .int a0), (2, .int a1), (3, .int v3_1), (4, .int v4_2)]) dX1_unlike_63 rfl 6 rfl (by decide) e_19 (by decide) rfl ?_
        refine z_goto (t := 17) dX1_unlike_66 (by decide) ?_
        refine z_sub [2, 3, 4, 5, 6, 1, 0] rfl ?_
        have hF := Option.some.inj hF; subst hF
        exact kl 0 v6_18 rfl
      · replace hF := (if_neg hc).symm.trans hF
        refine z_iconst (n := 57) (v := 1) dX1_unlike_56 rfl (by decide) ?_
        refine z_goto (t := 61) dX1_unlike_57 (by decide) ?_
        refine z_istoreE (n := 63) (lv' := [(5, .int 1), (0, .ref o0), (1, .int a0), (2, .int a1), (3, .int v3_1), (4, .int v4_2), (6, .int v6_4)]) dX1_unlike_61 rfl rfl (by decide) rfl ?_
        obtain ⟨v6_20, e_21, hF⟩ := zlet_ob hF
        refine z_iincE (n := 66) (w := 1) (v := v6_20) (lv' := [(6, .int v6_20), (5, .int 1), (0, .ref o0), (1, .int a0), (2, .int a1), (3, .int v3_1), (4, .int v4_2)]) dX1_unlike_63 rfl 6 rfl (by decide) e_21 (by decide) rfl ?_
        refine z_goto (t := 17) dX1_unlike_66 (by decide) ?_
        refine z_sub [2, 3, 4, 5, 6, 1, 0] rfl ?_
        have hF := Option.some.inj hF; subst hF
        exact kl 1 v6_20 rfl
set_option maxHeartbeats 1000000 in
theorem W_X1_unlike_L5 {l : Launch} {G : zGt} (htr : l.stackTraces = false) {K : zKd} {F : zFd} {L : zLd} {Q : zQt} {o0 : Nat} {a0 : Int32} {a1 : Int32} {I : zId} {v3_1 : Int32} {v4_2 : Int32} {r : (Int32 × Int32) ⊕ (Int32)} (hF : F_X1_unlike_L5 K F o0 a0 a1 I v3_1 v4_2 = some r) (kl : ∀ (z0 : Int32) (z1 : Int32), r = .inl (z0, z1) → zW l G MX1_unlike 0 0 0 0 5 [(0, .ref o0), (1, .int a0), (2, .int a1), (3, .int z0), (4, .int z1)] [] K F I L Q) (kx : ∀ (y0 : Int32), r = .inr y0 → zW l G MX1_unlike 0 0 0 0 83 [(3, .int y0)] [] K F I L Q)  : zW l G MX1_unlike 0 0 0 0 5 [(0, .ref o0), (1, .int a0), (2, .int a1), (3, .int v3_1), (4, .int v4_2)] [] K F I L Q := by
  unfold F_X1_unlike_L5 at hF
  refine z_iload (n := 7) dX1_unlike_5 rfl 4 rfl ?_
  refine z_iload_n (n := 8) dX1_unlike_7 rfl 2 rfl rfl ?_
  refine z_icmp_ge (n := 11) (t := 83) dX1_unlike_8 rfl (by decide) (fun hc => ?_) (fun hc => ?_)
  · replace hF := (if_pos hc).symm.trans hF
    refine z_sub [3] rfl ?_
    have hF := Option.some.inj hF; subst hF
    exact kx v3_1 rfl
  · replace hF := (if_neg hc).symm.trans hF
    refine z_iconst (n := 12) (v := 1) dX1_unlike_11 rfl (by decide) ?_
    refine z_istoreE (n := 14) (lv' := [(5, .int 1), (0, .ref o0), (1, .int a0), (2, .int a1), (3, .int v3_1), (4, .int v4_2)]) dX1_unlike_12 rfl rfl (by decide) rfl ?_
    refine z_iconst (n := 15) (v := 0) dX1_unlike_14 rfl (by decide) ?_
    refine z_istoreE (n := 17) (lv' := [(6, .int 0), (5, .int 1), (0, .ref o0), (1, .int a0), (2, .int a1), (3, .int v3_1), (4, .int v4_2)]) dX1_unlike_15 rfl rfl (by decide) rfl ?_
    refine z_sub [2, 3, 4, 5, 6, 1, 0] rfl ?_
    obtain ⟨t_30, e_29, hF⟩ := zb1_some hF
    obtain ⟨v5_22, rfl⟩ : ∃ z, z = t_30 := ⟨_, rfl⟩
    have H_31 : zW l G MX1_unlike 0 0 0 0 69 [(0, .ref o0), (1, .int a0), (2, .int a1), (3, .int v3_1), (4, .int v4_2), (5, .int v5_22)] [] K F I L Q := by
      refine z_iload (n := 71) dX1_unlike_69 rfl 5 rfl ?_
      refine z_if_eq (n := 74) (t := 77) dX1_unlike_71 rfl (by decide) (fun hc => ?_) (fun hc => ?_)
      · replace hF := (if_pos hc).symm.trans hF
        obtain ⟨v4_23, e_24, hF⟩ := zlet_ob hF
        refine z_iincE (n := 80) (w := 1) (v := v4_23) (lv' := [(4, .int v4_23), (0, .ref o0), (1, .int a0), (2, .int a1), (3, .int v3_1), (5, .int v5_22)]) dX1_unlike_77 rfl 4 rfl (by decide) e_24 (by decide) rfl ?_
        refine z_goto (t := 5) dX1_unlike_80 (by decide) ?_
        refine z_sub [1, 2, 3, 4, 0] rfl ?_
        have hF := Option.some.inj hF; subst hF
        exact kl v3_1 v4_23 rfl
      · replace hF := (if_neg hc).symm.trans hF
        obtain ⟨v3_25, e_26, hF⟩ := zlet_ob hF
        refine z_iincE (n := 77) (w := 1) (v := v3_25) (lv' := [(3, .int v3_25), (0, .ref o0), (1, .int a0), (2, .int a1), (4, .int v4_2), (5, .int v5_22)]) dX1_unlike_74 rfl 3 rfl (by decide) e_26 (by decide) rfl ?_
        obtain ⟨v4_27, e_28, hF⟩ := zlet_ob hF
        refine z_iincE (n := 80) (w := 1) (v := v4_27) (lv' := [(4, .int v4_27), (3, .int v3_25), (0, .ref o0), (1, .int a0), (2, .int a1), (5, .int v5_22)]) dX1_unlike_77 rfl 4 rfl (by decide) e_28 (by decide) rfl ?_
        refine z_goto (t := 5) dX1_unlike_80 (by decide) ?_
        refine z_sub [2, 3, 4, 1, 0] rfl ?_
        have hF := Option.some.inj hF; subst hF
        exact kl v3_25 v4_27 rfl
    refine zloop_ind (P := fun s : Int32 × Int32 => zW l G MX1_unlike 0 0 0 0 17 [(0, .ref o0), (1, .int a0), (2, .int a1), (3, .int v3_1), (4, .int v4_2), (5, .int s.1), (6, .int s.2)] [] K F I L Q) (fun s r hb kl kr => ?_) e_29
    exact W_X1_unlike_L17 (o0 := o0) (a0 := a0) (a1 := a1) htr hb (fun z0 z1 e => kl _ e) (fun y0 e => by cases kr _ e; exact H_31)
set_option maxHeartbeats 1000000 in
theorem C_X1_unlike {l : Launch} {G : zGt} (htr : l.stackTraces = false) {K : zKd} {F : zFd} {L : zLd} {o0 : Nat} {a0 : Int32} {a1 : Int32} {I : zId} {r : Int32} (hF : F_X1_unlike K F o0 a0 a1 I = some r) : zMet l G yX1_unlike (ws_ yX1_unlike cX1_unlike 7 (some .int)) 0 0 0 0 [.ref o0, .int a0, .int a1] K F I L (zQe (.inl (some (.int r))) K F I L) := by
  refine zMet.of (by decide +kernel) htr (Nat.le_of_ble_eq_true rfl) ?_
  change zW l G MX1_unlike 0 0 0 0 0 [(0, .ref o0), (1, .int a0), (2, .int a1)] [] K F I L (zQe (.inl (some (.int r))) K F I L)
  unfold F_X1_unlike at hF
  refine z_iconst (n := 1) (v := 0) dX1_unlike_0 rfl (by decide) ?_
  refine z_istore_nE (n := 2) (lv' := [(3, .int 0), (0, .ref o0), (1, .int a0), (2, .int a1)]) dX1_unlike_1 rfl rfl rfl (by decide) rfl ?_
  refine z_iconst (n := 3) (v := 0) dX1_unlike_2 rfl (by decide) ?_
  refine z_istoreE (n := 5) (lv' := [(4, .int 0), (3, .int 0), (0, .ref o0), (1, .int a0), (2, .int a1)]) dX1_unlike_3 rfl rfl (by decide) rfl ?_
  refine z_sub [2, 3, 4, 1, 0] rfl ?_
  obtain ⟨t_34, e_33, hF⟩ := zb1_some hF
  obtain ⟨v3_32, rfl⟩ : ∃ z, z = t_34 := ⟨_, rfl⟩
  have H_35 : zW l G MX1_unlike 0 0 0 0 83 [(3, .int v3_32)] [] K F I L (zQe (.inl (some (.int r))) K F I L) := by
    refine z_iload_n (n := 84) dX1_unlike_83 rfl 0 rfl rfl ?_
    have hF := Option.some.inj hF; subst hF
    exact z_iret dX1_unlike_84 rfl rfl ⟨rfl, rfl, rfl, rfl, rfl⟩
  refine zloop_ind (P := fun s : Int32 × Int32 => zW l G MX1_unlike 0 0 0 0 5 [(0, .ref o0), (1, .int a0), (2, .int a1), (3, .int s.1), (4, .int s.2)] [] K F I L (zQe (.inl (some (.int r))) K F I L)) (fun s r hb kl kr => ?_) e_33
  exact W_X1_unlike_L5 (o0 := o0) (a0 := a0) (a1 := a1) htr hb (fun z0 z1 e => kl _ e) (fun y0 e => by cases kr _ e; exact H_35)
theorem hcee_X1_unlike : zCee yX1_unlike RX1 2 := ⟨rfl, by decide +kernel, by decide +kernel, by decide +kernel⟩
abbrev MX1_look : zM := (RX1, cX1_look, 7, (some .int), "look", [])
noncomputable def F_X1_look_L13 (K : zKd) (F : zFd) (o0 : Nat) (v2_9 : Int32) (v3_10 : Int32) (I_11 : zId) : Option ((Int32 × Int32 × zId) ⊕ (Int32 × zId)) := zka K o0 0 (fun n_12 => zb1 (F_X1_guesses K F o0 I_11) (fun x_15 => if x_15 ≤ v3_10 then some (.inr ((v2_9, I_11))) else zb2 (F_X1_isGuess K F o0 v3_10 I_11) (fun x_17 I_18 => if x_17 = 0 then zlet (v3_10 + 1) (fun v3_19 => some (.inl (v2_9, v3_19, I_18))) else zb2 (F_X1_isSpied K F o0 I_18) (fun x_22 I_23 => if ¬ x_22 = 0 then zb2 (F_X1_isGuess K F o0 v3_10 I_23) (fun x_25 I_26 => zb1 (F_X1_goesBy K F o0 5 I_26) (fun I_28 => zg (decide (600 ≤ o0)) (zb1 (F o0 4) (fun o_30 => zka K o_30 5 (fun n_32 => zg (decide (600 ≤ o_30)) (zb1 (F o_30 6) (fun o_35 => zb1 (F o0 10) (fun o_37 => zka K o_35 64 (fun n_39 => zka K o_37 64 (fun n_41 => zg (decide (600 ≤ o_35)) (zg (decide (600 ≤ o_37)) (zg (zcpok 0 ((6 : Int32) * v2_9) 6 n_39 n_41) (zlet (zcpy I_28 o_35 0 o_37 (((6 : Int32) * v2_9).toNatClampNeg) 6) (fun I_46 => zlet (v2_9 + 1) (fun v2_48 => zlet (v3_10 + 1) (fun v3_50 => some (.inl (v2_48, v3_50, I_46)))))))))))))))))) else zlet (v3_10 + 1) (fun v3_52 => some (.inl (v2_9, v3_52, I_23)))))))
noncomputable def F_X1_look_L88 (K : zKd) (F : zFd) (o0 : Nat) (v2_54 : Int32) (I_55 : zId) (v3_56 : Int32) (v4_57 : Int32) (v5_58 : Int32) : Option ((Int32 × Int32 × Int32) ⊕ (Int32 × Int32)) := zka K o0 0 (fun n_59 => zb1 (F_X1_bands K F o0 I_55) (fun x_62 => if x_62 ≤ v5_58 then some (.inr ((v3_56, v4_57))) else zb1 (F_X1_unlike K F o0 v5_58 v2_54 I_55) (fun x_64 => if v4_57 < x_64 then zlet (v5_58 + 1) (fun v5_65 => some (.inl (v5_58, x_64, v5_65))) else zlet (v5_58 + 1) (fun v5_67 => some (.inl (v3_56, v4_57, v5_67))))))
noncomputable def F_X1_look (K : zKd) (F : zFd) (o0 : Nat) (a0 : Int32) (I : zId) : Option ((Int32 ⊕ (String × Nat)) × zId) := zb1 (F_X1_within K F a0 0 1 I) (fun x_2 => zb2 (F_X1_there K F x_2 I) (fun s_4 I_5 => zsum s_4 (fun x_7 => zb1 (zloop (fun s : Int32 × Int32 × zId => F_X1_look_L13 K F o0 s.1 s.2.1 s.2.2) (0, 0, I_5)) (zn2 (fun v2_54 I_55 => zb1 (zloop (fun s : Int32 × Int32 × Int32 => F_X1_look_L88 K F o0 v2_54 I_55 s.1 s.2.1 s.2.2) ((-1), 0, 0)) (zn2 (fun v3_69 v4_70 => if ¬ a0 = 0 then some (.inl v4_70, I_55) else some (.inl v3_69, I_55)))))) (fun w_8 => some (.inr w_8, I_5))))
set_option maxHeartbeats 1000000 in
theorem W_X1_look_L13 {l : Launch} {G : zGt} (htr : l.stackTraces = false) {K : zKd} {F : zFd} {L : zLd} {Q : zQt} {mE wE : Nat} {o0 : Nat} {a0 : Int32} {v2_9 : Int32} {v3_10 : Int32} {I_11 : zId} {r : (Int32 × Int32 × zId) ⊕ (Int32 × zId)} (hF : F_X1_look_L13 K F o0 v2_9 v3_10 I_11 = some r) (kl : ∀ (z0 : Int32) (z1 : Int32) (z2 : zId), r = .inl (z0, z1, z2) → zW l G MX1_look 1006 24093 mE wE 13 [(0, .ref o0), (1, .int a0), (2, .int z0), (3, .int z1)] [] K F z2 L Q) (kx : ∀ (y0 : Int32) (y1 : zId), r = .inr (y0, y1) → zW l G MX1_look 1006 24093 mE wE 80 [(0, .ref o0), (1, .int a0), (2, .int y0)] [] K F y1 L Q)  : zW l G MX1_look 1006 24093 mE wE 13 [(0, .ref o0), (1, .int a0), (2, .int v2_9), (3, .int v3_10)] [] K F I_11 L Q := by
  unfold F_X1_look_L13 at hF
  refine z_iload_n (n := 14) dX1_look_13 rfl 3 rfl rfl ?_
  refine z_aload_n (n := 15) dX1_look_14 rfl 0 rfl rfl ?_
  obtain ⟨n_12, hk_13, hF⟩ := zka_some hF
  obtain ⟨x_15, c_14, hF⟩ := zb1_some hF
  refine z_cV (n := 18) (st := [.int v3_10]) (C_X1_guesses htr c_14) dX1_look_15 rfl (lw_V q1615 q1617 qs42 q105 q1618) hcee_X1_guesses rfl (by decide) hk_13 rfl rfl rfl (Nat.le_of_ble_eq_true rfl) (Nat.le_refl _) (Nat.le_refl _) ?_
  refine z_icmp_ge (n := 21) (t := 80) dX1_look_18 rfl (by decide) (fun hc => ?_) (fun hc => ?_)
  · replace hF := (if_pos hc).symm.trans hF
    refine z_sub [0, 1, 2] rfl ?_
    have hF := Option.some.inj hF; subst hF
    exact kx v2_9 I_11 rfl
  · replace hF := (if_neg hc).symm.trans hF
    refine z_aload_n (n := 22) dX1_look_21 rfl 0 rfl rfl ?_
    refine z_iload_n (n := 23) dX1_look_22 rfl 3 rfl rfl ?_
    obtain ⟨x_17, I_18, c_16, hF⟩ := zb2_some hF
    refine z_cV (n := 26) (st := []) (C_X1_isGuess htr c_16) dX1_look_23 rfl (lw_V q1619 q1621 qs43 q105 q1622) hcee_X1_isGuess rfl (by decide) hk_13 rfl rfl rfl (Nat.le_of_ble_eq_true rfl) (Nat.le_refl _) (Nat.le_refl _) ?_
    refine z_if_eq (n := 29) (t := 74) dX1_look_26 rfl (by decide) (fun hc => ?_) (fun hc => ?_)
    · replace hF := (if_pos hc).symm.trans hF
      obtain ⟨v3_19, e_20, hF⟩ := zlet_ob hF
      refine z_iincE (n := 77) (w := 1) (v := v3_19) (lv' := [(3, .int v3_19), (0, .ref o0), (1, .int a0), (2, .int v2_9)]) dX1_look_74 rfl 3 rfl (by decide) e_20 (by decide) rfl ?_
      refine z_goto (t := 13) dX1_look_77 (by decide) ?_
      refine z_sub [1, 2, 3, 0] rfl ?_
      have hF := Option.some.inj hF; subst hF
      exact kl v2_9 v3_19 I_18 rfl
    · replace hF := (if_neg hc).symm.trans hF
      refine z_aload_n (n := 30) dX1_look_29 rfl 0 rfl rfl ?_
      obtain ⟨x_22, I_23, c_21, hF⟩ := zb2_some hF
      refine z_cV (n := 33) (st := []) (C_X1_isSpied htr c_21) dX1_look_30 rfl (lw_V q1611 q1613 qs41 q105 q1614) hcee_X1_isSpied rfl (by decide) hk_13 rfl rfl rfl (Nat.le_of_ble_eq_true rfl) (Nat.le_refl _) (Nat.le_refl _) ?_
      refine z_if_ne (n := 36) (t := 39) dX1_look_33 rfl (by decide) (fun hc => ?_) (fun hc => ?_)
      · replace hF := (if_pos hc).symm.trans hF
        refine z_aload_n (n := 40) dX1_look_39 rfl 0 rfl rfl ?_
        refine z_iload_n (n := 41) dX1_look_40 rfl 3 rfl rfl ?_
        obtain ⟨x_25, I_26, c_24, hF⟩ := zb2_some hF
        refine z_cV (n := 44) (st := []) (C_X1_isGuess htr c_24) dX1_look_41 rfl (lw_V q1619 q1621 qs43 q105 q1622) hcee_X1_isGuess rfl (by decide) hk_13 rfl rfl rfl (Nat.le_of_ble_eq_true rfl) (Nat.le_refl _) (Nat.le_refl _) ?_
        refine z_pop (n := 45) dX1_look_44 rfl rfl ?_
        refine z_aload_n (n := 46) dX1_look_45 rfl 0 rfl rfl ?_
        refine z_iconst (n := 47) (v := 5) dX1_look_46 rfl (by decide) ?_
        obtain ⟨I_28, c_27, hF⟩ := zb1_some hF
        refine z_cV (n := 50) (st := []) (C_X1_goesBy htr c_27) dX1_look_47 rfl (lw_V q1469 q1471 qs35 q105 q1472) hcee_X1_goesBy rfl (by decide) hk_13 rfl rfl rfl (Nat.le_of_ble_eq_true rfl) (Nat.le_refl _) (Nat.le_refl _) ?_
        refine z_aload_n (n := 51) dX1_look_50 rfl 0 rfl rfl ?_
        obtain ⟨hb_29, hF⟩ := zg_some hF
        obtain ⟨o_30, hr_31, hF⟩ := zb1_some hF
        refine z_getRS (n := 54) dX1_look_51 rfl zok0 fX1_34_0 rfl hk_13 (Or.inl (zbig hb_29)) hr_31 ?_
        obtain ⟨n_32, hk_33, hF⟩ := zka_some hF
        obtain ⟨hb_34, hF⟩ := zg_some hF
        obtain ⟨o_35, hr_36, hF⟩ := zb1_some hF
        refine z_getRS (n := 57) dX1_look_54 rfl zok5 fX1_206_5 rfl hk_33 (Or.inl (zbig hb_34)) hr_36 ?_
        refine z_iconst (n := 58) (v := 0) dX1_look_57 rfl (by decide) ?_
        refine z_aload_n (n := 59) dX1_look_58 rfl 0 rfl rfl ?_
        obtain ⟨o_37, hr_38, hF⟩ := zb1_some hF
        refine z_getRS (n := 62) dX1_look_59 rfl zok0 fX1_49_0 rfl hk_13 (Or.inl (zbig hb_29)) hr_38 ?_
        refine z_bipush (n := 64) (v := 6) dX1_look_62 rfl (by decide) ?_
        refine z_iload_n (n := 65) dX1_look_64 rfl 2 rfl rfl ?_
        refine z_imul (n := 66) dX1_look_65 rfl ?_
        refine z_bipush (n := 68) (v := 6) dX1_look_66 rfl (by decide) ?_
        obtain ⟨n_39, hk_40, hF⟩ := zka_some hF
        obtain ⟨n_41, hk_42, hF⟩ := zka_some hF
        obtain ⟨hb_43, hF⟩ := zg_some hF
        obtain ⟨hb_44, hF⟩ := zg_some hF
        obtain ⟨h_45, hF⟩ := zg_some hF
        obtain ⟨I_46, e_47, hF⟩ := zlet_ob hF
        refine z_copyi (sk := 0) (dk := (((6 : Int32) * v2_9).toNatClampNeg)) (nk := 6) (n := 71) dX1_look_68 rfl q1630 q294 q293 q121 hk_40 hk_42 (zbig hb_43) (zbig hb_44) h_45 (by decide) rfl (by decide)  e_47 (by decide) (Nat.le_of_ble_eq_true rfl) ?_
        obtain ⟨v2_48, e_49, hF⟩ := zlet_ob hF
        refine z_iincE (n := 74) (w := 1) (v := v2_48) (lv' := [(2, .int v2_48), (0, .ref o0), (1, .int a0), (3, .int v3_10)]) dX1_look_71 rfl 2 rfl (by decide) e_49 (by decide) rfl ?_
        obtain ⟨v3_50, e_51, hF⟩ := zlet_ob hF
        refine z_iincE (n := 77) (w := 1) (v := v3_50) (lv' := [(3, .int v3_50), (2, .int v2_48), (0, .ref o0), (1, .int a0)]) dX1_look_74 rfl 3 rfl (by decide) e_51 (by decide) rfl ?_
        refine z_goto (t := 13) dX1_look_77 (by decide) ?_
        refine z_sub [2, 3, 1, 0] rfl ?_
        have hF := Option.some.inj hF; subst hF
        exact kl v2_48 v3_50 I_46 rfl
      · replace hF := (if_neg hc).symm.trans hF
        refine z_goto (t := 74) dX1_look_36 (by decide) ?_
        obtain ⟨v3_52, e_53, hF⟩ := zlet_ob hF
        refine z_iincE (n := 77) (w := 1) (v := v3_52) (lv' := [(3, .int v3_52), (0, .ref o0), (1, .int a0), (2, .int v2_9)]) dX1_look_74 rfl 3 rfl (by decide) e_53 (by decide) rfl ?_
        refine z_goto (t := 13) dX1_look_77 (by decide) ?_
        refine z_sub [1, 2, 3, 0] rfl ?_
        have hF := Option.some.inj hF; subst hF
        exact kl v2_9 v3_52 I_23 rfl
set_option maxHeartbeats 1000000 in
theorem W_X1_look_L88 {l : Launch} {G : zGt} (htr : l.stackTraces = false) {K : zKd} {F : zFd} {L : zLd} {Q : zQt} {mE wE : Nat} {o0 : Nat} {a0 : Int32} {v2_54 : Int32} {I_55 : zId} {v3_56 : Int32} {v4_57 : Int32} {v5_58 : Int32} {r : (Int32 × Int32 × Int32) ⊕ (Int32 × Int32)} (hF : F_X1_look_L88 K F o0 v2_54 I_55 v3_56 v4_57 v5_58 = some r) (kl : ∀ (z0 : Int32) (z1 : Int32) (z2 : Int32), r = .inl (z0, z1, z2) → zW l G MX1_look 1006 24093 mE wE 88 [(0, .ref o0), (1, .int a0), (2, .int v2_54), (3, .int z0), (4, .int z1), (5, .int z2)] [] K F I_55 L Q) (kx : ∀ (y0 : Int32) (y1 : Int32), r = .inr (y0, y1) → zW l G MX1_look 1006 24093 mE wE 129 [(1, .int a0), (3, .int y0), (4, .int y1)] [] K F I_55 L Q)  : zW l G MX1_look 1006 24093 mE wE 88 [(0, .ref o0), (1, .int a0), (2, .int v2_54), (3, .int v3_56), (4, .int v4_57), (5, .int v5_58)] [] K F I_55 L Q := by
  unfold F_X1_look_L88 at hF
  refine z_iload (n := 90) dX1_look_88 rfl 5 rfl ?_
  refine z_aload_n (n := 91) dX1_look_90 rfl 0 rfl rfl ?_
  obtain ⟨n_59, hk_60, hF⟩ := zka_some hF
  obtain ⟨x_62, c_61, hF⟩ := zb1_some hF
  refine z_cV (n := 94) (st := [.int v5_58]) (C_X1_bands htr c_61) dX1_look_91 rfl (lw_V q1385 q1387 qs30 q105 q1388) hcee_X1_bands rfl (by decide) hk_60 rfl rfl rfl (Nat.le_of_ble_eq_true rfl) (Nat.le_refl _) (Nat.le_refl _) ?_
  refine z_icmp_ge (n := 97) (t := 129) dX1_look_94 rfl (by decide) (fun hc => ?_) (fun hc => ?_)
  · replace hF := (if_pos hc).symm.trans hF
    refine z_sub [1, 3, 4] rfl ?_
    have hF := Option.some.inj hF; subst hF
    exact kx v3_56 v4_57 rfl
  · replace hF := (if_neg hc).symm.trans hF
    refine z_aload_n (n := 98) dX1_look_97 rfl 0 rfl rfl ?_
    refine z_iload (n := 100) dX1_look_98 rfl 5 rfl ?_
    refine z_iload_n (n := 101) dX1_look_100 rfl 2 rfl rfl ?_
    obtain ⟨x_64, c_63, hF⟩ := zb1_some hF
    refine z_cV (n := 104) (st := []) (C_X1_unlike htr c_63) dX1_look_101 rfl (lw_V q1631 q1633 qs44 q105 q1634) hcee_X1_unlike rfl (by decide) hk_60 rfl rfl rfl (Nat.le_of_ble_eq_true rfl) (Nat.le_refl _) (Nat.le_refl _) ?_
    refine z_istoreE (n := 106) (lv' := [(6, .int x_64), (0, .ref o0), (1, .int a0), (2, .int v2_54), (3, .int v3_56), (4, .int v4_57), (5, .int v5_58)]) dX1_look_104 rfl rfl (by decide) rfl ?_
    refine z_iload (n := 108) dX1_look_106 rfl 0 rfl ?_
    refine z_iload (n := 110) dX1_look_108 rfl 5 rfl ?_
    refine z_icmp_gt (n := 113) (t := 116) dX1_look_110 rfl (by decide) (fun hc => ?_) (fun hc => ?_)
    · replace hF := (if_pos hc).symm.trans hF
      refine z_iload (n := 118) dX1_look_116 rfl 6 rfl ?_
      refine z_istore_nE (n := 119) (lv' := [(3, .int v5_58), (6, .int x_64), (0, .ref o0), (1, .int a0), (2, .int v2_54), (4, .int v4_57), (5, .int v5_58)]) dX1_look_118 rfl rfl rfl (by decide) rfl ?_
      refine z_iload (n := 121) dX1_look_119 rfl 1 rfl ?_
      refine z_istoreE (n := 123) (lv' := [(4, .int x_64), (3, .int v5_58), (6, .int x_64), (0, .ref o0), (1, .int a0), (2, .int v2_54), (5, .int v5_58)]) dX1_look_121 rfl rfl (by decide) rfl ?_
      obtain ⟨v5_65, e_66, hF⟩ := zlet_ob hF
      refine z_iincE (n := 126) (w := 1) (v := v5_65) (lv' := [(5, .int v5_65), (4, .int x_64), (3, .int v5_58), (6, .int x_64), (0, .ref o0), (1, .int a0), (2, .int v2_54)]) dX1_look_123 rfl 6 rfl (by decide) e_66 (by decide) rfl ?_
      refine z_goto (t := 88) dX1_look_126 (by decide) ?_
      refine z_sub [4, 5, 6, 2, 1, 0] rfl ?_
      have hF := Option.some.inj hF; subst hF
      exact kl v5_58 x_64 v5_65 rfl
    · replace hF := (if_neg hc).symm.trans hF
      refine z_goto (t := 123) dX1_look_113 (by decide) ?_
      obtain ⟨v5_67, e_68, hF⟩ := zlet_ob hF
      refine z_iincE (n := 126) (w := 1) (v := v5_67) (lv' := [(5, .int v5_67), (6, .int x_64), (0, .ref o0), (1, .int a0), (2, .int v2_54), (3, .int v3_56), (4, .int v4_57)]) dX1_look_123 rfl 6 rfl (by decide) e_68 (by decide) rfl ?_
      refine z_goto (t := 88) dX1_look_126 (by decide) ?_
      refine z_sub [2, 3, 4, 5, 6, 0] rfl ?_
      have hF := Option.some.inj hF; subst hF
      exact kl v3_56 v4_57 v5_67 rfl
set_option maxHeartbeats 1000000 in
theorem C_X1_look {l : Launch} {G : zGt} (htr : l.stackTraces = false) {K : zKd} {F : zFd} {L : zLd} {o0 : Nat} {a0 : Int32} {I : zId} {r : (Int32 ⊕ (String × Nat)) × zId} (hF : F_X1_look K F o0 a0 I = some r) : zMet l G yX1_look (ws_ yX1_look cX1_look 7 (some .int)) 1006 24093 (zxc r.1) (zxs r.1) [.ref o0, .int a0] K F I L (zQe (zoi r.1) K F r.2 L) := by
  refine zMet.of (by decide +kernel) htr (Nat.le_of_ble_eq_true rfl) ?_
  change zW l G MX1_look 1006 24093 (zxc r.1) (zxs r.1) 0 [(0, .ref o0), (1, .int a0)] [] K F I L (zQe (zoi r.1) K F r.2 L)
  unfold F_X1_look at hF
  refine z_iload_n (n := 1) dX1_look_0 rfl 1 rfl rfl ?_
  refine z_iconst (n := 2) (v := 0) dX1_look_1 rfl (by decide) ?_
  refine z_iconst (n := 3) (v := 1) dX1_look_2 rfl (by decide) ?_
  obtain ⟨x_2, c_1, hF⟩ := zb1_some hF
  refine z_cS (n := 6) (st := []) (C_X1_within htr c_1) dX1_look_3 rfl (lw_S q786 q787 q105 q788) hcee_X1_within rfl (by decide) rfl (Nat.le_of_ble_eq_true rfl) (Nat.le_refl _) (Nat.le_refl _) ?_
  obtain ⟨s_4, I_5, c_3, hF⟩ := zb2_some hF
  rcases zsum_some hF with ⟨x_7, e_6, hF⟩ | ⟨w_8, e_6, hF⟩
  rotate_left
  · first | rw [e_6] at c_3 ⊢ | rw [e_6] at c_3
    have hF := Option.some.inj hF; subst hF
    refine z_cSx (n := 9) (mc2 := 0) (ms2 := 0) (st := []) (C_X1_there htr c_3) dX1_look_6 rfl (lw_S q1367 q1368 q105 q1369) hcee_X1_there rfl (by decide) rfl (Nat.le_of_ble_eq_true rfl) (Nat.le_refl _) (Nat.le_refl _) ?_
    exact z_out rfl ⟨rfl, rfl, rfl, rfl, rfl⟩
  first | rw [e_6] at c_3 ⊢ | rw [e_6] at c_3
  refine z_cS (n := 9) (st := []) (C_X1_there htr c_3) dX1_look_6 rfl (lw_S q1367 q1368 q105 q1369) hcee_X1_there rfl (by decide) rfl (Nat.le_of_ble_eq_true rfl) (Nat.le_refl _) (Nat.le_refl _) ?_
  refine z_iconst (n := 10) (v := 0) dX1_look_9 rfl (by decide) ?_
  refine z_istore_nE (n := 11) (lv' := [(2, .int 0), (0, .ref o0), (1, .int a0)]) dX1_look_10 rfl rfl rfl (by decide) rfl ?_
  refine z_iconst (n := 12) (v := 0) dX1_look_11 rfl (by decide) ?_
  refine z_istore_nE (n := 13) (lv' := [(3, .int 0), (2, .int 0), (0, .ref o0), (1, .int a0)]) dX1_look_12 rfl rfl rfl (by decide) rfl ?_
  refine z_sub [2, 3, 1, 0] rfl ?_
  obtain ⟨t_75, e_74, hF⟩ := zb1_some hF
  obtain ⟨v2_54, I_55⟩ := t_75
  dsimp only [zn2] at hF
  have H_76 : zW l G MX1_look 1006 24093 (zxc r.1) (zxs r.1) 80 [(0, .ref o0), (1, .int a0), (2, .int v2_54)] [] K F I_55 L (zQe (zoi r.1) K F r.2 L) := by
    refine z_iconst (n := 81) (v := (-1)) dX1_look_80 rfl (by decide) ?_
    refine z_istore_nE (n := 82) (lv' := [(3, .int (-1)), (0, .ref o0), (1, .int a0), (2, .int v2_54)]) dX1_look_81 rfl rfl rfl (by decide) rfl ?_
    refine z_iconst (n := 83) (v := 0) dX1_look_82 rfl (by decide) ?_
    refine z_istoreE (n := 85) (lv' := [(4, .int 0), (3, .int (-1)), (0, .ref o0), (1, .int a0), (2, .int v2_54)]) dX1_look_83 rfl rfl (by decide) rfl ?_
    refine z_iconst (n := 86) (v := 0) dX1_look_85 rfl (by decide) ?_
    refine z_istoreE (n := 88) (lv' := [(5, .int 0), (4, .int 0), (3, .int (-1)), (0, .ref o0), (1, .int a0), (2, .int v2_54)]) dX1_look_86 rfl rfl (by decide) rfl ?_
    refine z_sub [3, 4, 5, 2, 1, 0] rfl ?_
    obtain ⟨t_72, e_71, hF⟩ := zb1_some hF
    obtain ⟨v3_69, v4_70⟩ := t_72
    dsimp only [zn2] at hF
    have H_73 : zW l G MX1_look 1006 24093 (zxc r.1) (zxs r.1) 129 [(1, .int a0), (3, .int v3_69), (4, .int v4_70)] [] K F I_55 L (zQe (zoi r.1) K F r.2 L) := by
      refine z_iload_n (n := 130) dX1_look_129 rfl 0 rfl rfl ?_
      refine z_if_ne (n := 133) (t := 137) dX1_look_130 rfl (by decide) (fun hc => ?_) (fun hc => ?_)
      · replace hF := (if_pos hc).symm.trans hF
        refine z_iload (n := 139) dX1_look_137 rfl 2 rfl ?_
        have hF := Option.some.inj hF; subst hF
        exact z_iret dX1_look_139 rfl rfl ⟨rfl, rfl, rfl, rfl, rfl⟩
      · replace hF := (if_neg hc).symm.trans hF
        refine z_iload_n (n := 134) dX1_look_133 rfl 1 rfl rfl ?_
        refine z_goto (t := 139) dX1_look_134 (by decide) ?_
        have hF := Option.some.inj hF; subst hF
        exact z_iret dX1_look_139 rfl rfl ⟨rfl, rfl, rfl, rfl, rfl⟩
    refine zloop_ind (P := fun s : Int32 × Int32 × Int32 => zW l G MX1_look 1006 24093 (zxc r.1) (zxs r.1) 88 [(0, .ref o0), (1, .int a0), (2, .int v2_54), (3, .int s.1), (4, .int s.2.1), (5, .int s.2.2)] [] K F I_55 L (zQe (zoi r.1) K F r.2 L)) (fun s r hb kl kr => ?_) e_71
    exact W_X1_look_L88 (o0 := o0) (a0 := a0) htr hb (fun z0 z1 z2 e => kl _ e) (fun y0 y1 e => by cases kr _ e; exact H_73)
  refine zloop_ind (P := fun s : Int32 × Int32 × zId => zW l G MX1_look 1006 24093 (zxc r.1) (zxs r.1) 13 [(0, .ref o0), (1, .int a0), (2, .int s.1), (3, .int s.2.1)] [] K F s.2.2 L (zQe (zoi r.1) K F r.2 L)) (fun s r hb kl kr => ?_) e_74
  exact W_X1_look_L13 (o0 := o0) (a0 := a0) htr hb (fun z0 z1 z2 e => kl _ e) (fun y0 y1 e => by cases kr _ e; exact H_76)
abbrev MX1_meeting : zM := (RX1, cX1_meeting, 10, (some .int), "meeting", [])
noncomputable def F_X1_meeting_L34 (K : zKd) (F : zFd) (o0 : Nat) (x_7 : Int32) (x_13 : Int32) (I_19 : zId) (v6_23 : Int32) (v7_24 : Int32) (v8_25 : Int32) : Option ((Int32 × Int32 × Int32) ⊕ (Int32 × Int32)) := zka K o0 0 (fun n_26 => zb1 (F_X1_forests K F o0 I_19) (fun x_29 => if x_29 ≤ v8_25 then some (.inr ((v6_23, v7_24))) else zg (decide (600 ≤ o0)) (zb1 (F o0 0) (fun o_31 => zka K o_31 1 (fun n_33 => zb1 (F_X2_far K F o_31 x_7 v8_25 I_19) (fun x_36 => zb1 (F o0 0) (fun o_37 => zka K o_37 1 (fun n_39 => zb1 (F_X2_far K F o_37 x_13 v8_25 I_19) (fun x_42 => zlet (zmax x_36 x_42) (fun v9_43 => if v9_43 < v7_24 then zlet (v8_25 + 1) (fun v8_45 => some (.inl (v8_25, v9_43, v8_45))) else zlet (v8_25 + 1) (fun v8_47 => some (.inl (v6_23, v7_24, v8_47)))))))))))))
noncomputable def F_X1_meeting (K : zKd) (F : zFd) (o0 : Nat) (a0 : Int32) (a1 : Int32) (a2 : Int32) (I : zId) : Option ((Int32 ⊕ (String × Nat)) × zId) := zka K o0 0 (fun n_1 => zb2 (F_X1_fortAt K F o0 a0 I) (fun s_4 I_5 => zsum s_4 (fun x_7 => zb2 (F_X1_fortAt K F o0 a1 I_5) (fun s_10 I_11 => zsum s_10 (fun x_13 => zb1 (F_X1_within K F a2 0 1 I_11) (fun x_16 => zb2 (F_X1_there K F x_16 I_11) (fun s_18 I_19 => zsum s_18 (fun x_21 => zb1 (zloop (fun s : Int32 × Int32 × Int32 => F_X1_meeting_L34 K F o0 x_7 x_13 I_19 s.1 s.2.1 s.2.2) ((-1), 100000, 0)) (zn2 (fun v6_49 v7_50 => if ¬ a2 = 0 then zb1 (F_X1_orNone K F v7_50 I_19) (fun x_52 => some (.inl x_52, I_19)) else some (.inl v6_49, I_19)))) (fun w_22 => some (.inr w_22, I_19))))) (fun w_14 => some (.inr w_14, I_11)))) (fun w_8 => some (.inr w_8, I_5))))
set_option maxHeartbeats 1000000 in
theorem W_X1_meeting_L34 {l : Launch} {G : zGt} (htr : l.stackTraces = false) {K : zKd} {F : zFd} {L : zLd} {Q : zQt} {mE wE : Nat} {o0 : Nat} {a2 : Int32} {x_7 : Int32} {x_13 : Int32} {I_19 : zId} {a0 : Int32} {a1 : Int32} {v6_23 : Int32} {v7_24 : Int32} {v8_25 : Int32} {r : (Int32 × Int32 × Int32) ⊕ (Int32 × Int32)} (hF : F_X1_meeting_L34 K F o0 x_7 x_13 I_19 v6_23 v7_24 v8_25 = some r) (kl : ∀ (z0 : Int32) (z1 : Int32) (z2 : Int32), r = .inl (z0, z1, z2) → zW l G MX1_meeting 10 241 mE wE 34 [(0, .ref o0), (3, .int a2), (4, .int x_7), (5, .int x_13), (6, .int z0), (7, .int z1), (8, .int z2)] [] K F I_19 L Q) (kx : ∀ (y0 : Int32) (y1 : Int32), r = .inr (y0, y1) → zW l G MX1_meeting 10 241 mE wE 94 [(3, .int a2), (6, .int y0), (7, .int y1)] [] K F I_19 L Q)  : zW l G MX1_meeting 10 241 mE wE 34 [(0, .ref o0), (3, .int a2), (4, .int x_7), (5, .int x_13), (6, .int v6_23), (7, .int v7_24), (8, .int v8_25)] [] K F I_19 L Q := by
  unfold F_X1_meeting_L34 at hF
  refine z_iload (n := 36) dX1_meeting_34 rfl 6 rfl ?_
  refine z_aload_n (n := 37) dX1_meeting_36 rfl 0 rfl rfl ?_
  obtain ⟨n_26, hk_27, hF⟩ := zka_some hF
  obtain ⟨x_29, c_28, hF⟩ := zb1_some hF
  refine z_cV (n := 40) (st := [.int v8_25]) (C_X1_forests htr c_28) dX1_meeting_37 rfl (lw_V q923 q925 qs12 q105 q926) hcee_X1_forests rfl (by decide) hk_27 rfl rfl rfl (Nat.le_of_ble_eq_true rfl) (Nat.le_refl _) (Nat.le_refl _) ?_
  refine z_icmp_ge (n := 43) (t := 94) dX1_meeting_40 rfl (by decide) (fun hc => ?_) (fun hc => ?_)
  · replace hF := (if_pos hc).symm.trans hF
    refine z_sub [1, 4, 5] rfl ?_
    have hF := Option.some.inj hF; subst hF
    exact kx v6_23 v7_24 rfl
  · replace hF := (if_neg hc).symm.trans hF
    refine z_aload_n (n := 44) dX1_meeting_43 rfl 0 rfl rfl ?_
    obtain ⟨hb_30, hF⟩ := zg_some hF
    obtain ⟨o_31, hr_32, hF⟩ := zb1_some hF
    refine z_getRS (n := 47) dX1_meeting_44 rfl zok0 fX1_10_0 rfl hk_27 (Or.inl (zbig hb_30)) hr_32 ?_
    refine z_iload (n := 49) dX1_meeting_47 rfl 2 rfl ?_
    refine z_iload (n := 51) dX1_meeting_49 rfl 6 rfl ?_
    obtain ⟨n_33, hk_34, hF⟩ := zka_some hF
    obtain ⟨x_36, c_35, hF⟩ := zb1_some hF
    refine z_cV (n := 54) (st := []) (C_X2_far htr c_35) dX1_meeting_51 rfl (lw_V q1538 q1350 q1351 q106 q1352) hcee_X2_far rfl (by decide) hk_34 rfl rfl rfl (Nat.le_of_ble_eq_true rfl) (Nat.le_refl _) (Nat.le_refl _) ?_
    refine z_aload_n (n := 55) dX1_meeting_54 rfl 0 rfl rfl ?_
    obtain ⟨o_37, hr_38, hF⟩ := zb1_some hF
    refine z_getRS (n := 58) dX1_meeting_55 rfl zok0 fX1_10_0 rfl hk_27 (Or.inl (zbig hb_30)) hr_38 ?_
    refine z_iload (n := 60) dX1_meeting_58 rfl 3 rfl ?_
    refine z_iload (n := 62) dX1_meeting_60 rfl 6 rfl ?_
    obtain ⟨n_39, hk_40, hF⟩ := zka_some hF
    obtain ⟨x_42, c_41, hF⟩ := zb1_some hF
    refine z_cV (n := 65) (st := [.int x_36]) (C_X2_far htr c_41) dX1_meeting_62 rfl (lw_V q1538 q1350 q1351 q106 q1352) hcee_X2_far rfl (by decide) hk_40 rfl rfl rfl (Nat.le_of_ble_eq_true rfl) (Nat.le_refl _) (Nat.le_refl _) ?_
    refine z_max (n := 68) dX1_meeting_65 rfl q1578 q272 q119 q273 (by decide) (Nat.le_of_ble_eq_true rfl) ?_
    obtain ⟨v9_43, e_44, hF⟩ := zlet_ob hF
    refine z_istoreE (n := 70) (lv' := [(9, .int v9_43), (0, .ref o0), (3, .int a2), (4, .int x_7), (5, .int x_13), (6, .int v6_23), (7, .int v7_24), (8, .int v8_25)]) dX1_meeting_68 rfl e_44 (by decide) rfl ?_
    refine z_iload (n := 72) dX1_meeting_70 rfl 0 rfl ?_
    refine z_iload (n := 74) dX1_meeting_72 rfl 6 rfl ?_
    refine z_icmp_lt (n := 77) (t := 80) dX1_meeting_74 rfl (by decide) (fun hc => ?_) (fun hc => ?_)
    · replace hF := (if_pos hc).symm.trans hF
      refine z_iload (n := 82) dX1_meeting_80 rfl 7 rfl ?_
      refine z_istoreE (n := 84) (lv' := [(6, .int v8_25), (9, .int v9_43), (0, .ref o0), (3, .int a2), (4, .int x_7), (5, .int x_13), (7, .int v7_24), (8, .int v8_25)]) dX1_meeting_82 rfl rfl (by decide) rfl ?_
      refine z_iload (n := 86) dX1_meeting_84 rfl 1 rfl ?_
      refine z_istoreE (n := 88) (lv' := [(7, .int v9_43), (6, .int v8_25), (9, .int v9_43), (0, .ref o0), (3, .int a2), (4, .int x_7), (5, .int x_13), (8, .int v8_25)]) dX1_meeting_86 rfl rfl (by decide) rfl ?_
      obtain ⟨v8_45, e_46, hF⟩ := zlet_ob hF
      refine z_iincE (n := 91) (w := 1) (v := v8_45) (lv' := [(8, .int v8_45), (7, .int v9_43), (6, .int v8_25), (9, .int v9_43), (0, .ref o0), (3, .int a2), (4, .int x_7), (5, .int x_13)]) dX1_meeting_88 rfl 7 rfl (by decide) e_46 (by decide) rfl ?_
      refine z_goto (t := 34) dX1_meeting_91 (by decide) ?_
      refine z_sub [4, 5, 6, 7, 2, 1, 0] rfl ?_
      have hF := Option.some.inj hF; subst hF
      exact kl v8_25 v9_43 v8_45 rfl
    · replace hF := (if_neg hc).symm.trans hF
      refine z_goto (t := 88) dX1_meeting_77 (by decide) ?_
      obtain ⟨v8_47, e_48, hF⟩ := zlet_ob hF
      refine z_iincE (n := 91) (w := 1) (v := v8_47) (lv' := [(8, .int v8_47), (9, .int v9_43), (0, .ref o0), (3, .int a2), (4, .int x_7), (5, .int x_13), (6, .int v6_23), (7, .int v7_24)]) dX1_meeting_88 rfl 7 rfl (by decide) e_48 (by decide) rfl ?_
      refine z_goto (t := 34) dX1_meeting_91 (by decide) ?_
      refine z_sub [2, 3, 4, 5, 6, 7, 0] rfl ?_
      have hF := Option.some.inj hF; subst hF
      exact kl v6_23 v7_24 v8_47 rfl
set_option maxHeartbeats 1000000 in
theorem C_X1_meeting {l : Launch} {G : zGt} (htr : l.stackTraces = false) {K : zKd} {F : zFd} {L : zLd} {o0 : Nat} {a0 : Int32} {a1 : Int32} {a2 : Int32} {I : zId} {r : (Int32 ⊕ (String × Nat)) × zId} (hF : F_X1_meeting K F o0 a0 a1 a2 I = some r) : zMet l G yX1_meeting (ws_ yX1_meeting cX1_meeting 10 (some .int)) 10 241 (zxc r.1) (zxs r.1) [.ref o0, .int a0, .int a1, .int a2] K F I L (zQe (zoi r.1) K F r.2 L) := by
  refine zMet.of (by decide +kernel) htr (Nat.le_of_ble_eq_true rfl) ?_
  change zW l G MX1_meeting 10 241 (zxc r.1) (zxs r.1) 0 [(0, .ref o0), (1, .int a0), (2, .int a1), (3, .int a2)] [] K F I L (zQe (zoi r.1) K F r.2 L)
  unfold F_X1_meeting at hF
  refine z_aload_n (n := 1) dX1_meeting_0 rfl 0 rfl rfl ?_
  refine z_iload_n (n := 2) dX1_meeting_1 rfl 1 rfl rfl ?_
  obtain ⟨n_1, hk_2, hF⟩ := zka_some hF
  obtain ⟨s_4, I_5, c_3, hF⟩ := zb2_some hF
  rcases zsum_some hF with ⟨x_7, e_6, hF⟩ | ⟨w_8, e_6, hF⟩
  rotate_left
  · first | rw [e_6] at c_3 ⊢ | rw [e_6] at c_3
    have hF := Option.some.inj hF; subst hF
    refine z_cVx (n := 5) (mc2 := 0) (ms2 := 0) (st := []) (C_X1_fortAt htr c_3) dX1_meeting_2 rfl (lw_V q1550 q1552 qs37 q105 q1553) hcee_X1_fortAt rfl (by decide) hk_2 rfl rfl rfl (Nat.le_of_ble_eq_true rfl) (Nat.le_refl _) (Nat.le_refl _) ?_
    exact z_out rfl ⟨rfl, rfl, rfl, rfl, rfl⟩
  first | rw [e_6] at c_3 ⊢ | rw [e_6] at c_3
  refine z_cV (n := 5) (st := []) (C_X1_fortAt htr c_3) dX1_meeting_2 rfl (lw_V q1550 q1552 qs37 q105 q1553) hcee_X1_fortAt rfl (by decide) hk_2 rfl rfl rfl (Nat.le_of_ble_eq_true rfl) (Nat.le_refl _) (Nat.le_refl _) ?_
  refine z_istoreE (n := 7) (lv' := [(4, .int x_7), (0, .ref o0), (1, .int a0), (2, .int a1), (3, .int a2)]) dX1_meeting_5 rfl rfl (by decide) rfl ?_
  refine z_aload_n (n := 8) dX1_meeting_7 rfl 1 rfl rfl ?_
  refine z_iload_n (n := 9) dX1_meeting_8 rfl 3 rfl rfl ?_
  obtain ⟨s_10, I_11, c_9, hF⟩ := zb2_some hF
  rcases zsum_some hF with ⟨x_13, e_12, hF⟩ | ⟨w_14, e_12, hF⟩
  rotate_left
  · first | rw [e_12] at c_9 ⊢ | rw [e_12] at c_9
    have hF := Option.some.inj hF; subst hF
    refine z_cVx (n := 12) (mc2 := 0) (ms2 := 0) (st := []) (C_X1_fortAt htr c_9) dX1_meeting_9 rfl (lw_V q1550 q1552 qs37 q105 q1553) hcee_X1_fortAt rfl (by decide) hk_2 rfl rfl rfl (Nat.le_of_ble_eq_true rfl) (Nat.le_refl _) (Nat.le_refl _) ?_
    exact z_out rfl ⟨rfl, rfl, rfl, rfl, rfl⟩
  first | rw [e_12] at c_9 ⊢ | rw [e_12] at c_9
  refine z_cV (n := 12) (st := []) (C_X1_fortAt htr c_9) dX1_meeting_9 rfl (lw_V q1550 q1552 qs37 q105 q1553) hcee_X1_fortAt rfl (by decide) hk_2 rfl rfl rfl (Nat.le_of_ble_eq_true rfl) (Nat.le_refl _) (Nat.le_refl _) ?_
  refine z_istoreE (n := 14) (lv' := [(5, .int x_13), (4, .int x_7), (0, .ref o0), (1, .int a0), (2, .int a1), (3, .int a2)]) dX1_meeting_12 rfl rfl (by decide) rfl ?_
  refine z_iload_n (n := 15) dX1_meeting_14 rfl 5 rfl rfl ?_
  refine z_iconst (n := 16) (v := 0) dX1_meeting_15 rfl (by decide) ?_
  refine z_iconst (n := 17) (v := 1) dX1_meeting_16 rfl (by decide) ?_
  obtain ⟨x_16, c_15, hF⟩ := zb1_some hF
  refine z_cS (n := 20) (st := []) (C_X1_within htr c_15) dX1_meeting_17 rfl (lw_S q786 q787 q105 q788) hcee_X1_within rfl (by decide) rfl (Nat.le_of_ble_eq_true rfl) (Nat.le_refl _) (Nat.le_refl _) ?_
  obtain ⟨s_18, I_19, c_17, hF⟩ := zb2_some hF
  rcases zsum_some hF with ⟨x_21, e_20, hF⟩ | ⟨w_22, e_20, hF⟩
  rotate_left
  · first | rw [e_20] at c_17 ⊢ | rw [e_20] at c_17
    have hF := Option.some.inj hF; subst hF
    refine z_cSx (n := 23) (mc2 := 0) (ms2 := 0) (st := []) (C_X1_there htr c_17) dX1_meeting_20 rfl (lw_S q1367 q1368 q105 q1369) hcee_X1_there rfl (by decide) rfl (Nat.le_of_ble_eq_true rfl) (Nat.le_refl _) (Nat.le_refl _) ?_
    exact z_out rfl ⟨rfl, rfl, rfl, rfl, rfl⟩
  first | rw [e_20] at c_17 ⊢ | rw [e_20] at c_17
  refine z_cS (n := 23) (st := []) (C_X1_there htr c_17) dX1_meeting_20 rfl (lw_S q1367 q1368 q105 q1369) hcee_X1_there rfl (by decide) rfl (Nat.le_of_ble_eq_true rfl) (Nat.le_refl _) (Nat.le_refl _) ?_
  refine z_iconst (n := 24) (v := (-1)) dX1_meeting_23 rfl (by decide) ?_
  refine z_istoreE (n := 26) (lv' := [(6, .int (-1)), (5, .int x_13), (4, .int x_7), (0, .ref o0), (1, .int a0), (2, .int a1), (3, .int a2)]) dX1_meeting_24 rfl rfl (by decide) rfl ?_
  refine z_ldcw (n := 29) dX1_meeting_26 rfl q1542 ?_
  refine z_istoreE (n := 31) (lv' := [(7, .int 100000), (6, .int (-1)), (5, .int x_13), (4, .int x_7), (0, .ref o0), (1, .int a0), (2, .int a1), (3, .int a2)]) dX1_meeting_29 rfl rfl (by decide) rfl ?_
  refine z_iconst (n := 32) (v := 0) dX1_meeting_31 rfl (by decide) ?_
  refine z_istoreE (n := 34) (lv' := [(8, .int 0), (7, .int 100000), (6, .int (-1)), (5, .int x_13), (4, .int x_7), (0, .ref o0), (1, .int a0), (2, .int a1), (3, .int a2)]) dX1_meeting_32 rfl rfl (by decide) rfl ?_
  refine z_sub [5, 8, 4, 3, 2, 1, 0] rfl ?_
  obtain ⟨t_54, e_53, hF⟩ := zb1_some hF
  obtain ⟨v6_49, v7_50⟩ := t_54
  dsimp only [zn2] at hF
  have H_55 : zW l G MX1_meeting 10 241 (zxc r.1) (zxs r.1) 94 [(3, .int a2), (6, .int v6_49), (7, .int v7_50)] [] K F I_19 L (zQe (zoi r.1) K F r.2 L) := by
    refine z_iload_n (n := 95) dX1_meeting_94 rfl 0 rfl rfl ?_
    refine z_if_ne (n := 98) (t := 103) dX1_meeting_95 rfl (by decide) (fun hc => ?_) (fun hc => ?_)
    · replace hF := (if_pos hc).symm.trans hF
      refine z_iload (n := 105) dX1_meeting_103 rfl 2 rfl ?_
      obtain ⟨x_52, c_51, hF⟩ := zb1_some hF
      refine z_cS (n := 108) (st := []) (C_X1_orNone htr c_51) dX1_meeting_105 rfl (lw_S q1539 q1540 q105 q1541) hcee_X1_orNone rfl (by decide) rfl (Nat.le_of_ble_eq_true rfl) (Nat.le_refl _) (Nat.le_refl _) ?_
      have hF := Option.some.inj hF; subst hF
      exact z_iret dX1_meeting_108 rfl rfl ⟨rfl, rfl, rfl, rfl, rfl⟩
    · replace hF := (if_neg hc).symm.trans hF
      refine z_iload (n := 100) dX1_meeting_98 rfl 1 rfl ?_
      refine z_goto (t := 108) dX1_meeting_100 (by decide) ?_
      have hF := Option.some.inj hF; subst hF
      exact z_iret dX1_meeting_108 rfl rfl ⟨rfl, rfl, rfl, rfl, rfl⟩
  refine zloop_ind (P := fun s : Int32 × Int32 × Int32 => zW l G MX1_meeting 10 241 (zxc r.1) (zxs r.1) 34 [(0, .ref o0), (3, .int a2), (4, .int x_7), (5, .int x_13), (6, .int s.1), (7, .int s.2.1), (8, .int s.2.2)] [] K F I_19 L (zQe (zoi r.1) K F r.2 L)) (fun s r hb kl kr => ?_) e_53
  exact W_X1_meeting_L34 (o0 := o0) (a0 := a0) (a1 := a1) (a2 := a2) htr hb (fun z0 z1 z2 e => kl _ e) (fun y0 y1 e => by cases kr _ e; exact H_55)
abbrev MX1_move : zM := (RX1, cX1_move, 4, (some .int), "move", [])
noncomputable def F_X1_move (o0 : Nat) (a0 : Int32) (a1 : Int32) (h : zSt) : Option ((Nat × Nat) × ((Int32 ⊕ (String × Nat)) × zSt)) := zka (hK h) o0 0 (fun n_1 => zb2 (F_X1_bandAt (hK h) (jF h) o0 a0 (hI h)) (fun s_4 I_5 => zpay (zxc s_4, zxs s_4) (zlet (zsFI h (jF h) I_5) (fun h_7 => zsum s_4 (fun x_9 => zka (hK h_7) o0 0 (fun n_11 => zb2 (F_X1_forestAt (hK h_7) (jF h_7) o0 a1 (hI h_7)) (fun s_14 I_15 => zpay (zxc s_14, zxs s_14) (zlet (zsFI h_7 (jF h_7) I_15) (fun h_17 => zsum s_14 (fun q_19 => zb1 q_19 (fun o_21 => zka (hK h_17) o0 0 (fun n_23 => zg (decide (600 ≤ o0)) (zb1 ((jF h_17) o0 3) (fun o_26 => zka (hK h_17) o_26 5 (fun n_28 => zg (decide (600 ≤ o_26)) (zb1 ((jF h_17) o_26 4) (fun o_31 => zka (hK h_17) o_31 64 (fun n_33 => zg (zin a0 n_33) (zlet ((hI h_17) o_31 a0.toNatClampNeg) (fun v3_36 => zb1 ((jF h_17) o0 0) (fun o_38 => zka (hK h_17) o_38 1 (fun n_40 => zb1 (F_X2_hasRiver (hK h_17) (jF h_17) o_38 v3_36 a1 (hI h_17)) (fun x_43 => zc1 (F_X1_does o0 x_43 h_17) (fun c_47 => zn2 (fun x_45 h_46 => zpay c_47 (if ¬ x_45 = 0 then zka (hK h_46) o0 0 (fun n_49 => zb1 ((jF h_46) o0 3) (fun o_51 => zka (hK h_46) o_51 5 (fun n_53 => zg (decide (600 ≤ o_51)) (zb1 ((jF h_46) o_51 4) (fun o_56 => zka (hK h_46) o_56 64 (fun n_58 => zg (zin a0 n_58) (zg (decide (600 ≤ o_56)) (zlet (zsI h_46 (zu (hI h_46) o_56 a0.toNatClampNeg a1)) (fun h_62 => some ((0, 0), (.inl v3_36, h_62))))))))))) else some ((0, 0), (.inl (-1), h_46))))))))))))))))))) (fun w_20 => some ((0, 0), (.inr w_20, h_17)))))))) (fun w_10 => some ((0, 0), (.inr w_10, h_7)))))))
set_option maxHeartbeats 1000000 in
theorem C_X1_move {l : Launch} {G : zGt} (htr : l.stackTraces = false) {o0 : Nat} {a0 : Int32} {a1 : Int32} {h : zSt} {cc : Nat × Nat} {r : (Int32 ⊕ (String × Nat)) × zSt} (hF : F_X1_move o0 a0 a1 h = some (cc, r)) : zMet l G yX1_move (ws_ yX1_move cX1_move 4 (some .int)) 10 241 (cc.1 + 0) (cc.2 + 0) [.ref o0, .int a0, .int a1] (hK h) (jF h) (hI h) (hL h) (zQe (zoi r.1) (hK r.2) (jF r.2) (hI r.2) (hL r.2)) := by
  refine zMet.of (by decide +kernel) htr (Nat.le_of_ble_eq_true rfl) ?_
  change zW l G MX1_move 10 241 (cc.1 + 0) (cc.2 + 0) 0 [(0, .ref o0), (1, .int a0), (2, .int a1)] [] (hK h) (jF h) (hI h) (hL h) (zQe (zoi r.1) (hK r.2) (jF r.2) (hI r.2) (hL r.2))
  unfold F_X1_move at hF
  refine z_aload_n (n := 1) dX1_move_0 rfl 0 rfl rfl ?_
  refine z_iload_n (n := 2) dX1_move_1 rfl 1 rfl rfl ?_
  obtain ⟨n_1, hk_2, hF⟩ := zka_some hF
  obtain ⟨s_4, I_5, c_3, hF⟩ := zb2_some hF
  obtain ⟨cc, hF, hcc⟩ := zpay_some hF
  refine z_payE hcc ?_
  obtain ⟨h_7, e_8, hF⟩ := zlet_ob hF
  rcases zsum_some hF with ⟨x_9, e_6, hF⟩ | ⟨w_10, e_6, hF⟩
  rotate_left
  · first | rw [e_6] at c_3 ⊢ | rw [e_6] at c_3
    obtain ⟨rfl, rfl⟩ := zpair hF
    refine z_cVx (n := 5) (mc2 := (((0, 0) : Nat × Nat).1 + 0)) (ms2 := (((0, 0) : Nat × Nat).2 + 0)) (st := []) (C_X1_bandAt htr c_3) dX1_move_2 rfl (lw_V q1421 q1423 qs34 q105 q1424) hcee_X1_bandAt rfl (by decide) hk_2 rfl rfl rfl (Nat.le_of_ble_eq_true rfl) (Nat.le_of_eq (Nat.add_comm _ _)) (Nat.le_of_eq (Nat.add_comm _ _)) ?_
    exact z_out rfl (by subst e_8; exact ⟨rfl, rfl, rfl, rfl, rfl⟩)
  first | rw [e_6] at c_3 ⊢ | rw [e_6] at c_3
  refine z_cV (n := 5) (mc2 := (cc.1 + 0)) (ms2 := (cc.2 + 0)) (st := []) (C_X1_bandAt htr c_3) dX1_move_2 rfl (lw_V q1421 q1423 qs34 q105 q1424) hcee_X1_bandAt rfl (by decide) hk_2 rfl rfl rfl (Nat.le_of_ble_eq_true rfl) (Nat.le_of_eq (Nat.add_comm _ _)) (Nat.le_of_eq (Nat.add_comm _ _)) ?_
  refine z_toFI e_8 ?_
  refine z_aload_n (n := 6) dX1_move_5 rfl 0 rfl rfl ?_
  refine z_iload_n (n := 7) dX1_move_6 rfl 2 rfl rfl ?_
  obtain ⟨n_11, hk_12, hF⟩ := zka_some hF
  obtain ⟨s_14, I_15, c_13, hF⟩ := zb2_some hF
  obtain ⟨cc, hF, hcc⟩ := zpay_some hF
  refine z_payE hcc ?_
  obtain ⟨h_17, e_18, hF⟩ := zlet_ob hF
  rcases zsum_some hF with ⟨q_19, e_16, hF⟩ | ⟨w_20, e_16, hF⟩
  rotate_left
  · first | rw [e_16] at c_13 ⊢ | rw [e_16] at c_13
    obtain ⟨rfl, rfl⟩ := zpair hF
    refine z_cVx (n := 10) (mc2 := (((0, 0) : Nat × Nat).1 + 0)) (ms2 := (((0, 0) : Nat × Nat).2 + 0)) (st := []) (C_X1_forestAt htr c_13) dX1_move_7 rfl (lw_V q1400 q1402 qs31 q105 q1403) hcee_X1_forestAt rfl (by decide) hk_12 rfl rfl rfl (Nat.le_of_ble_eq_true rfl) (Nat.le_of_eq (Nat.add_comm _ _)) (Nat.le_of_eq (Nat.add_comm _ _)) ?_
    exact z_out rfl (by subst e_18; exact ⟨rfl, rfl, rfl, rfl, rfl⟩)
  first | rw [e_16] at c_13 ⊢ | rw [e_16] at c_13
  refine z_cV (n := 10) (mc2 := (cc.1 + 0)) (ms2 := (cc.2 + 0)) (st := []) (C_X1_forestAt htr c_13) dX1_move_7 rfl (lw_V q1400 q1402 qs31 q105 q1403) hcee_X1_forestAt rfl (by decide) hk_12 rfl rfl rfl (Nat.le_of_ble_eq_true rfl) (Nat.le_of_eq (Nat.add_comm _ _)) (Nat.le_of_eq (Nat.add_comm _ _)) ?_
  refine z_toFI e_18 ?_
  obtain ⟨o_21, hr_22, hF⟩ := zb1_some hF
  rw [hr_22]
  refine z_pop (n := 11) dX1_move_10 rfl rfl ?_
  refine z_aload_n (n := 12) dX1_move_11 rfl 0 rfl rfl ?_
  obtain ⟨n_23, hk_24, hF⟩ := zka_some hF
  obtain ⟨hb_25, hF⟩ := zg_some hF
  obtain ⟨o_26, hr_27, hF⟩ := zb1_some hF
  refine z_getRS (n := 15) dX1_move_12 rfl zok0 fX1_30_0 rfl hk_24 (Or.inl (zbig hb_25)) hr_27 ?_
  obtain ⟨n_28, hk_29, hF⟩ := zka_some hF
  obtain ⟨hb_30, hF⟩ := zg_some hF
  obtain ⟨o_31, hr_32, hF⟩ := zb1_some hF
  refine z_getRS (n := 18) dX1_move_15 rfl zok5 fX1_165_5 rfl hk_29 (Or.inl (zbig hb_30)) hr_32 ?_
  refine z_iload_n (n := 19) dX1_move_18 rfl 1 rfl rfl ?_
  obtain ⟨n_33, hk_34, hF⟩ := zka_some hF
  obtain ⟨h_35, hF⟩ := zg_some hF
  refine z_ialdK (n := 20) a0.toNatClampNeg rfl dX1_move_19 rfl hk_34 (zin_ok h_35) ?_
  obtain ⟨v3_36, e_37, hF⟩ := zlet_ob hF
  refine z_istore_nE (n := 21) (lv' := [(3, .int v3_36), (0, .ref o0), (1, .int a0), (2, .int a1)]) dX1_move_20 rfl e_37 rfl (by decide) rfl ?_
  refine z_aload_n (n := 22) dX1_move_21 rfl 1 rfl rfl ?_
  refine z_aload_n (n := 23) dX1_move_22 rfl 1 rfl rfl ?_
  obtain ⟨o_38, hr_39, hF⟩ := zb1_some hF
  refine z_getRS (n := 26) dX1_move_23 rfl zok0 fX1_10_0 rfl hk_24 (Or.inl (zbig hb_25)) hr_39 ?_
  refine z_iload_n (n := 27) dX1_move_26 rfl 0 rfl rfl ?_
  refine z_iload_n (n := 28) dX1_move_27 rfl 3 rfl rfl ?_
  obtain ⟨n_40, hk_41, hF⟩ := zka_some hF
  obtain ⟨x_43, c_42, hF⟩ := zb1_some hF
  refine z_cV (n := 31) (mc2 := (cc.1 + 0)) (ms2 := (cc.2 + 0)) (st := [.ref o0]) (C_X2_hasRiver htr c_42) dX1_move_28 rfl (lw_V q1413 q1159 q1160 q106 q1161) hcee_X2_hasRiver rfl (by decide) hk_41 rfl rfl rfl (Nat.le_of_ble_eq_true rfl) (Nat.le_refl _) (Nat.le_refl _) ?_
  obtain ⟨c_47, t_48, c_44, hF⟩ := zc1_some hF
  obtain ⟨x_45, h_46⟩ := t_48
  dsimp only [zn2] at hF
  obtain ⟨cc, hF, hcc⟩ := zpay_some hF
  refine z_payE hcc ?_
  refine z_cV (n := 34) (mc2 := (cc.1 + 0)) (ms2 := (cc.2 + 0)) (st := []) (C_X1_does htr c_44) dX1_move_31 rfl (lw_V q789 q791 qs5 q105 q792) hcee_X1_does rfl (by decide) hk_24 rfl rfl rfl (Nat.le_of_ble_eq_true rfl) (Nat.le_of_eq (Nat.add_comm _ _)) (Nat.le_of_eq (Nat.add_comm _ _)) ?_
  refine z_if_ne (n := 37) (t := 39) dX1_move_34 rfl (by decide) (fun hc => ?_) (fun hc => ?_)
  · replace hF := (if_pos hc).symm.trans hF
    refine z_aload_n (n := 40) dX1_move_39 rfl 1 rfl rfl ?_
    obtain ⟨n_49, hk_50, hF⟩ := zka_some hF
    obtain ⟨o_51, hr_52, hF⟩ := zb1_some hF
    refine z_getRS (n := 43) dX1_move_40 rfl zok0 fX1_30_0 rfl hk_50 (Or.inl (zbig hb_25)) hr_52 ?_
    obtain ⟨n_53, hk_54, hF⟩ := zka_some hF
    obtain ⟨hb_55, hF⟩ := zg_some hF
    obtain ⟨o_56, hr_57, hF⟩ := zb1_some hF
    refine z_getRS (n := 46) dX1_move_43 rfl zok5 fX1_165_5 rfl hk_54 (Or.inl (zbig hb_55)) hr_57 ?_
    refine z_iload_n (n := 47) dX1_move_46 rfl 2 rfl rfl ?_
    refine z_iload_n (n := 48) dX1_move_47 rfl 3 rfl rfl ?_
    obtain ⟨n_58, hk_59, hF⟩ := zka_some hF
    obtain ⟨h_60, hF⟩ := zg_some hF
    obtain ⟨hb_61, hF⟩ := zg_some hF
    obtain ⟨h_62, e_63, hF⟩ := zlet_ob hF
    refine z_iastK (n := 49) a0.toNatClampNeg rfl dX1_move_48 rfl hk_59 (zbig hb_61) (zin_ok h_60) rfl ?_
    refine z_toI e_63 ?_
    refine z_iload_n (n := 50) dX1_move_49 rfl 0 rfl rfl ?_
    obtain ⟨rfl, rfl⟩ := zpair hF
    exact z_iret dX1_move_50 rfl rfl ⟨rfl, rfl, rfl, rfl, rfl⟩
  · replace hF := (if_neg hc).symm.trans hF
    refine z_iconst (n := 38) (v := (-1)) dX1_move_37 rfl (by decide) ?_
    obtain ⟨rfl, rfl⟩ := zpair hF
    exact z_iret dX1_move_38 rfl rfl ⟨rfl, rfl, rfl, rfl, rfl⟩
abbrev MX1_owing : zM := (RX1, cX1_owing, 4, (some .int), "owing", [])
noncomputable def F_X1_owing_L30 (K : zKd) (F : zFd) (o0 : Nat) (I_21 : zId) (v2_22 : Int32) (v3_23 : Int32) : Option ((Int32 × Int32) ⊕ (Int32)) := zka K o0 0 (fun n_24 => zb1 (F_X1_bands K F o0 I_21) (fun x_27 => if x_27 ≤ v3_23 then some (.inr (v2_22)) else zg (decide (600 ≤ o0)) (zb1 (F o0 4) (fun o_29 => zka K o_29 5 (fun n_31 => zg (decide (600 ≤ o_29)) (zb1 (F o_29 7) (fun o_34 => zka K o_34 64 (fun n_36 => zg (zin v3_23 n_36) (zlet (fun (w_39 : Int32) => if (I_21 o_34 v3_23.toNatClampNeg) ≤ w_39 then zlet (v3_23 + 1) (fun v3_43 => some (.inl (v2_22, v3_43))) else zlet (v3_23 + 1) (fun v3_45 => some (.inl (v3_23, v3_45)))) (fun k_40 => if ¬ v2_22 = (-1) then zb1 (F o0 4) (fun o_47 => zka K o_47 5 (fun n_49 => zg (decide (600 ≤ o_47)) (zb1 (F o_47 7) (fun o_52 => zka K o_52 64 (fun n_54 => zg (zin v2_22 n_54) (k_40 (I_21 o_52 v2_22.toNatClampNeg))))))) else k_40 0))))))))))
noncomputable def F_X1_owing (K : zKd) (F : zFd) (o0 : Nat) (a0 : Int32) (I : zId) : Option ((Int32 ⊕ (String × Nat)) × zId) := zb1 (F_X1_within K F a0 0 50 I) (fun x_2 => zb2 (F_X1_right K F x_2 I) (fun s_4 I_5 => zsum s_4 (fun x_7 => zka K o0 0 (fun n_9 => zg (decide (600 ≤ o0)) (zb1 (F o0 4) (fun o_12 => zb1 (F o0 3) (fun o_14 => zka K o_12 5 (fun n_16 => zb1 (F_X6_like K F o_12 o_14 I_5) (fun I_19 => zb1 (F_X1_goesBy K F o0 a0 I_19) (fun I_21 => zb1 (zloop (fun s : Int32 × Int32 => F_X1_owing_L30 K F o0 I_21 s.1 s.2) ((-1), 0)) (fun v2_57 => some (.inl v2_57, I_21)))))))))) (fun w_8 => some (.inr w_8, I_5))))
set_option maxHeartbeats 1000000 in
theorem W_X1_owing_L30 {l : Launch} {G : zGt} (htr : l.stackTraces = false) {K : zKd} {F : zFd} {L : zLd} {Q : zQt} {mE wE : Nat} {o0 : Nat} {I_21 : zId} {a0 : Int32} {v2_22 : Int32} {v3_23 : Int32} {r : (Int32 × Int32) ⊕ (Int32)} (hF : F_X1_owing_L30 K F o0 I_21 v2_22 v3_23 = some r) (kl : ∀ (z0 : Int32) (z1 : Int32), r = .inl (z0, z1) → zW l G MX1_owing 1006 24093 mE wE 30 [(0, .ref o0), (2, .int z0), (3, .int z1)] [] K F I_21 L Q) (kx : ∀ (y0 : Int32), r = .inr y0 → zW l G MX1_owing 1006 24093 mE wE 76 [(2, .int y0)] [] K F I_21 L Q)  : zW l G MX1_owing 1006 24093 mE wE 30 [(0, .ref o0), (2, .int v2_22), (3, .int v3_23)] [] K F I_21 L Q := by
  unfold F_X1_owing_L30 at hF
  refine z_iload_n (n := 31) dX1_owing_30 rfl 2 rfl rfl ?_
  refine z_aload_n (n := 32) dX1_owing_31 rfl 0 rfl rfl ?_
  obtain ⟨n_24, hk_25, hF⟩ := zka_some hF
  obtain ⟨x_27, c_26, hF⟩ := zb1_some hF
  refine z_cV (n := 35) (st := [.int v3_23]) (C_X1_bands htr c_26) dX1_owing_32 rfl (lw_V q1385 q1387 qs30 q105 q1388) hcee_X1_bands rfl (by decide) hk_25 rfl rfl rfl (Nat.le_of_ble_eq_true rfl) (Nat.le_refl _) (Nat.le_refl _) ?_
  refine z_icmp_ge (n := 38) (t := 76) dX1_owing_35 rfl (by decide) (fun hc => ?_) (fun hc => ?_)
  · replace hF := (if_pos hc).symm.trans hF
    refine z_sub [1] rfl ?_
    have hF := Option.some.inj hF; subst hF
    exact kx v2_22 rfl
  · replace hF := (if_neg hc).symm.trans hF
    refine z_aload_n (n := 39) dX1_owing_38 rfl 0 rfl rfl ?_
    obtain ⟨hb_28, hF⟩ := zg_some hF
    obtain ⟨o_29, hr_30, hF⟩ := zb1_some hF
    refine z_getRS (n := 42) dX1_owing_39 rfl zok0 fX1_34_0 rfl hk_25 (Or.inl (zbig hb_28)) hr_30 ?_
    obtain ⟨n_31, hk_32, hF⟩ := zka_some hF
    obtain ⟨hb_33, hF⟩ := zg_some hF
    obtain ⟨o_34, hr_35, hF⟩ := zb1_some hF
    refine z_getRS (n := 45) dX1_owing_42 rfl zok5 fX1_209_5 rfl hk_32 (Or.inl (zbig hb_33)) hr_35 ?_
    refine z_iload_n (n := 46) dX1_owing_45 rfl 2 rfl rfl ?_
    obtain ⟨n_36, hk_37, hF⟩ := zka_some hF
    obtain ⟨h_38, hF⟩ := zg_some hF
    refine z_ialdK (n := 47) v3_23.toNatClampNeg rfl dX1_owing_46 rfl hk_37 (zin_ok h_38) ?_
    refine z_iload_n (n := 48) dX1_owing_47 rfl 1 rfl rfl ?_
    refine z_iconst (n := 49) (v := (-1)) dX1_owing_48 rfl (by decide) ?_
    obtain ⟨k_40, e_41, hF⟩ := zlet_ob hF
    have H_42 : ∀ (w_39 : Int32), k_40 w_39 = some r → zW l G MX1_owing 1006 24093 mE wE 65 [(0, .ref o0), (2, .int v2_22), (3, .int v3_23)] [.int w_39, .int (I_21 o_34 v3_23.toNatClampNeg)] K F I_21 L Q := by
      intro w_39 hF
      subst e_41
      dsimp only at hF
      refine z_icmp_le (n := 68) (t := 70) dX1_owing_65 rfl (by decide) (fun hc => ?_) (fun hc => ?_)
      · replace hF := (if_pos hc).symm.trans hF
        obtain ⟨v3_43, e_44, hF⟩ := zlet_ob hF
        refine z_iincE (n := 73) (w := 1) (v := v3_43) (lv' := [(3, .int v3_43), (0, .ref o0), (2, .int v2_22)]) dX1_owing_70 rfl 2 rfl (by decide) e_44 (by decide) rfl ?_
        refine z_goto (t := 30) dX1_owing_73 (by decide) ?_
        refine z_sub [1, 2, 0] rfl ?_
        have hF := Option.some.inj hF; subst hF
        exact kl v2_22 v3_43 rfl
      · replace hF := (if_neg hc).symm.trans hF
        refine z_iload_n (n := 69) dX1_owing_68 rfl 2 rfl rfl ?_
        refine z_istore_nE (n := 70) (lv' := [(2, .int v3_23), (0, .ref o0), (3, .int v3_23)]) dX1_owing_69 rfl rfl rfl (by decide) rfl ?_
        obtain ⟨v3_45, e_46, hF⟩ := zlet_ob hF
        refine z_iincE (n := 73) (w := 1) (v := v3_45) (lv' := [(3, .int v3_45), (2, .int v3_23), (0, .ref o0)]) dX1_owing_70 rfl 2 rfl (by decide) e_46 (by decide) rfl ?_
        refine z_goto (t := 30) dX1_owing_73 (by decide) ?_
        refine z_sub [2, 1, 0] rfl ?_
        have hF := Option.some.inj hF; subst hF
        exact kl v3_23 v3_45 rfl
    clear e_41
    refine z_icmp_ne (n := 52) (t := 56) dX1_owing_49 rfl (by decide) (fun hc => ?_) (fun hc => ?_)
    · replace hF := (if_pos hc).symm.trans hF
      refine z_aload_n (n := 57) dX1_owing_56 rfl 0 rfl rfl ?_
      obtain ⟨o_47, hr_48, hF⟩ := zb1_some hF
      refine z_getRS (n := 60) dX1_owing_57 rfl zok0 fX1_34_0 rfl hk_25 (Or.inl (zbig hb_28)) hr_48 ?_
      obtain ⟨n_49, hk_50, hF⟩ := zka_some hF
      obtain ⟨hb_51, hF⟩ := zg_some hF
      obtain ⟨o_52, hr_53, hF⟩ := zb1_some hF
      refine z_getRS (n := 63) dX1_owing_60 rfl zok5 fX1_209_5 rfl hk_50 (Or.inl (zbig hb_51)) hr_53 ?_
      refine z_iload_n (n := 64) dX1_owing_63 rfl 1 rfl rfl ?_
      obtain ⟨n_54, hk_55, hF⟩ := zka_some hF
      obtain ⟨h_56, hF⟩ := zg_some hF
      refine z_ialdK (n := 65) v2_22.toNatClampNeg rfl dX1_owing_64 rfl hk_55 (zin_ok h_56) ?_
      exact H_42 (I_21 o_52 v2_22.toNatClampNeg) hF
    · replace hF := (if_neg hc).symm.trans hF
      refine z_iconst (n := 53) (v := 0) dX1_owing_52 rfl (by decide) ?_
      refine z_goto (t := 65) dX1_owing_53 (by decide) ?_
      exact H_42 0 hF
set_option maxHeartbeats 1000000 in
theorem C_X1_owing {l : Launch} {G : zGt} (htr : l.stackTraces = false) {K : zKd} {F : zFd} {L : zLd} {o0 : Nat} {a0 : Int32} {I : zId} {r : (Int32 ⊕ (String × Nat)) × zId} (hF : F_X1_owing K F o0 a0 I = some r) : zMet l G yX1_owing (ws_ yX1_owing cX1_owing 4 (some .int)) 1006 24093 (zxc r.1) (zxs r.1) [.ref o0, .int a0] K F I L (zQe (zoi r.1) K F r.2 L) := by
  refine zMet.of (by decide +kernel) htr (Nat.le_of_ble_eq_true rfl) ?_
  change zW l G MX1_owing 1006 24093 (zxc r.1) (zxs r.1) 0 [(0, .ref o0), (1, .int a0)] [] K F I L (zQe (zoi r.1) K F r.2 L)
  unfold F_X1_owing at hF
  refine z_iload_n (n := 1) dX1_owing_0 rfl 1 rfl rfl ?_
  refine z_iconst (n := 2) (v := 0) dX1_owing_1 rfl (by decide) ?_
  refine z_bipush (n := 4) (v := 50) dX1_owing_2 rfl (by decide) ?_
  obtain ⟨x_2, c_1, hF⟩ := zb1_some hF
  refine z_cS (n := 7) (st := []) (C_X1_within htr c_1) dX1_owing_4 rfl (lw_S q786 q787 q105 q788) hcee_X1_within rfl (by decide) rfl (Nat.le_of_ble_eq_true rfl) (Nat.le_refl _) (Nat.le_refl _) ?_
  obtain ⟨s_4, I_5, c_3, hF⟩ := zb2_some hF
  rcases zsum_some hF with ⟨x_7, e_6, hF⟩ | ⟨w_8, e_6, hF⟩
  rotate_left
  · first | rw [e_6] at c_3 ⊢ | rw [e_6] at c_3
    have hF := Option.some.inj hF; subst hF
    refine z_cSx (n := 10) (mc2 := 0) (ms2 := 0) (st := []) (C_X1_right htr c_3) dX1_owing_7 rfl (lw_S q954 q955 q105 q956) hcee_X1_right rfl (by decide) rfl (Nat.le_of_ble_eq_true rfl) (Nat.le_refl _) (Nat.le_refl _) ?_
    exact z_out rfl ⟨rfl, rfl, rfl, rfl, rfl⟩
  first | rw [e_6] at c_3 ⊢ | rw [e_6] at c_3
  refine z_cS (n := 10) (st := []) (C_X1_right htr c_3) dX1_owing_7 rfl (lw_S q954 q955 q105 q956) hcee_X1_right rfl (by decide) rfl (Nat.le_of_ble_eq_true rfl) (Nat.le_refl _) (Nat.le_refl _) ?_
  refine z_aload_n (n := 11) dX1_owing_10 rfl 0 rfl rfl ?_
  obtain ⟨n_9, hk_10, hF⟩ := zka_some hF
  obtain ⟨hb_11, hF⟩ := zg_some hF
  obtain ⟨o_12, hr_13, hF⟩ := zb1_some hF
  refine z_getRS (n := 14) dX1_owing_11 rfl zok0 fX1_34_0 rfl hk_10 (Or.inl (zbig hb_11)) hr_13 ?_
  refine z_aload_n (n := 15) dX1_owing_14 rfl 0 rfl rfl ?_
  obtain ⟨o_14, hr_15, hF⟩ := zb1_some hF
  refine z_getRS (n := 18) dX1_owing_15 rfl zok0 fX1_30_0 rfl hk_10 (Or.inl (zbig hb_11)) hr_15 ?_
  obtain ⟨n_16, hk_17, hF⟩ := zka_some hF
  obtain ⟨I_19, c_18, hF⟩ := zb1_some hF
  refine z_cV (n := 21) (st := []) (C_X6_like htr c_18) dX1_owing_18 rfl (lw_V q918 q821 q822 q130 q823) hcee_X6_like rfl (by decide) hk_17 rfl rfl rfl (Nat.le_of_ble_eq_true rfl) (Nat.le_refl _) (Nat.le_refl _) ?_
  refine z_aload_n (n := 22) dX1_owing_21 rfl 0 rfl rfl ?_
  refine z_iload_n (n := 23) dX1_owing_22 rfl 1 rfl rfl ?_
  obtain ⟨I_21, c_20, hF⟩ := zb1_some hF
  refine z_cV (n := 26) (st := []) (C_X1_goesBy htr c_20) dX1_owing_23 rfl (lw_V q1469 q1471 qs35 q105 q1472) hcee_X1_goesBy rfl (by decide) hk_10 rfl rfl rfl (Nat.le_of_ble_eq_true rfl) (Nat.le_refl _) (Nat.le_refl _) ?_
  refine z_iconst (n := 27) (v := (-1)) dX1_owing_26 rfl (by decide) ?_
  refine z_istore_nE (n := 28) (lv' := [(2, .int (-1)), (0, .ref o0), (1, .int a0)]) dX1_owing_27 rfl rfl rfl (by decide) rfl ?_
  refine z_iconst (n := 29) (v := 0) dX1_owing_28 rfl (by decide) ?_
  refine z_istore_nE (n := 30) (lv' := [(3, .int 0), (2, .int (-1)), (0, .ref o0), (1, .int a0)]) dX1_owing_29 rfl rfl rfl (by decide) rfl ?_
  refine z_sub [2, 1, 0] rfl ?_
  obtain ⟨t_59, e_58, hF⟩ := zb1_some hF
  obtain ⟨v2_57, rfl⟩ : ∃ z, z = t_59 := ⟨_, rfl⟩
  have H_60 : zW l G MX1_owing 1006 24093 (zxc r.1) (zxs r.1) 76 [(2, .int v2_57)] [] K F I_21 L (zQe (zoi r.1) K F r.2 L) := by
    refine z_iload_n (n := 77) dX1_owing_76 rfl 0 rfl rfl ?_
    have hF := Option.some.inj hF; subst hF
    exact z_iret dX1_owing_77 rfl rfl ⟨rfl, rfl, rfl, rfl, rfl⟩
  refine zloop_ind (P := fun s : Int32 × Int32 => zW l G MX1_owing 1006 24093 (zxc r.1) (zxs r.1) 30 [(0, .ref o0), (2, .int s.1), (3, .int s.2)] [] K F I_21 L (zQe (zoi r.1) K F r.2 L)) (fun s r hb kl kr => ?_) e_58
  exact W_X1_owing_L30 (o0 := o0) (a0 := a0) htr hb (fun z0 z1 e => kl _ e) (fun y0 e => by cases kr _ e; exact H_60)
abbrev MX1_paid : zM := (RX1, cX1_paid, 3, (some .int), "paid", [])
noncomputable def F_X1_paid (K : zKd) (F : zFd) (o0 : Nat) (a0 : Int32) (a1 : Int32) (I : zId) : Option ((Int32 ⊕ (String × Nat)) × zId) := zb1 (F_X1_within K F a1 0 1 I) (fun x_2 => zb2 (F_X1_there K F x_2 I) (fun s_4 I_5 => zsum s_4 (fun x_7 => zb1 (F_X1_within K F a0 0 50 I_5) (fun x_10 => zb2 (F_X1_right K F x_10 I_5) (fun s_12 I_13 => zsum s_12 (fun x_15 => zka K o0 0 (fun n_17 => zg (decide (600 ≤ o0)) (zb1 (F o0 4) (fun o_20 => zb1 (F o0 3) (fun o_22 => zka K o_20 5 (fun n_24 => zb1 (F_X6_like K F o_20 o_22 I_13) (fun I_27 => zb1 (F_X1_goesBy K F o0 a0 I_27) (fun I_29 => if ¬ a1 = 0 then zb1 (F o0 4) (fun o_30 => zka K o_30 5 (fun n_32 => zg (decide (600 ≤ o_30)) (zb1 (F o0 3) (fun o_35 => zka K o_35 5 (fun n_37 => zg (decide (600 ≤ o_35)) (some (.inl ((I_29 o_30 11) - (I_29 o_35 11)), I_29))))))) else zb1 (F o0 4) (fun o_40 => zka K o_40 5 (fun n_42 => zg (decide (600 ≤ o_40)) (zb1 (F o0 3) (fun o_45 => zka K o_45 5 (fun n_47 => zg (decide (600 ≤ o_45)) (some (.inl ((I_29 o_40 10) - (I_29 o_45 10)), I_29))))))))))))))) (fun w_16 => some (.inr w_16, I_13))))) (fun w_8 => some (.inr w_8, I_5))))
set_option maxHeartbeats 1000000 in
theorem C_X1_paid {l : Launch} {G : zGt} (htr : l.stackTraces = false) {K : zKd} {F : zFd} {L : zLd} {o0 : Nat} {a0 : Int32} {a1 : Int32} {I : zId} {r : (Int32 ⊕ (String × Nat)) × zId} (hF : F_X1_paid K F o0 a0 a1 I = some r) : zMet l G yX1_paid (ws_ yX1_paid cX1_paid 3 (some .int)) 1006 24093 (zxc r.1) (zxs r.1) [.ref o0, .int a0, .int a1] K F I L (zQe (zoi r.1) K F r.2 L) := by
  refine zMet.of (by decide +kernel) htr (Nat.le_of_ble_eq_true rfl) ?_
  change zW l G MX1_paid 1006 24093 (zxc r.1) (zxs r.1) 0 [(0, .ref o0), (1, .int a0), (2, .int a1)] [] K F I L (zQe (zoi r.1) K F r.2 L)
  unfold F_X1_paid at hF
  refine z_iload_n (n := 1) dX1_paid_0 rfl 2 rfl rfl ?_
  refine z_iconst (n := 2) (v := 0) dX1_paid_1 rfl (by decide) ?_
  refine z_iconst (n := 3) (v := 1) dX1_paid_2 rfl (by decide) ?_
  obtain ⟨x_2, c_1, hF⟩ := zb1_some hF
  refine z_cS (n := 6) (st := []) (C_X1_within htr c_1) dX1_paid_3 rfl (lw_S q786 q787 q105 q788) hcee_X1_within rfl (by decide) rfl (Nat.le_of_ble_eq_true rfl) (Nat.le_refl _) (Nat.le_refl _) ?_
  obtain ⟨s_4, I_5, c_3, hF⟩ := zb2_some hF
  rcases zsum_some hF with ⟨x_7, e_6, hF⟩ | ⟨w_8, e_6, hF⟩
  rotate_left
  · first | rw [e_6] at c_3 ⊢ | rw [e_6] at c_3
    have hF := Option.some.inj hF; subst hF
    refine z_cSx (n := 9) (mc2 := 0) (ms2 := 0) (st := []) (C_X1_there htr c_3) dX1_paid_6 rfl (lw_S q1367 q1368 q105 q1369) hcee_X1_there rfl (by decide) rfl (Nat.le_of_ble_eq_true rfl) (Nat.le_refl _) (Nat.le_refl _) ?_
    exact z_out rfl ⟨rfl, rfl, rfl, rfl, rfl⟩
  first | rw [e_6] at c_3 ⊢ | rw [e_6] at c_3
  refine z_cS (n := 9) (st := []) (C_X1_there htr c_3) dX1_paid_6 rfl (lw_S q1367 q1368 q105 q1369) hcee_X1_there rfl (by decide) rfl (Nat.le_of_ble_eq_true rfl) (Nat.le_refl _) (Nat.le_refl _) ?_
  refine z_iload_n (n := 10) dX1_paid_9 rfl 1 rfl rfl ?_
  refine z_iconst (n := 11) (v := 0) dX1_paid_10 rfl (by decide) ?_
  refine z_bipush (n := 13) (v := 50) dX1_paid_11 rfl (by decide) ?_
  obtain ⟨x_10, c_9, hF⟩ := zb1_some hF
  refine z_cS (n := 16) (st := []) (C_X1_within htr c_9) dX1_paid_13 rfl (lw_S q786 q787 q105 q788) hcee_X1_within rfl (by decide) rfl (Nat.le_of_ble_eq_true rfl) (Nat.le_refl _) (Nat.le_refl _) ?_
  obtain ⟨s_12, I_13, c_11, hF⟩ := zb2_some hF
  rcases zsum_some hF with ⟨x_15, e_14, hF⟩ | ⟨w_16, e_14, hF⟩
  rotate_left
  · first | rw [e_14] at c_11 ⊢ | rw [e_14] at c_11
    have hF := Option.some.inj hF; subst hF
    refine z_cSx (n := 19) (mc2 := 0) (ms2 := 0) (st := []) (C_X1_right htr c_11) dX1_paid_16 rfl (lw_S q954 q955 q105 q956) hcee_X1_right rfl (by decide) rfl (Nat.le_of_ble_eq_true rfl) (Nat.le_refl _) (Nat.le_refl _) ?_
    exact z_out rfl ⟨rfl, rfl, rfl, rfl, rfl⟩
  first | rw [e_14] at c_11 ⊢ | rw [e_14] at c_11
  refine z_cS (n := 19) (st := []) (C_X1_right htr c_11) dX1_paid_16 rfl (lw_S q954 q955 q105 q956) hcee_X1_right rfl (by decide) rfl (Nat.le_of_ble_eq_true rfl) (Nat.le_refl _) (Nat.le_refl _) ?_
  refine z_aload_n (n := 20) dX1_paid_19 rfl 0 rfl rfl ?_
  obtain ⟨n_17, hk_18, hF⟩ := zka_some hF
  obtain ⟨hb_19, hF⟩ := zg_some hF
  obtain ⟨o_20, hr_21, hF⟩ := zb1_some hF
  refine z_getRS (n := 23) dX1_paid_20 rfl zok0 fX1_34_0 rfl hk_18 (Or.inl (zbig hb_19)) hr_21 ?_
  refine z_aload_n (n := 24) dX1_paid_23 rfl 0 rfl rfl ?_
  obtain ⟨o_22, hr_23, hF⟩ := zb1_some hF
  refine z_getRS (n := 27) dX1_paid_24 rfl zok0 fX1_30_0 rfl hk_18 (Or.inl (zbig hb_19)) hr_23 ?_
  obtain ⟨n_24, hk_25, hF⟩ := zka_some hF
  obtain ⟨I_27, c_26, hF⟩ := zb1_some hF
  refine z_cV (n := 30) (st := []) (C_X6_like htr c_26) dX1_paid_27 rfl (lw_V q918 q821 q822 q130 q823) hcee_X6_like rfl (by decide) hk_25 rfl rfl rfl (Nat.le_of_ble_eq_true rfl) (Nat.le_refl _) (Nat.le_refl _) ?_
  refine z_aload_n (n := 31) dX1_paid_30 rfl 0 rfl rfl ?_
  refine z_iload_n (n := 32) dX1_paid_31 rfl 1 rfl rfl ?_
  obtain ⟨I_29, c_28, hF⟩ := zb1_some hF
  refine z_cV (n := 35) (st := []) (C_X1_goesBy htr c_28) dX1_paid_32 rfl (lw_V q1469 q1471 qs35 q105 q1472) hcee_X1_goesBy rfl (by decide) hk_18 rfl rfl rfl (Nat.le_of_ble_eq_true rfl) (Nat.le_refl _) (Nat.le_refl _) ?_
  refine z_iload_n (n := 36) dX1_paid_35 rfl 2 rfl rfl ?_
  refine z_if_ne (n := 39) (t := 57) dX1_paid_36 rfl (by decide) (fun hc => ?_) (fun hc => ?_)
  · replace hF := (if_pos hc).symm.trans hF
    refine z_aload_n (n := 58) dX1_paid_57 rfl 0 rfl rfl ?_
    obtain ⟨o_30, hr_31, hF⟩ := zb1_some hF
    refine z_getRS (n := 61) dX1_paid_58 rfl zok0 fX1_34_0 rfl hk_18 (Or.inl (zbig hb_19)) hr_31 ?_
    obtain ⟨n_32, hk_33, hF⟩ := zka_some hF
    obtain ⟨hb_34, hF⟩ := zg_some hF
    refine z_getI (n := 64) dX1_paid_61 rfl zok5 fX1_162_5 rfl hk_33 (Or.inl (zbig hb_34)) ?_
    refine z_aload_n (n := 65) dX1_paid_64 rfl 0 rfl rfl ?_
    obtain ⟨o_35, hr_36, hF⟩ := zb1_some hF
    refine z_getRS (n := 68) dX1_paid_65 rfl zok0 fX1_30_0 rfl hk_18 (Or.inl (zbig hb_19)) hr_36 ?_
    obtain ⟨n_37, hk_38, hF⟩ := zka_some hF
    obtain ⟨hb_39, hF⟩ := zg_some hF
    refine z_getI (n := 71) dX1_paid_68 rfl zok5 fX1_162_5 rfl hk_38 (Or.inl (zbig hb_39)) ?_
    refine z_isub (n := 72) dX1_paid_71 rfl ?_
    have hF := Option.some.inj hF; subst hF
    exact z_iret dX1_paid_72 rfl rfl ⟨rfl, rfl, rfl, rfl, rfl⟩
  · replace hF := (if_neg hc).symm.trans hF
    refine z_aload_n (n := 40) dX1_paid_39 rfl 0 rfl rfl ?_
    obtain ⟨o_40, hr_41, hF⟩ := zb1_some hF
    refine z_getRS (n := 43) dX1_paid_40 rfl zok0 fX1_34_0 rfl hk_18 (Or.inl (zbig hb_19)) hr_41 ?_
    obtain ⟨n_42, hk_43, hF⟩ := zka_some hF
    obtain ⟨hb_44, hF⟩ := zg_some hF
    refine z_getI (n := 46) dX1_paid_43 rfl zok5 fX1_159_5 rfl hk_43 (Or.inl (zbig hb_44)) ?_
    refine z_aload_n (n := 47) dX1_paid_46 rfl 0 rfl rfl ?_
    obtain ⟨o_45, hr_46, hF⟩ := zb1_some hF
    refine z_getRS (n := 50) dX1_paid_47 rfl zok0 fX1_30_0 rfl hk_18 (Or.inl (zbig hb_19)) hr_46 ?_
    obtain ⟨n_47, hk_48, hF⟩ := zka_some hF
    obtain ⟨hb_49, hF⟩ := zg_some hF
    refine z_getI (n := 53) dX1_paid_50 rfl zok5 fX1_159_5 rfl hk_48 (Or.inl (zbig hb_49)) ?_
    refine z_isub (n := 54) dX1_paid_53 rfl ?_
    refine z_goto (t := 72) dX1_paid_54 (by decide) ?_
    have hF := Option.some.inj hF; subst hF
    exact z_iret dX1_paid_72 rfl rfl ⟨rfl, rfl, rfl, rfl, rfl⟩
abbrev MX1_rest : zM := (RX1, cX1_rest, 4, (some .int), "rest", [])
noncomputable def F_X1_rest (o0 : Nat) (a0 : Int32) (a1 : Int32) (h : zSt) : Option ((Nat × Nat) × ((Int32 ⊕ (String × Nat)) × zSt)) := zka (hK h) o0 0 (fun n_1 => zb2 (F_X1_forestAt (hK h) (jF h) o0 a0 (hI h)) (fun s_4 I_5 => zpay (zxc s_4, zxs s_4) (zlet (zsFI h (jF h) I_5) (fun h_7 => zsum s_4 (fun q_9 => zb1 q_9 (fun o_11 => zb1 (F_X1_within (hK h_7) (jF h_7) a1 0 50 (hI h_7)) (fun x_14 => zka (hK h_7) o0 0 (fun n_15 => zc1 (F_X1_does o0 x_14 h_7) (fun c_20 => zn2 (fun x_18 h_19 => zpay c_20 (if ¬ x_18 = 0 then zka (hK h_19) o0 0 (fun n_22 => zg (decide (600 ≤ o0)) (zb1 ((jF h_19) o0 3) (fun o_25 => zka (hK h_19) o_25 5 (fun n_27 => zg (decide (600 ≤ o_25)) (zb1 ((jF h_19) o_25 2) (fun o_30 => zka (hK h_19) o_30 64 (fun n_32 => zg (zin a0 n_32) (zlet ((hI h_19) o_30 a0.toNatClampNeg) (fun v3_35 => zb1 ((jF h_19) o0 3) (fun o_37 => zka (hK h_19) o_37 5 (fun n_39 => zg (decide (600 ≤ o_37)) (zb1 ((jF h_19) o_37 2) (fun o_42 => zka (hK h_19) o_42 64 (fun n_44 => zg (zin a0 n_44) (zg (decide (600 ≤ o_42)) (zlet (zsI h_19 (zu (hI h_19) o_42 a0.toNatClampNeg a1)) (fun h_48 => some ((0, 0), (.inl v3_35, h_48))))))))))))))))))) else some ((0, 0), (.inl (-1), h_19))))))))) (fun w_10 => some ((0, 0), (.inr w_10, h_7)))))))
set_option maxHeartbeats 1000000 in
theorem C_X1_rest {l : Launch} {G : zGt} (htr : l.stackTraces = false) {o0 : Nat} {a0 : Int32} {a1 : Int32} {h : zSt} {cc : Nat × Nat} {r : (Int32 ⊕ (String × Nat)) × zSt} (hF : F_X1_rest o0 a0 a1 h = some (cc, r)) : zMet l G yX1_rest (ws_ yX1_rest cX1_rest 4 (some .int)) 10 241 (cc.1 + 0) (cc.2 + 0) [.ref o0, .int a0, .int a1] (hK h) (jF h) (hI h) (hL h) (zQe (zoi r.1) (hK r.2) (jF r.2) (hI r.2) (hL r.2)) := by
  refine zMet.of (by decide +kernel) htr (Nat.le_of_ble_eq_true rfl) ?_
  change zW l G MX1_rest 10 241 (cc.1 + 0) (cc.2 + 0) 0 [(0, .ref o0), (1, .int a0), (2, .int a1)] [] (hK h) (jF h) (hI h) (hL h) (zQe (zoi r.1) (hK r.2) (jF r.2) (hI r.2) (hL r.2))
  unfold F_X1_rest at hF
  refine z_aload_n (n := 1) dX1_rest_0 rfl 0 rfl rfl ?_
  refine z_iload_n (n := 2) dX1_rest_1 rfl 1 rfl rfl ?_
  obtain ⟨n_1, hk_2, hF⟩ := zka_some hF
  obtain ⟨s_4, I_5, c_3, hF⟩ := zb2_some hF
  obtain ⟨cc, hF, hcc⟩ := zpay_some hF
  refine z_payE hcc ?_
  obtain ⟨h_7, e_8, hF⟩ := zlet_ob hF
  rcases zsum_some hF with ⟨q_9, e_6, hF⟩ | ⟨w_10, e_6, hF⟩
  rotate_left
  · first | rw [e_6] at c_3 ⊢ | rw [e_6] at c_3
    obtain ⟨rfl, rfl⟩ := zpair hF
    refine z_cVx (n := 5) (mc2 := (((0, 0) : Nat × Nat).1 + 0)) (ms2 := (((0, 0) : Nat × Nat).2 + 0)) (st := []) (C_X1_forestAt htr c_3) dX1_rest_2 rfl (lw_V q1400 q1402 qs31 q105 q1403) hcee_X1_forestAt rfl (by decide) hk_2 rfl rfl rfl (Nat.le_of_ble_eq_true rfl) (Nat.le_of_eq (Nat.add_comm _ _)) (Nat.le_of_eq (Nat.add_comm _ _)) ?_
    exact z_out rfl (by subst e_8; exact ⟨rfl, rfl, rfl, rfl, rfl⟩)
  first | rw [e_6] at c_3 ⊢ | rw [e_6] at c_3
  refine z_cV (n := 5) (mc2 := (cc.1 + 0)) (ms2 := (cc.2 + 0)) (st := []) (C_X1_forestAt htr c_3) dX1_rest_2 rfl (lw_V q1400 q1402 qs31 q105 q1403) hcee_X1_forestAt rfl (by decide) hk_2 rfl rfl rfl (Nat.le_of_ble_eq_true rfl) (Nat.le_of_eq (Nat.add_comm _ _)) (Nat.le_of_eq (Nat.add_comm _ _)) ?_
  refine z_toFI e_8 ?_
  obtain ⟨o_11, hr_12, hF⟩ := zb1_some hF
  rw [hr_12]
  refine z_pop (n := 6) dX1_rest_5 rfl rfl ?_
  refine z_aload_n (n := 7) dX1_rest_6 rfl 0 rfl rfl ?_
  refine z_iload_n (n := 8) dX1_rest_7 rfl 2 rfl rfl ?_
  refine z_iconst (n := 9) (v := 0) dX1_rest_8 rfl (by decide) ?_
  refine z_bipush (n := 11) (v := 50) dX1_rest_9 rfl (by decide) ?_
  obtain ⟨x_14, c_13, hF⟩ := zb1_some hF
  refine z_cS (n := 14) (mc2 := (cc.1 + 0)) (ms2 := (cc.2 + 0)) (st := [.ref o0]) (C_X1_within htr c_13) dX1_rest_11 rfl (lw_S q786 q787 q105 q788) hcee_X1_within rfl (by decide) rfl (Nat.le_of_ble_eq_true rfl) (Nat.le_refl _) (Nat.le_refl _) ?_
  obtain ⟨n_15, hk_16, hF⟩ := zka_some hF
  obtain ⟨c_20, t_21, c_17, hF⟩ := zc1_some hF
  obtain ⟨x_18, h_19⟩ := t_21
  dsimp only [zn2] at hF
  obtain ⟨cc, hF, hcc⟩ := zpay_some hF
  refine z_payE hcc ?_
  refine z_cV (n := 17) (mc2 := (cc.1 + 0)) (ms2 := (cc.2 + 0)) (st := []) (C_X1_does htr c_17) dX1_rest_14 rfl (lw_V q789 q791 qs5 q105 q792) hcee_X1_does rfl (by decide) hk_16 rfl rfl rfl (Nat.le_of_ble_eq_true rfl) (Nat.le_of_eq (Nat.add_comm _ _)) (Nat.le_of_eq (Nat.add_comm _ _)) ?_
  refine z_if_ne (n := 20) (t := 22) dX1_rest_17 rfl (by decide) (fun hc => ?_) (fun hc => ?_)
  · replace hF := (if_pos hc).symm.trans hF
    refine z_aload_n (n := 23) dX1_rest_22 rfl 0 rfl rfl ?_
    obtain ⟨n_22, hk_23, hF⟩ := zka_some hF
    obtain ⟨hb_24, hF⟩ := zg_some hF
    obtain ⟨o_25, hr_26, hF⟩ := zb1_some hF
    refine z_getRS (n := 26) dX1_rest_23 rfl zok0 fX1_30_0 rfl hk_23 (Or.inl (zbig hb_24)) hr_26 ?_
    obtain ⟨n_27, hk_28, hF⟩ := zka_some hF
    obtain ⟨hb_29, hF⟩ := zg_some hF
    obtain ⟨o_30, hr_31, hF⟩ := zb1_some hF
    refine z_getRS (n := 29) dX1_rest_26 rfl zok5 fX1_188_5 rfl hk_28 (Or.inl (zbig hb_29)) hr_31 ?_
    refine z_iload_n (n := 30) dX1_rest_29 rfl 1 rfl rfl ?_
    obtain ⟨n_32, hk_33, hF⟩ := zka_some hF
    obtain ⟨h_34, hF⟩ := zg_some hF
    refine z_ialdK (n := 31) a0.toNatClampNeg rfl dX1_rest_30 rfl hk_33 (zin_ok h_34) ?_
    obtain ⟨v3_35, e_36, hF⟩ := zlet_ob hF
    refine z_istore_nE (n := 32) (lv' := [(3, .int v3_35), (0, .ref o0), (1, .int a0), (2, .int a1)]) dX1_rest_31 rfl e_36 rfl (by decide) rfl ?_
    refine z_aload_n (n := 33) dX1_rest_32 rfl 1 rfl rfl ?_
    obtain ⟨o_37, hr_38, hF⟩ := zb1_some hF
    refine z_getRS (n := 36) dX1_rest_33 rfl zok0 fX1_30_0 rfl hk_23 (Or.inl (zbig hb_24)) hr_38 ?_
    obtain ⟨n_39, hk_40, hF⟩ := zka_some hF
    obtain ⟨hb_41, hF⟩ := zg_some hF
    obtain ⟨o_42, hr_43, hF⟩ := zb1_some hF
    refine z_getRS (n := 39) dX1_rest_36 rfl zok5 fX1_188_5 rfl hk_40 (Or.inl (zbig hb_41)) hr_43 ?_
    refine z_iload_n (n := 40) dX1_rest_39 rfl 2 rfl rfl ?_
    refine z_iload_n (n := 41) dX1_rest_40 rfl 3 rfl rfl ?_
    obtain ⟨n_44, hk_45, hF⟩ := zka_some hF
    obtain ⟨h_46, hF⟩ := zg_some hF
    obtain ⟨hb_47, hF⟩ := zg_some hF
    obtain ⟨h_48, e_49, hF⟩ := zlet_ob hF
    refine z_iastK (n := 42) a0.toNatClampNeg rfl dX1_rest_41 rfl hk_45 (zbig hb_47) (zin_ok h_46) rfl ?_
    refine z_toI e_49 ?_
    refine z_iload_n (n := 43) dX1_rest_42 rfl 0 rfl rfl ?_
    obtain ⟨rfl, rfl⟩ := zpair hF
    exact z_iret dX1_rest_43 rfl rfl ⟨rfl, rfl, rfl, rfl, rfl⟩
  · replace hF := (if_neg hc).symm.trans hF
    refine z_iconst (n := 21) (v := (-1)) dX1_rest_20 rfl (by decide) ?_
    obtain ⟨rfl, rfl⟩ := zpair hF
    exact z_iret dX1_rest_21 rfl rfl ⟨rfl, rfl, rfl, rfl, rfl⟩
abbrev MX1_resting : zM := (RX1, cX1_resting, 6, (some .int), "resting", [])
noncomputable def F_X1_resting_L31 (K : zKd) (F : zFd) (a1 : Int32) (o_9 : Nat) (I_15 : zId) (v4_32 : Int32) (v5_33 : Int32) : Option ((Int32 × Int32) ⊕ ((Unit) ⊕ ((Int32 ⊕ (String × Nat)) × zId))) := if 50 < v5_33 then some (.inr (.inl ())) else if v4_32 < a1 then zka K o_9 9 (fun n_34 => zb1 (F_X10_grown K F o_9 v4_32 I_15) (fun x_37 => zlet (v5_33 + 1) (fun v5_38 => some (.inl (x_37, v5_38))))) else some (.inr (.inr (.inl v5_33, I_15)))
noncomputable def F_X1_resting (K : zKd) (F : zFd) (o0 : Nat) (a0 : Int32) (a1 : Int32) (I : zId) : Option ((Int32 ⊕ (String × Nat)) × zId) := zka K o0 0 (fun n_1 => zb2 (F_X1_forestAt K F o0 a0 I) (fun s_4 I_5 => zsum s_4 (fun q_7 => zb1 q_7 (fun o_9 => zb1 (F_X1_within K F a1 0 999 I_5) (fun x_12 => zb2 (F_X1_right K F x_12 I_5) (fun s_14 I_15 => zsum s_14 (fun x_17 => zg (decide (600 ≤ o0)) (zb1 (F o0 3) (fun o_20 => zka K o_20 5 (fun n_22 => zg (decide (600 ≤ o_20)) (zb1 (F o_20 0) (fun o_25 => zka K o_25 64 (fun n_27 => zg (zin a0 n_27) (zlet (I_15 o_25 a0.toNatClampNeg) (fun v4_30 => zs1 (zloop (fun s : Int32 × Int32 => F_X1_resting_L31 K F a1 o_9 I_15 s.1 s.2) (v4_30, 0)) (fun u_40 => some (.inl (-1), I_15)) (fun z_42 => some z_42)))))))))) (fun w_18 => some (.inr w_18, I_15)))))) (fun w_8 => some (.inr w_8, I_5))))
set_option maxHeartbeats 1000000 in
theorem W_X1_resting_L31 {l : Launch} {G : zGt} (htr : l.stackTraces = false) {K : zKd} {F : zFd} {L : zLd} {Q : zQt} {mE wE : Nat} {a1 : Int32} {o_9 : Nat} {I_15 : zId} {o0 : Nat} {a0 : Int32} {v4_32 : Int32} {v5_33 : Int32} {r : (Int32 × Int32) ⊕ ((Unit) ⊕ ((Int32 ⊕ (String × Nat)) × zId))} (hF : F_X1_resting_L31 K F a1 o_9 I_15 v4_32 v5_33 = some r) (kl : ∀ (z0 : Int32) (z1 : Int32), r = .inl (z0, z1) → zW l G MX1_resting 10 241 mE wE 31 [(2, .int a1), (3, .ref o_9), (4, .int z0), (5, .int z1)] [] K F I_15 L Q) (kx : ∀ (y0 : Unit), r = .inr (.inl y0) → zW l G MX1_resting 10 241 mE wE 61 [] [] K F I_15 L Q) (kq : ∀ z : (Int32 ⊕ (String × Nat)) × zId, r = .inr (.inr z) → Q (zoi z.1) K F z.2 L)(kb : ∀ z : (Int32 ⊕ (String × Nat)) × zId, r = .inr (.inr z) → zxc z.1 ≤ mE ∧ zxs z.1 ≤ wE) : zW l G MX1_resting 10 241 mE wE 31 [(2, .int a1), (3, .ref o_9), (4, .int v4_32), (5, .int v5_33)] [] K F I_15 L Q := by
  unfold F_X1_resting_L31 at hF
  refine z_iload (n := 33) dX1_resting_31 rfl 3 rfl ?_
  refine z_bipush (n := 35) (v := 50) dX1_resting_33 rfl (by decide) ?_
  refine z_icmp_gt (n := 38) (t := 61) dX1_resting_35 rfl (by decide) (fun hc => ?_) (fun hc => ?_)
  · replace hF := (if_pos hc).symm.trans hF
    refine z_sub [] rfl ?_
    have hF := Option.some.inj hF; subst hF
    exact kx () rfl
  · replace hF := (if_neg hc).symm.trans hF
    refine z_iload (n := 40) dX1_resting_38 rfl 2 rfl ?_
    refine z_iload_n (n := 41) dX1_resting_40 rfl 0 rfl rfl ?_
    refine z_icmp_lt (n := 44) (t := 47) dX1_resting_41 rfl (by decide) (fun hc => ?_) (fun hc => ?_)
    · replace hF := (if_pos hc).symm.trans hF
      refine z_aload_n (n := 48) dX1_resting_47 rfl 1 rfl rfl ?_
      refine z_iload (n := 50) dX1_resting_48 rfl 2 rfl ?_
      obtain ⟨n_34, hk_35, hF⟩ := zka_some hF
      obtain ⟨x_37, c_36, hF⟩ := zb1_some hF
      refine z_cV (n := 53) (st := []) (C_X10_grown htr c_36) dX1_resting_50 rfl (lw_V q1523 q904 q905 q135 q906) hcee_X10_grown rfl (by decide) hk_35 rfl rfl rfl (Nat.le_of_ble_eq_true rfl) (Nat.le_refl _) (Nat.le_refl _) ?_
      refine z_istoreE (n := 55) (lv' := [(4, .int x_37), (2, .int a1), (3, .ref o_9), (5, .int v5_33)]) dX1_resting_53 rfl rfl (by decide) rfl ?_
      obtain ⟨v5_38, e_39, hF⟩ := zlet_ob hF
      refine z_iincE (n := 58) (w := 1) (v := v5_38) (lv' := [(5, .int v5_38), (4, .int x_37), (2, .int a1), (3, .ref o_9)]) dX1_resting_55 rfl 3 rfl (by decide) e_39 (by decide) rfl ?_
      refine z_goto (t := 31) dX1_resting_58 (by decide) ?_
      refine z_sub [2, 3, 1, 0] rfl ?_
      have hF := Option.some.inj hF; subst hF
      exact kl x_37 v5_38 rfl
    · replace hF := (if_neg hc).symm.trans hF
      refine z_iload (n := 46) dX1_resting_44 rfl 3 rfl ?_
      have hF := Option.some.inj hF; subst hF
      exact z_iret dX1_resting_46 rfl rfl (kq _ rfl)
set_option maxHeartbeats 1000000 in
theorem C_X1_resting {l : Launch} {G : zGt} (htr : l.stackTraces = false) {K : zKd} {F : zFd} {L : zLd} {o0 : Nat} {a0 : Int32} {a1 : Int32} {I : zId} {r : (Int32 ⊕ (String × Nat)) × zId} (hF : F_X1_resting K F o0 a0 a1 I = some r) : zMet l G yX1_resting (ws_ yX1_resting cX1_resting 6 (some .int)) 10 241 (zxc r.1) (zxs r.1) [.ref o0, .int a0, .int a1] K F I L (zQe (zoi r.1) K F r.2 L) := by
  refine zMet.of (by decide +kernel) htr (Nat.le_of_ble_eq_true rfl) ?_
  change zW l G MX1_resting 10 241 (zxc r.1) (zxs r.1) 0 [(0, .ref o0), (1, .int a0), (2, .int a1)] [] K F I L (zQe (zoi r.1) K F r.2 L)
  unfold F_X1_resting at hF
  refine z_aload_n (n := 1) dX1_resting_0 rfl 0 rfl rfl ?_
  refine z_iload_n (n := 2) dX1_resting_1 rfl 1 rfl rfl ?_
  obtain ⟨n_1, hk_2, hF⟩ := zka_some hF
  obtain ⟨s_4, I_5, c_3, hF⟩ := zb2_some hF
  rcases zsum_some hF with ⟨q_7, e_6, hF⟩ | ⟨w_8, e_6, hF⟩
  rotate_left
  · first | rw [e_6] at c_3 ⊢ | rw [e_6] at c_3
    have hF := Option.some.inj hF; subst hF
    refine z_cVx (n := 5) (mc2 := 0) (ms2 := 0) (st := []) (C_X1_forestAt htr c_3) dX1_resting_2 rfl (lw_V q1400 q1402 qs31 q105 q1403) hcee_X1_forestAt rfl (by decide) hk_2 rfl rfl rfl (Nat.le_of_ble_eq_true rfl) (Nat.le_refl _) (Nat.le_refl _) ?_
    exact z_out rfl ⟨rfl, rfl, rfl, rfl, rfl⟩
  first | rw [e_6] at c_3 ⊢ | rw [e_6] at c_3
  refine z_cV (n := 5) (st := []) (C_X1_forestAt htr c_3) dX1_resting_2 rfl (lw_V q1400 q1402 qs31 q105 q1403) hcee_X1_forestAt rfl (by decide) hk_2 rfl rfl rfl (Nat.le_of_ble_eq_true rfl) (Nat.le_refl _) (Nat.le_refl _) ?_
  obtain ⟨o_9, hr_10, hF⟩ := zb1_some hF
  rw [hr_10]
  refine z_astore_nS (n := 6) (lv' := [(3, .ref o_9), (0, .ref o0), (1, .int a0), (2, .int a1)]) dX1_resting_5 rfl rfl (by decide) rfl ?_
  refine z_iload_n (n := 7) dX1_resting_6 rfl 3 rfl rfl ?_
  refine z_iconst (n := 8) (v := 0) dX1_resting_7 rfl (by decide) ?_
  refine z_sipush (n := 11) (v := 999) dX1_resting_8 rfl (by decide) ?_
  obtain ⟨x_12, c_11, hF⟩ := zb1_some hF
  refine z_cS (n := 14) (st := []) (C_X1_within htr c_11) dX1_resting_11 rfl (lw_S q786 q787 q105 q788) hcee_X1_within rfl (by decide) rfl (Nat.le_of_ble_eq_true rfl) (Nat.le_refl _) (Nat.le_refl _) ?_
  obtain ⟨s_14, I_15, c_13, hF⟩ := zb2_some hF
  rcases zsum_some hF with ⟨x_17, e_16, hF⟩ | ⟨w_18, e_16, hF⟩
  rotate_left
  · first | rw [e_16] at c_13 ⊢ | rw [e_16] at c_13
    have hF := Option.some.inj hF; subst hF
    refine z_cSx (n := 17) (mc2 := 0) (ms2 := 0) (st := []) (C_X1_right htr c_13) dX1_resting_14 rfl (lw_S q954 q955 q105 q956) hcee_X1_right rfl (by decide) rfl (Nat.le_of_ble_eq_true rfl) (Nat.le_refl _) (Nat.le_refl _) ?_
    exact z_out rfl ⟨rfl, rfl, rfl, rfl, rfl⟩
  first | rw [e_16] at c_13 ⊢ | rw [e_16] at c_13
  refine z_cS (n := 17) (st := []) (C_X1_right htr c_13) dX1_resting_14 rfl (lw_S q954 q955 q105 q956) hcee_X1_right rfl (by decide) rfl (Nat.le_of_ble_eq_true rfl) (Nat.le_refl _) (Nat.le_refl _) ?_
  refine z_aload_n (n := 18) dX1_resting_17 rfl 1 rfl rfl ?_
  obtain ⟨hb_19, hF⟩ := zg_some hF
  obtain ⟨o_20, hr_21, hF⟩ := zb1_some hF
  refine z_getRS (n := 21) dX1_resting_18 rfl zok0 fX1_30_0 rfl hk_2 (Or.inl (zbig hb_19)) hr_21 ?_
  obtain ⟨n_22, hk_23, hF⟩ := zka_some hF
  obtain ⟨hb_24, hF⟩ := zg_some hF
  obtain ⟨o_25, hr_26, hF⟩ := zb1_some hF
  refine z_getRS (n := 24) dX1_resting_21 rfl zok5 fX1_176_5 rfl hk_23 (Or.inl (zbig hb_24)) hr_26 ?_
  refine z_iload_n (n := 25) dX1_resting_24 rfl 2 rfl rfl ?_
  obtain ⟨n_27, hk_28, hF⟩ := zka_some hF
  obtain ⟨h_29, hF⟩ := zg_some hF
  refine z_ialdK (n := 26) a0.toNatClampNeg rfl dX1_resting_25 rfl hk_28 (zin_ok h_29) ?_
  obtain ⟨v4_30, e_31, hF⟩ := zlet_ob hF
  refine z_istoreE (n := 28) (lv' := [(4, .int v4_30), (3, .ref o_9), (0, .ref o0), (1, .int a0), (2, .int a1)]) dX1_resting_26 rfl e_31 (by decide) rfl ?_
  refine z_iconst (n := 29) (v := 0) dX1_resting_28 rfl (by decide) ?_
  refine z_istoreE (n := 31) (lv' := [(5, .int 0), (4, .int v4_30), (3, .ref o_9), (0, .ref o0), (1, .int a0), (2, .int a1)]) dX1_resting_29 rfl rfl (by decide) rfl ?_
  refine z_sub [5, 2, 1, 0] rfl ?_
  rcases zs1_some hF with ⟨t_43, e_41, hF⟩ | ⟨t_43, e_41, hF⟩
  · skip
    obtain ⟨u_40, rfl⟩ : ∃ z, z = t_43 := ⟨_, rfl⟩
    have H_44 : zW l G MX1_resting 10 241 (zxc r.1) (zxs r.1) 61 [] [] K F I_15 L (zQe (zoi r.1) K F r.2 L) := by
      refine z_iconst (n := 62) (v := (-1)) dX1_resting_61 rfl (by decide) ?_
      have hF := Option.some.inj hF; subst hF
      exact z_iret dX1_resting_62 rfl rfl ⟨rfl, rfl, rfl, rfl, rfl⟩
    refine zloop_ind (P := fun s : Int32 × Int32 => zW l G MX1_resting 10 241 (zxc r.1) (zxs r.1) 31 [(2, .int a1), (3, .ref o_9), (4, .int s.1), (5, .int s.2)] [] K F I_15 L (zQe (zoi r.1) K F r.2 L)) (fun s r hb kl kr => ?_) e_41
    exact W_X1_resting_L31 (o0 := o0) (a0 := a0) (a1 := a1) htr hb (fun z0 z1 e => kl _ e) (fun y0 e => by cases kr _ e; exact H_44) (fun z e => by cases kr _ e) (fun z e => by cases kr _ e)
  · skip
    have hq := Option.some.inj hF
    refine zloop_ind (P := fun s : Int32 × Int32 => zW l G MX1_resting 10 241 (zxc r.1) (zxs r.1) 31 [(2, .int a1), (3, .ref o_9), (4, .int s.1), (5, .int s.2)] [] K F I_15 L (zQe (zoi r.1) K F r.2 L)) (fun s r hb kl kr => ?_) e_41
    exact W_X1_resting_L31 (o0 := o0) (a0 := a0) (a1 := a1) htr hb (fun z0 z1 e => kl _ e) (fun y0 e => by cases kr _ e) (fun z e => by cases kr _ e; subst hq; exact ⟨rfl, rfl, rfl, rfl, rfl⟩) (fun z e => by cases kr _ e; subst hq; exact ⟨Nat.le_refl _, Nat.le_refl _⟩)
abbrev MX1_restore : zM := (RX1, cX1_restore, 1, (some .boolean), "restore", [])
noncomputable def F_X1_restore (K : zKd) (F : zFd) (o0 : Nat) (I : zId) : Option (Int32 × zId) := zka K o0 0 (fun n_1 => zg (decide (600 ≤ o0)) (if ¬ (I o0 5) = 0 then zb1 (F o0 1) (fun o_4 => zb1 (F o0 2) (fun o_6 => zka K o_4 4 (fun n_8 => zb1 (F_X5_like K F o_4 o_6 I) (fun I_11 => some (1, I_11))))) else some (0, I)))
set_option maxHeartbeats 1000000 in
theorem C_X1_restore {l : Launch} {G : zGt} (htr : l.stackTraces = false) {K : zKd} {F : zFd} {L : zLd} {o0 : Nat} {I : zId} {r : Int32 × zId} (hF : F_X1_restore K F o0 I = some r) : zMet l G yX1_restore (ws_ yX1_restore cX1_restore 1 (some .boolean)) 4 103 0 0 [.ref o0] K F I L (zQe (.inl (some (.int r.1))) K F r.2 L) := by
  refine zMet.of (by decide +kernel) htr (Nat.le_of_ble_eq_true rfl) ?_
  change zW l G MX1_restore 4 103 0 0 0 [(0, .ref o0)] [] K F I L (zQe (.inl (some (.int r.1))) K F r.2 L)
  unfold F_X1_restore at hF
  refine z_aload_n (n := 1) dX1_restore_0 rfl 0 rfl rfl ?_
  obtain ⟨n_1, hk_2, hF⟩ := zka_some hF
  obtain ⟨hb_3, hF⟩ := zg_some hF
  refine z_getI (n := 4) dX1_restore_1 rfl zok0 fX1_132_0 rfl hk_2 (Or.inl (zbig hb_3)) ?_
  refine z_if_ne (n := 7) (t := 9) dX1_restore_4 rfl (by decide) (fun hc => ?_) (fun hc => ?_)
  · replace hF := (if_pos hc).symm.trans hF
    refine z_aload_n (n := 10) dX1_restore_9 rfl 0 rfl rfl ?_
    obtain ⟨o_4, hr_5, hF⟩ := zb1_some hF
    refine z_getRS (n := 13) dX1_restore_10 rfl zok0 fX1_19_0 rfl hk_2 (Or.inl (zbig hb_3)) hr_5 ?_
    refine z_aload_n (n := 14) dX1_restore_13 rfl 0 rfl rfl ?_
    obtain ⟨o_6, hr_7, hF⟩ := zb1_some hF
    refine z_getRS (n := 17) dX1_restore_14 rfl zok0 fX1_23_0 rfl hk_2 (Or.inl (zbig hb_3)) hr_7 ?_
    obtain ⟨n_8, hk_9, hF⟩ := zka_some hF
    obtain ⟨I_11, c_10, hF⟩ := zb1_some hF
    refine z_cV (n := 20) (st := []) (C_X5_like htr c_10) dX1_restore_17 rfl (lw_V q936 q937 q938 q129 q939) hcee_X5_like rfl (by decide) hk_9 rfl rfl rfl (Nat.le_of_ble_eq_true rfl) (Nat.le_refl _) (Nat.le_refl _) ?_
    refine z_iconst (n := 21) (v := 1) dX1_restore_20 rfl (by decide) ?_
    have hF := Option.some.inj hF; subst hF
    exact z_iret dX1_restore_21 rfl rfl ⟨rfl, rfl, rfl, rfl, rfl⟩
  · replace hF := (if_neg hc).symm.trans hF
    refine z_iconst (n := 8) (v := 0) dX1_restore_7 rfl (by decide) ?_
    have hF := Option.some.inj hF; subst hF
    exact z_iret dX1_restore_8 rfl rfl ⟨rfl, rfl, rfl, rfl, rfl⟩
abbrev MX1_walks : zM := (RX1, cX1_walks, 7, none, "walks", [])
noncomputable def F_X1_walks_L16 (K : zKd) (F : zFd) (o0 : Nat) (a0 : Int32) (a1 : Int32) (a2 : Int32) (v4_9 : Int32) (v5_11 : Int32) (I_12 : zId) : Option ((Int32 × zId) ⊕ (zId)) := zka K o0 0 (fun n_13 => zb1 (F_X1_forests K F o0 I_12) (fun x_16 => if x_16 ≤ v5_11 then some (.inr (I_12)) else if 100000 ≤ v4_9 then some (.inr (I_12)) else if ((a2 >>> (v5_11 &&& (31 : Int32))) &&& (1 : Int32)) = 0 then zlet (v5_11 + 1) (fun v5_17 => some (.inl (v5_17, I_12))) else if ¬ ((a0 >>> (v5_11 &&& (31 : Int32))) &&& (1 : Int32)) = 1 then zlet (((8 : Int32) * (a0 ||| ((1 : Int32) <<< (v5_11 &&& (31 : Int32))))) + v5_11) (fun v6_19 => zg (decide (600 ≤ o0)) (zb1 (F o0 9) (fun o_22 => zb1 (F o0 9) (fun o_24 => zka K o_24 64 (fun n_26 => zg (zin v6_19 n_26) (zb1 (F o0 0) (fun o_29 => zka K o_29 1 (fun n_31 => zb1 (F_X2_far K F o_29 a1 v5_11 I_12) (fun x_34 => zka K o_22 64 (fun n_35 => zg (zin v6_19 n_35) (zg (decide (600 ≤ o_22)) (zlet (zu I_12 o_22 v6_19.toNatClampNeg (zmin (I_12 o_24 v6_19.toNatClampNeg) (v4_9 + x_34))) (fun I_39 => zlet (v5_11 + 1) (fun v5_41 => some (.inl (v5_41, I_39)))))))))))))))) else zlet (v5_11 + 1) (fun v5_43 => some (.inl (v5_43, I_12)))))
noncomputable def F_X1_walks (K : zKd) (F : zFd) (o0 : Nat) (a0 : Int32) (a1 : Int32) (a2 : Int32) (I : zId) : Option (zId) := zka K o0 0 (fun n_1 => zg (decide (600 ≤ o0)) (zb1 (F o0 9) (fun o_4 => zka K o_4 64 (fun n_6 => zg (zin (((8 : Int32) * a0) + a1) n_6) (zlet (I o_4 ((((8 : Int32) * a0) + a1).toNatClampNeg)) (fun v4_9 => zb1 (zloop (fun s : Int32 × zId => F_X1_walks_L16 K F o0 a0 a1 a2 v4_9 s.1 s.2) (0, I)) (fun I_45 => some I_45)))))))
set_option maxHeartbeats 1000000 in
theorem W_X1_walks_L16 {l : Launch} {G : zGt} (htr : l.stackTraces = false) {K : zKd} {F : zFd} {L : zLd} {Q : zQt} {o0 : Nat} {a0 : Int32} {a1 : Int32} {a2 : Int32} {v4_9 : Int32} {v5_11 : Int32} {I_12 : zId} {r : (Int32 × zId) ⊕ (zId)} (hF : F_X1_walks_L16 K F o0 a0 a1 a2 v4_9 v5_11 I_12 = some r) (kl : ∀ (z0 : Int32) (z1 : zId), r = .inl (z0, z1) → zW l G MX1_walks 2 40 0 0 16 [(0, .ref o0), (1, .int a0), (2, .int a1), (3, .int a2), (4, .int v4_9), (5, .int z0)] [] K F z1 L Q) (kx : ∀ (y0 : zId), r = .inr y0 → zW l G MX1_walks 2 40 0 0 105 [] [] K F y0 L Q)  : zW l G MX1_walks 2 40 0 0 16 [(0, .ref o0), (1, .int a0), (2, .int a1), (3, .int a2), (4, .int v4_9), (5, .int v5_11)] [] K F I_12 L Q := by
  unfold F_X1_walks_L16 at hF
  refine z_iload (n := 18) dX1_walks_16 rfl 5 rfl ?_
  refine z_aload_n (n := 19) dX1_walks_18 rfl 0 rfl rfl ?_
  obtain ⟨n_13, hk_14, hF⟩ := zka_some hF
  obtain ⟨x_16, c_15, hF⟩ := zb1_some hF
  refine z_cV (n := 22) (st := [.int v5_11]) (C_X1_forests htr c_15) dX1_walks_19 rfl (lw_V q923 q925 qs12 q105 q926) hcee_X1_forests rfl (by decide) hk_14 rfl rfl rfl (Nat.le_of_ble_eq_true rfl) (Nat.le_refl _) (Nat.le_refl _) ?_
  refine z_icmp_ge (n := 25) (t := 105) dX1_walks_22 rfl (by decide) (fun hc => ?_) (fun hc => ?_)
  · replace hF := (if_pos hc).symm.trans hF
    refine z_sub [] rfl ?_
    have hF := Option.some.inj hF; subst hF
    exact kx I_12 rfl
  · replace hF := (if_neg hc).symm.trans hF
    refine z_iload (n := 27) dX1_walks_25 rfl 4 rfl ?_
    refine z_ldcw (n := 30) dX1_walks_27 rfl q1542 ?_
    refine z_icmp_ge (n := 33) (t := 105) dX1_walks_30 rfl (by decide) (fun hc => ?_) (fun hc => ?_)
    · replace hF := (if_pos hc).symm.trans hF
      refine z_sub [] rfl ?_
      have hF := Option.some.inj hF; subst hF
      exact kx I_12 rfl
    · replace hF := (if_neg hc).symm.trans hF
      refine z_iload_n (n := 34) dX1_walks_33 rfl 3 rfl rfl ?_
      refine z_iload (n := 36) dX1_walks_34 rfl 5 rfl ?_
      refine z_ishr (n := 37) dX1_walks_36 rfl ?_
      refine z_iconst (n := 38) (v := 1) dX1_walks_37 rfl (by decide) ?_
      refine z_iand (n := 39) dX1_walks_38 rfl ?_
      refine z_if_eq (n := 42) (t := 99) dX1_walks_39 rfl (by decide) (fun hc => ?_) (fun hc => ?_)
      · replace hF := (if_pos hc).symm.trans hF
        obtain ⟨v5_17, e_18, hF⟩ := zlet_ob hF
        refine z_iincE (n := 102) (w := 1) (v := v5_17) (lv' := [(5, .int v5_17), (0, .ref o0), (1, .int a0), (2, .int a1), (3, .int a2), (4, .int v4_9)]) dX1_walks_99 rfl 5 rfl (by decide) e_18 (by decide) rfl ?_
        refine z_goto (t := 16) dX1_walks_102 (by decide) ?_
        refine z_sub [1, 2, 3, 4, 5, 0] rfl ?_
        have hF := Option.some.inj hF; subst hF
        exact kl v5_17 I_12 rfl
      · replace hF := (if_neg hc).symm.trans hF
        refine z_iload_n (n := 43) dX1_walks_42 rfl 1 rfl rfl ?_
        refine z_iload (n := 45) dX1_walks_43 rfl 5 rfl ?_
        refine z_ishr (n := 46) dX1_walks_45 rfl ?_
        refine z_iconst (n := 47) (v := 1) dX1_walks_46 rfl (by decide) ?_
        refine z_iand (n := 48) dX1_walks_47 rfl ?_
        refine z_iconst (n := 49) (v := 1) dX1_walks_48 rfl (by decide) ?_
        refine z_icmp_ne (n := 52) (t := 55) dX1_walks_49 rfl (by decide) (fun hc => ?_) (fun hc => ?_)
        · replace hF := (if_pos hc).symm.trans hF
          refine z_bipush (n := 57) (v := 8) dX1_walks_55 rfl (by decide) ?_
          refine z_iload_n (n := 58) dX1_walks_57 rfl 1 rfl rfl ?_
          refine z_iconst (n := 59) (v := 1) dX1_walks_58 rfl (by decide) ?_
          refine z_iload (n := 61) dX1_walks_59 rfl 5 rfl ?_
          refine z_ishl (n := 62) dX1_walks_61 rfl ?_
          refine z_ior (n := 63) dX1_walks_62 rfl ?_
          refine z_imul (n := 64) dX1_walks_63 rfl ?_
          refine z_iload (n := 66) dX1_walks_64 rfl 5 rfl ?_
          refine z_iadd (n := 67) dX1_walks_66 rfl ?_
          obtain ⟨v6_19, e_20, hF⟩ := zlet_ob hF
          refine z_istoreE (n := 69) (lv' := [(6, .int v6_19), (0, .ref o0), (1, .int a0), (2, .int a1), (3, .int a2), (4, .int v4_9), (5, .int v5_11)]) dX1_walks_67 rfl e_20 (by decide) rfl ?_
          refine z_aload_n (n := 70) dX1_walks_69 rfl 1 rfl rfl ?_
          obtain ⟨hb_21, hF⟩ := zg_some hF
          obtain ⟨o_22, hr_23, hF⟩ := zb1_some hF
          refine z_getRS (n := 73) dX1_walks_70 rfl zok0 fX1_45_0 rfl hk_14 (Or.inl (zbig hb_21)) hr_23 ?_
          refine z_iload (n := 75) dX1_walks_73 rfl 0 rfl ?_
          refine z_aload_n (n := 76) dX1_walks_75 rfl 1 rfl rfl ?_
          obtain ⟨o_24, hr_25, hF⟩ := zb1_some hF
          refine z_getRS (n := 79) dX1_walks_76 rfl zok0 fX1_45_0 rfl hk_14 (Or.inl (zbig hb_21)) hr_25 ?_
          refine z_iload (n := 81) dX1_walks_79 rfl 0 rfl ?_
          obtain ⟨n_26, hk_27, hF⟩ := zka_some hF
          obtain ⟨h_28, hF⟩ := zg_some hF
          refine z_ialdK (n := 82) v6_19.toNatClampNeg rfl dX1_walks_81 rfl hk_27 (zin_ok h_28) ?_
          refine z_iload (n := 84) dX1_walks_82 rfl 5 rfl ?_
          refine z_aload_n (n := 85) dX1_walks_84 rfl 1 rfl rfl ?_
          obtain ⟨o_29, hr_30, hF⟩ := zb1_some hF
          refine z_getRS (n := 88) dX1_walks_85 rfl zok0 fX1_10_0 rfl hk_14 (Or.inl (zbig hb_21)) hr_30 ?_
          refine z_iload_n (n := 89) dX1_walks_88 rfl 3 rfl rfl ?_
          refine z_iload (n := 91) dX1_walks_89 rfl 6 rfl ?_
          obtain ⟨n_31, hk_32, hF⟩ := zka_some hF
          obtain ⟨x_34, c_33, hF⟩ := zb1_some hF
          refine z_cV (n := 94) (st := [.int v4_9, .int (I_12 o_24 v6_19.toNatClampNeg), .int v6_19, .ref o_22]) (C_X2_far htr c_33) dX1_walks_91 rfl (lw_V q1538 q1350 q1351 q106 q1352) hcee_X2_far rfl (by decide) hk_32 rfl rfl rfl (Nat.le_of_ble_eq_true rfl) (Nat.le_refl _) (Nat.le_refl _) ?_
          refine z_iadd (n := 95) dX1_walks_94 rfl ?_
          refine z_min (n := 98) dX1_walks_95 rfl q1454 q290 q119 q291 (by decide) (Nat.le_of_ble_eq_true rfl) ?_
          obtain ⟨n_35, hk_36, hF⟩ := zka_some hF
          obtain ⟨h_37, hF⟩ := zg_some hF
          obtain ⟨hb_38, hF⟩ := zg_some hF
          obtain ⟨I_39, e_40, hF⟩ := zlet_ob hF
          refine z_iastK (n := 99) v6_19.toNatClampNeg rfl dX1_walks_98 rfl hk_36 (zbig hb_38) (zin_ok h_37) e_40 ?_
          obtain ⟨v5_41, e_42, hF⟩ := zlet_ob hF
          refine z_iincE (n := 102) (w := 1) (v := v5_41) (lv' := [(5, .int v5_41), (6, .int v6_19), (0, .ref o0), (1, .int a0), (2, .int a1), (3, .int a2), (4, .int v4_9)]) dX1_walks_99 rfl 6 rfl (by decide) e_42 (by decide) rfl ?_
          refine z_goto (t := 16) dX1_walks_102 (by decide) ?_
          refine z_sub [2, 3, 4, 5, 6, 0] rfl ?_
          have hF := Option.some.inj hF; subst hF
          exact kl v5_41 I_39 rfl
        · replace hF := (if_neg hc).symm.trans hF
          refine z_goto (t := 99) dX1_walks_52 (by decide) ?_
          obtain ⟨v5_43, e_44, hF⟩ := zlet_ob hF
          refine z_iincE (n := 102) (w := 1) (v := v5_43) (lv' := [(5, .int v5_43), (0, .ref o0), (1, .int a0), (2, .int a1), (3, .int a2), (4, .int v4_9)]) dX1_walks_99 rfl 5 rfl (by decide) e_44 (by decide) rfl ?_
          refine z_goto (t := 16) dX1_walks_102 (by decide) ?_
          refine z_sub [1, 2, 3, 4, 5, 0] rfl ?_
          have hF := Option.some.inj hF; subst hF
          exact kl v5_43 I_12 rfl
set_option maxHeartbeats 1000000 in
theorem C_X1_walks {l : Launch} {G : zGt} (htr : l.stackTraces = false) {K : zKd} {F : zFd} {L : zLd} {o0 : Nat} {a0 : Int32} {a1 : Int32} {a2 : Int32} {I : zId} {r : zId} (hF : F_X1_walks K F o0 a0 a1 a2 I = some r) : zMet l G yX1_walks (ws_ yX1_walks cX1_walks 7 none) 2 40 0 0 [.ref o0, .int a0, .int a1, .int a2] K F I L (zQe (.inl none) K F r L) := by
  refine zMet.of (by decide +kernel) htr (Nat.le_of_ble_eq_true rfl) ?_
  change zW l G MX1_walks 2 40 0 0 0 [(0, .ref o0), (1, .int a0), (2, .int a1), (3, .int a2)] [] K F I L (zQe (.inl none) K F r L)
  unfold F_X1_walks at hF
  refine z_aload_n (n := 1) dX1_walks_0 rfl 0 rfl rfl ?_
  obtain ⟨n_1, hk_2, hF⟩ := zka_some hF
  obtain ⟨hb_3, hF⟩ := zg_some hF
  obtain ⟨o_4, hr_5, hF⟩ := zb1_some hF
  refine z_getRS (n := 4) dX1_walks_1 rfl zok0 fX1_45_0 rfl hk_2 (Or.inl (zbig hb_3)) hr_5 ?_
  refine z_bipush (n := 6) (v := 8) dX1_walks_4 rfl (by decide) ?_
  refine z_iload_n (n := 7) dX1_walks_6 rfl 1 rfl rfl ?_
  refine z_imul (n := 8) dX1_walks_7 rfl ?_
  refine z_iload_n (n := 9) dX1_walks_8 rfl 2 rfl rfl ?_
  refine z_iadd (n := 10) dX1_walks_9 rfl ?_
  obtain ⟨n_6, hk_7, hF⟩ := zka_some hF
  obtain ⟨h_8, hF⟩ := zg_some hF
  refine z_ialdK (n := 11) ((((8 : Int32) * a0) + a1).toNatClampNeg) rfl dX1_walks_10 rfl hk_7 (zin_ok h_8) ?_
  obtain ⟨v4_9, e_10, hF⟩ := zlet_ob hF
  refine z_istoreE (n := 13) (lv' := [(4, .int v4_9), (0, .ref o0), (1, .int a0), (2, .int a1), (3, .int a2)]) dX1_walks_11 rfl e_10 (by decide) rfl ?_
  refine z_iconst (n := 14) (v := 0) dX1_walks_13 rfl (by decide) ?_
  refine z_istoreE (n := 16) (lv' := [(5, .int 0), (4, .int v4_9), (0, .ref o0), (1, .int a0), (2, .int a1), (3, .int a2)]) dX1_walks_14 rfl rfl (by decide) rfl ?_
  refine z_sub [2, 3, 4, 5, 1, 0] rfl ?_
  obtain ⟨t_47, e_46, hF⟩ := zb1_some hF
  obtain ⟨I_45, rfl⟩ : ∃ z, z = t_47 := ⟨_, rfl⟩
  have H_48 : zW l G MX1_walks 2 40 0 0 105 [] [] K F I_45 L (zQe (.inl none) K F r L) := by
    have hF := Option.some.inj hF; subst hF
    exact z_vret dX1_walks_105 rfl ⟨rfl, rfl, rfl, rfl, rfl⟩
  refine zloop_ind (P := fun s : Int32 × zId => zW l G MX1_walks 2 40 0 0 16 [(0, .ref o0), (1, .int a0), (2, .int a1), (3, .int a2), (4, .int v4_9), (5, .int s.1)] [] K F s.2 L (zQe (.inl none) K F r L)) (fun s r hb kl kr => ?_) e_46
  exact W_X1_walks_L16 (o0 := o0) (a0 := a0) (a1 := a1) (a2 := a2) htr hb (fun z0 z1 e => kl _ e) (fun y0 e => by cases kr _ e; exact H_48)
theorem hcee_X1_camps : zCee yX1_camps RX1 0 := ⟨rfl, by decide +kernel, by decide +kernel, by decide +kernel⟩
theorem hcee_X1_walks : zCee yX1_walks RX1 3 := ⟨rfl, by decide +kernel, by decide +kernel, by decide +kernel⟩
abbrev MX1_round : zM := (RX1, cX1_round, 6, (some .int), "round", [])
noncomputable def F_X1_round_L14 (K : zKd) (F : zFd) (o0 : Nat) (v4_11 : Int32) (I_12 : zId) : Option ((Int32 × zId) ⊕ (zId)) := zka K o0 0 (fun n_13 => zg (decide (600 ≤ o0)) (zb1 (F o0 9) (fun o_16 => zka K o_16 64 (fun n_18 => if (nI n_18) ≤ v4_11 then some (.inr (I_12)) else zb1 (F o0 9) (fun o_20 => zka K o_20 64 (fun n_22 => zg (zin v4_11 n_22) (zg (decide (600 ≤ o_20)) (zlet (zu I_12 o_20 v4_11.toNatClampNeg 100000) (fun I_26 => zlet (v4_11 + 1) (fun v4_28 => some (.inl (v4_28, I_26))))))))))))
noncomputable def F_X1_round_L43 (K : zKd) (F : zFd) (o0 : Nat) (x_7 : Int32) (x_10 : Int32) (v4_31 : Int32) (I_32 : zId) : Option ((Int32 × zId) ⊕ (zId)) := zka K o0 0 (fun n_33 => zb1 (F_X1_forests K F o0 I_32) (fun x_36 => if x_36 ≤ v4_31 then some (.inr (I_32)) else if ¬ ((x_10 >>> (v4_31 &&& (31 : Int32))) &&& (1 : Int32)) = 1 then zlet (v4_31 + 1) (fun v4_37 => some (.inl (v4_37, I_32))) else zg (decide (600 ≤ o0)) (zb1 (F o0 9) (fun o_40 => zb1 (F o0 0) (fun o_42 => zka K o_42 1 (fun n_44 => zb1 (F_X2_far K F o_42 x_7 v4_31 I_32) (fun x_47 => zka K o_40 64 (fun n_48 => zg (zin (((8 : Int32) * ((1 : Int32) <<< (v4_31 &&& (31 : Int32)))) + v4_31) n_48) (zg (decide (600 ≤ o_40)) (zlet (zu I_32 o_40 ((((8 : Int32) * ((1 : Int32) <<< (v4_31 &&& (31 : Int32)))) + v4_31).toNatClampNeg) x_47) (fun I_52 => zlet (v4_31 + 1) (fun v4_54 => some (.inl (v4_54, I_52))))))))))))))
noncomputable def F_X1_round_L105 (K : zKd) (F : zFd) (o0 : Nat) (x_10 : Int32) (v4_57 : Int32) (v5_59 : Int32) (I_60 : zId) : Option ((Int32 × zId) ⊕ (zId)) := zka K o0 0 (fun n_61 => zb1 (F_X1_forests K F o0 I_60) (fun x_64 => if x_64 ≤ v5_59 then some (.inr (I_60)) else if ¬ (v4_57 &&& (x_10 ^^^ ((-1) : Int32))) = 0 then some (.inr (I_60)) else zb1 (F_X1_walks K F o0 v4_57 v5_59 x_10 I_60) (fun I_66 => zlet (v5_59 + 1) (fun v5_67 => some (.inl (v5_67, I_66))))))
noncomputable def F_X1_round_L96 (K : zKd) (F : zFd) (o0 : Nat) (x_10 : Int32) (v4_57 : Int32) (I_58 : zId) : Option ((Int32 × zId) ⊕ (zId)) := if x_10 < v4_57 then some (.inr (I_58)) else zb1 (zloop (fun s : Int32 × zId => F_X1_round_L105 K F o0 x_10 v4_57 s.1 s.2) (0, I_58)) (fun I_69 => zlet (v4_57 + 1) (fun v4_70 => some (.inl (v4_70, I_69))))
noncomputable def F_X1_round_L160 (K : zKd) (F : zFd) (o0 : Nat) (x_7 : Int32) (x_10 : Int32) (I_75 : zId) (v4_80 : Int32) (v5_81 : Int32) : Option ((Int32 × Int32) ⊕ (Int32)) := zka K o0 0 (fun n_82 => zb1 (F_X1_forests K F o0 I_75) (fun x_85 => if x_85 ≤ v5_81 then some (.inr (v4_80)) else zg (decide (600 ≤ o0)) (zb1 (F o0 9) (fun o_87 => zka K o_87 64 (fun n_89 => zg (zin (((8 : Int32) * x_10) + v5_81) n_89) (zb1 (F o0 0) (fun o_92 => zka K o_92 1 (fun n_94 => zb1 (F_X2_far K F o_92 v5_81 x_7 I_75) (fun x_97 => zlet (zmin v4_80 ((I_75 o_87 ((((8 : Int32) * x_10) + v5_81).toNatClampNeg)) + x_97)) (fun v4_98 => zlet (v5_81 + 1) (fun v5_100 => some (.inl (v4_98, v5_100)))))))))))))
noncomputable def F_X1_round (K : zKd) (F : zFd) (o0 : Nat) (a0 : Int32) (I : zId) : Option ((Int32 ⊕ (String × Nat)) × zId) := zka K o0 0 (fun n_1 => zb2 (F_X1_fortAt K F o0 a0 I) (fun s_4 I_5 => zsum s_4 (fun x_7 => zb1 (F_X1_camps K F o0 I_5) (fun x_10 => zb1 (zloop (fun s : Int32 × zId => F_X1_round_L14 K F o0 s.1 s.2) (0, I_5)) (fun I_30 => zb1 (zloop (fun s : Int32 × zId => F_X1_round_L43 K F o0 x_7 x_10 s.1 s.2) (0, I_30)) (fun I_56 => zb1 (zloop (fun s : Int32 × zId => F_X1_round_L96 K F o0 x_10 s.1 s.2) (1, I_56)) (fun I_75 => zlet (fun (w_76 : Int32) => zb1 (zloop (fun s : Int32 × Int32 => F_X1_round_L160 K F o0 x_7 x_10 I_75 s.1 s.2) (w_76, 0)) (fun v4_102 => zb1 (F_X1_orNone K F v4_102 I_75) (fun x_104 => some (.inl x_104, I_75)))) (fun k_77 => if ¬ x_10 = 0 then k_77 100000 else k_77 0)))))) (fun w_8 => some (.inr w_8, I_5))))
set_option maxHeartbeats 1000000 in
theorem W_X1_round_L14 {l : Launch} {G : zGt} (htr : l.stackTraces = false) {K : zKd} {F : zFd} {L : zLd} {Q : zQt} {mE wE : Nat} {o0 : Nat} {x_7 : Int32} {x_10 : Int32} {a0 : Int32} {v4_11 : Int32} {I_12 : zId} {r : (Int32 × zId) ⊕ (zId)} (hF : F_X1_round_L14 K F o0 v4_11 I_12 = some r) (kl : ∀ (z0 : Int32) (z1 : zId), r = .inl (z0, z1) → zW l G MX1_round 10 241 mE wE 14 [(0, .ref o0), (2, .int x_7), (3, .int x_10), (4, .int z0)] [] K F z1 L Q) (kx : ∀ (y0 : zId), r = .inr y0 → zW l G MX1_round 10 241 mE wE 40 [(0, .ref o0), (2, .int x_7), (3, .int x_10)] [] K F y0 L Q)  : zW l G MX1_round 10 241 mE wE 14 [(0, .ref o0), (2, .int x_7), (3, .int x_10), (4, .int v4_11)] [] K F I_12 L Q := by
  unfold F_X1_round_L14 at hF
  refine z_iload (n := 16) dX1_round_14 rfl 3 rfl ?_
  refine z_aload_n (n := 17) dX1_round_16 rfl 0 rfl rfl ?_
  obtain ⟨n_13, hk_14, hF⟩ := zka_some hF
  obtain ⟨hb_15, hF⟩ := zg_some hF
  obtain ⟨o_16, hr_17, hF⟩ := zb1_some hF
  refine z_getRS (n := 20) dX1_round_17 rfl zok0 fX1_45_0 rfl hk_14 (Or.inl (zbig hb_15)) hr_17 ?_
  obtain ⟨n_18, hk_19, hF⟩ := zka_some hF
  refine z_alen (n := 21) 0 (by decide) dX1_round_20 rfl hk_19 ?_
  refine z_icmp_ge (n := 24) (t := 40) dX1_round_21 rfl (by decide) (fun hc => ?_) (fun hc => ?_)
  · replace hF := (if_pos hc).symm.trans hF
    refine z_sub [0, 1, 2] rfl ?_
    have hF := Option.some.inj hF; subst hF
    exact kx I_12 rfl
  · replace hF := (if_neg hc).symm.trans hF
    refine z_aload_n (n := 25) dX1_round_24 rfl 0 rfl rfl ?_
    obtain ⟨o_20, hr_21, hF⟩ := zb1_some hF
    refine z_getRS (n := 28) dX1_round_25 rfl zok0 fX1_45_0 rfl hk_14 (Or.inl (zbig hb_15)) hr_21 ?_
    refine z_iload (n := 30) dX1_round_28 rfl 3 rfl ?_
    refine z_ldcw (n := 33) dX1_round_30 rfl q1542 ?_
    obtain ⟨n_22, hk_23, hF⟩ := zka_some hF
    obtain ⟨h_24, hF⟩ := zg_some hF
    obtain ⟨hb_25, hF⟩ := zg_some hF
    obtain ⟨I_26, e_27, hF⟩ := zlet_ob hF
    refine z_iastK (n := 34) v4_11.toNatClampNeg rfl dX1_round_33 rfl hk_23 (zbig hb_25) (zin_ok h_24) e_27 ?_
    obtain ⟨v4_28, e_29, hF⟩ := zlet_ob hF
    refine z_iincE (n := 37) (w := 1) (v := v4_28) (lv' := [(4, .int v4_28), (0, .ref o0), (2, .int x_7), (3, .int x_10)]) dX1_round_34 rfl 3 rfl (by decide) e_29 (by decide) rfl ?_
    refine z_goto (t := 14) dX1_round_37 (by decide) ?_
    refine z_sub [1, 2, 3, 0] rfl ?_
    have hF := Option.some.inj hF; subst hF
    exact kl v4_28 I_26 rfl
set_option maxHeartbeats 1000000 in
theorem W_X1_round_L43 {l : Launch} {G : zGt} (htr : l.stackTraces = false) {K : zKd} {F : zFd} {L : zLd} {Q : zQt} {mE wE : Nat} {o0 : Nat} {x_7 : Int32} {x_10 : Int32} {a0 : Int32} {v4_31 : Int32} {I_32 : zId} {r : (Int32 × zId) ⊕ (zId)} (hF : F_X1_round_L43 K F o0 x_7 x_10 v4_31 I_32 = some r) (kl : ∀ (z0 : Int32) (z1 : zId), r = .inl (z0, z1) → zW l G MX1_round 10 241 mE wE 43 [(0, .ref o0), (2, .int x_7), (3, .int x_10), (4, .int z0)] [] K F z1 L Q) (kx : ∀ (y0 : zId), r = .inr y0 → zW l G MX1_round 10 241 mE wE 93 [(0, .ref o0), (2, .int x_7), (3, .int x_10)] [] K F y0 L Q)  : zW l G MX1_round 10 241 mE wE 43 [(0, .ref o0), (2, .int x_7), (3, .int x_10), (4, .int v4_31)] [] K F I_32 L Q := by
  unfold F_X1_round_L43 at hF
  refine z_iload (n := 45) dX1_round_43 rfl 3 rfl ?_
  refine z_aload_n (n := 46) dX1_round_45 rfl 0 rfl rfl ?_
  obtain ⟨n_33, hk_34, hF⟩ := zka_some hF
  obtain ⟨x_36, c_35, hF⟩ := zb1_some hF
  refine z_cV (n := 49) (st := [.int v4_31]) (C_X1_forests htr c_35) dX1_round_46 rfl (lw_V q923 q925 qs12 q105 q926) hcee_X1_forests rfl (by decide) hk_34 rfl rfl rfl (Nat.le_of_ble_eq_true rfl) (Nat.le_refl _) (Nat.le_refl _) ?_
  refine z_icmp_ge (n := 52) (t := 93) dX1_round_49 rfl (by decide) (fun hc => ?_) (fun hc => ?_)
  · replace hF := (if_pos hc).symm.trans hF
    refine z_sub [0, 1, 2] rfl ?_
    have hF := Option.some.inj hF; subst hF
    exact kx I_32 rfl
  · replace hF := (if_neg hc).symm.trans hF
    refine z_iload_n (n := 53) dX1_round_52 rfl 2 rfl rfl ?_
    refine z_iload (n := 55) dX1_round_53 rfl 3 rfl ?_
    refine z_ishr (n := 56) dX1_round_55 rfl ?_
    refine z_iconst (n := 57) (v := 1) dX1_round_56 rfl (by decide) ?_
    refine z_iand (n := 58) dX1_round_57 rfl ?_
    refine z_iconst (n := 59) (v := 1) dX1_round_58 rfl (by decide) ?_
    refine z_icmp_ne (n := 62) (t := 87) dX1_round_59 rfl (by decide) (fun hc => ?_) (fun hc => ?_)
    · replace hF := (if_pos hc).symm.trans hF
      obtain ⟨v4_37, e_38, hF⟩ := zlet_ob hF
      refine z_iincE (n := 90) (w := 1) (v := v4_37) (lv' := [(4, .int v4_37), (0, .ref o0), (2, .int x_7), (3, .int x_10)]) dX1_round_87 rfl 3 rfl (by decide) e_38 (by decide) rfl ?_
      refine z_goto (t := 43) dX1_round_90 (by decide) ?_
      refine z_sub [1, 2, 3, 0] rfl ?_
      have hF := Option.some.inj hF; subst hF
      exact kl v4_37 I_32 rfl
    · replace hF := (if_neg hc).symm.trans hF
      refine z_aload_n (n := 63) dX1_round_62 rfl 0 rfl rfl ?_
      obtain ⟨hb_39, hF⟩ := zg_some hF
      obtain ⟨o_40, hr_41, hF⟩ := zb1_some hF
      refine z_getRS (n := 66) dX1_round_63 rfl zok0 fX1_45_0 rfl hk_34 (Or.inl (zbig hb_39)) hr_41 ?_
      refine z_bipush (n := 68) (v := 8) dX1_round_66 rfl (by decide) ?_
      refine z_iconst (n := 69) (v := 1) dX1_round_68 rfl (by decide) ?_
      refine z_iload (n := 71) dX1_round_69 rfl 3 rfl ?_
      refine z_ishl (n := 72) dX1_round_71 rfl ?_
      refine z_imul (n := 73) dX1_round_72 rfl ?_
      refine z_iload (n := 75) dX1_round_73 rfl 3 rfl ?_
      refine z_iadd (n := 76) dX1_round_75 rfl ?_
      refine z_aload_n (n := 77) dX1_round_76 rfl 0 rfl rfl ?_
      obtain ⟨o_42, hr_43, hF⟩ := zb1_some hF
      refine z_getRS (n := 80) dX1_round_77 rfl zok0 fX1_10_0 rfl hk_34 (Or.inl (zbig hb_39)) hr_43 ?_
      refine z_iload_n (n := 81) dX1_round_80 rfl 1 rfl rfl ?_
      refine z_iload (n := 83) dX1_round_81 rfl 3 rfl ?_
      obtain ⟨n_44, hk_45, hF⟩ := zka_some hF
      obtain ⟨x_47, c_46, hF⟩ := zb1_some hF
      refine z_cV (n := 86) (st := [.int (((8 : Int32) * ((1 : Int32) <<< (v4_31 &&& (31 : Int32)))) + v4_31), .ref o_40]) (C_X2_far htr c_46) dX1_round_83 rfl (lw_V q1538 q1350 q1351 q106 q1352) hcee_X2_far rfl (by decide) hk_45 rfl rfl rfl (Nat.le_of_ble_eq_true rfl) (Nat.le_refl _) (Nat.le_refl _) ?_
      obtain ⟨n_48, hk_49, hF⟩ := zka_some hF
      obtain ⟨h_50, hF⟩ := zg_some hF
      obtain ⟨hb_51, hF⟩ := zg_some hF
      obtain ⟨I_52, e_53, hF⟩ := zlet_ob hF
      refine z_iastK (n := 87) ((((8 : Int32) * ((1 : Int32) <<< (v4_31 &&& (31 : Int32)))) + v4_31).toNatClampNeg) rfl dX1_round_86 rfl hk_49 (zbig hb_51) (zin_ok h_50) e_53 ?_
      obtain ⟨v4_54, e_55, hF⟩ := zlet_ob hF
      refine z_iincE (n := 90) (w := 1) (v := v4_54) (lv' := [(4, .int v4_54), (0, .ref o0), (2, .int x_7), (3, .int x_10)]) dX1_round_87 rfl 3 rfl (by decide) e_55 (by decide) rfl ?_
      refine z_goto (t := 43) dX1_round_90 (by decide) ?_
      refine z_sub [1, 2, 3, 0] rfl ?_
      have hF := Option.some.inj hF; subst hF
      exact kl v4_54 I_52 rfl
set_option maxHeartbeats 1000000 in
theorem W_X1_round_L105 {l : Launch} {G : zGt} (htr : l.stackTraces = false) {K : zKd} {F : zFd} {L : zLd} {Q : zQt} {mE wE : Nat} {o0 : Nat} {x_7 : Int32} {x_10 : Int32} {v4_57 : Int32} {a0 : Int32} {v5_59 : Int32} {I_60 : zId} {r : (Int32 × zId) ⊕ (zId)} (hF : F_X1_round_L105 K F o0 x_10 v4_57 v5_59 I_60 = some r) (kl : ∀ (z0 : Int32) (z1 : zId), r = .inl (z0, z1) → zW l G MX1_round 10 241 mE wE 105 [(0, .ref o0), (2, .int x_7), (3, .int x_10), (4, .int v4_57), (5, .int z0)] [] K F z1 L Q) (kx : ∀ (y0 : zId), r = .inr y0 → zW l G MX1_round 10 241 mE wE 138 [(0, .ref o0), (2, .int x_7), (3, .int x_10), (4, .int v4_57)] [] K F y0 L Q)  : zW l G MX1_round 10 241 mE wE 105 [(0, .ref o0), (2, .int x_7), (3, .int x_10), (4, .int v4_57), (5, .int v5_59)] [] K F I_60 L Q := by
  unfold F_X1_round_L105 at hF
  refine z_iload (n := 107) dX1_round_105 rfl 4 rfl ?_
  refine z_aload_n (n := 108) dX1_round_107 rfl 0 rfl rfl ?_
  obtain ⟨n_61, hk_62, hF⟩ := zka_some hF
  obtain ⟨x_64, c_63, hF⟩ := zb1_some hF
  refine z_cV (n := 111) (st := [.int v5_59]) (C_X1_forests htr c_63) dX1_round_108 rfl (lw_V q923 q925 qs12 q105 q926) hcee_X1_forests rfl (by decide) hk_62 rfl rfl rfl (Nat.le_of_ble_eq_true rfl) (Nat.le_refl _) (Nat.le_refl _) ?_
  refine z_icmp_ge (n := 114) (t := 138) dX1_round_111 rfl (by decide) (fun hc => ?_) (fun hc => ?_)
  · replace hF := (if_pos hc).symm.trans hF
    refine z_sub [0, 1, 2, 3] rfl ?_
    have hF := Option.some.inj hF; subst hF
    exact kx I_60 rfl
  · replace hF := (if_neg hc).symm.trans hF
    refine z_iload (n := 116) dX1_round_114 rfl 3 rfl ?_
    refine z_iload_n (n := 117) dX1_round_116 rfl 2 rfl rfl ?_
    refine z_iconst (n := 118) (v := (-1)) dX1_round_117 rfl (by decide) ?_
    refine z_ixor (n := 119) dX1_round_118 rfl ?_
    refine z_iand (n := 120) dX1_round_119 rfl ?_
    refine z_if_ne (n := 123) (t := 138) dX1_round_120 rfl (by decide) (fun hc => ?_) (fun hc => ?_)
    · replace hF := (if_pos hc).symm.trans hF
      refine z_sub [0, 1, 2, 3] rfl ?_
      have hF := Option.some.inj hF; subst hF
      exact kx I_60 rfl
    · replace hF := (if_neg hc).symm.trans hF
      refine z_aload_n (n := 124) dX1_round_123 rfl 0 rfl rfl ?_
      refine z_iload (n := 126) dX1_round_124 rfl 3 rfl ?_
      refine z_iload (n := 128) dX1_round_126 rfl 4 rfl ?_
      refine z_iload_n (n := 129) dX1_round_128 rfl 2 rfl rfl ?_
      obtain ⟨I_66, c_65, hF⟩ := zb1_some hF
      refine z_cV (n := 132) (st := []) (C_X1_walks htr c_65) dX1_round_129 rfl (lw_V q1560 q1562 qs39 q105 q1563) hcee_X1_walks rfl (by decide) hk_62 rfl rfl rfl (Nat.le_of_ble_eq_true rfl) (Nat.le_refl _) (Nat.le_refl _) ?_
      obtain ⟨v5_67, e_68, hF⟩ := zlet_ob hF
      refine z_iincE (n := 135) (w := 1) (v := v5_67) (lv' := [(5, .int v5_67), (0, .ref o0), (2, .int x_7), (3, .int x_10), (4, .int v4_57)]) dX1_round_132 rfl 4 rfl (by decide) e_68 (by decide) rfl ?_
      refine z_goto (t := 105) dX1_round_135 (by decide) ?_
      refine z_sub [1, 2, 3, 4, 0] rfl ?_
      have hF := Option.some.inj hF; subst hF
      exact kl v5_67 I_66 rfl
set_option maxHeartbeats 1000000 in
theorem W_X1_round_L96 {l : Launch} {G : zGt} (htr : l.stackTraces = false) {K : zKd} {F : zFd} {L : zLd} {Q : zQt} {mE wE : Nat} {o0 : Nat} {a0 : Int32} {x_7 : Int32} {x_10 : Int32} {v4_57 : Int32} {I_58 : zId} {r : (Int32 × zId) ⊕ (zId)} (hF : F_X1_round_L96 K F o0 x_10 v4_57 I_58 = some r) (kl : ∀ (z0 : Int32) (z1 : zId), r = .inl (z0, z1) → zW l G MX1_round 10 241 mE wE 96 [(0, .ref o0), (2, .int x_7), (3, .int x_10), (4, .int z0)] [] K F z1 L Q) (kx : ∀ (y0 : zId), r = .inr y0 → zW l G MX1_round 10 241 mE wE 144 [(0, .ref o0), (2, .int x_7), (3, .int x_10)] [] K F y0 L Q)  : zW l G MX1_round 10 241 mE wE 96 [(0, .ref o0), (2, .int x_7), (3, .int x_10), (4, .int v4_57)] [] K F I_58 L Q := by
  unfold F_X1_round_L96 at hF
  refine z_iload (n := 98) dX1_round_96 rfl 3 rfl ?_
  refine z_iload_n (n := 99) dX1_round_98 rfl 2 rfl rfl ?_
  refine z_icmp_gt (n := 102) (t := 144) dX1_round_99 rfl (by decide) (fun hc => ?_) (fun hc => ?_)
  · replace hF := (if_pos hc).symm.trans hF
    refine z_sub [0, 1, 2] rfl ?_
    have hF := Option.some.inj hF; subst hF
    exact kx I_58 rfl
  · replace hF := (if_neg hc).symm.trans hF
    refine z_iconst (n := 103) (v := 0) dX1_round_102 rfl (by decide) ?_
    refine z_istoreE (n := 105) (lv' := [(5, .int 0), (0, .ref o0), (2, .int x_7), (3, .int x_10), (4, .int v4_57)]) dX1_round_103 rfl rfl (by decide) rfl ?_
    refine z_sub [1, 2, 3, 4, 0] rfl ?_
    obtain ⟨t_73, e_72, hF⟩ := zb1_some hF
    obtain ⟨I_69, rfl⟩ : ∃ z, z = t_73 := ⟨_, rfl⟩
    have H_74 : zW l G MX1_round 10 241 mE wE 138 [(0, .ref o0), (2, .int x_7), (3, .int x_10), (4, .int v4_57)] [] K F I_69 L Q := by
      obtain ⟨v4_70, e_71, hF⟩ := zlet_ob hF
      refine z_iincE (n := 141) (w := 1) (v := v4_70) (lv' := [(4, .int v4_70), (0, .ref o0), (2, .int x_7), (3, .int x_10)]) dX1_round_138 rfl 3 rfl (by decide) e_71 (by decide) rfl ?_
      refine z_goto (t := 96) dX1_round_141 (by decide) ?_
      refine z_sub [1, 2, 3, 0] rfl ?_
      have hF := Option.some.inj hF; subst hF
      exact kl v4_70 I_69 rfl
    refine zloop_ind (P := fun s : Int32 × zId => zW l G MX1_round 10 241 mE wE 105 [(0, .ref o0), (2, .int x_7), (3, .int x_10), (4, .int v4_57), (5, .int s.1)] [] K F s.2 L Q) (fun s r hb kl kr => ?_) e_72
    exact W_X1_round_L105 (o0 := o0) (a0 := a0) htr hb (fun z0 z1 e => kl _ e) (fun y0 e => by cases kr _ e; exact H_74)
set_option maxHeartbeats 1000000 in
theorem W_X1_round_L160 {l : Launch} {G : zGt} (htr : l.stackTraces = false) {K : zKd} {F : zFd} {L : zLd} {Q : zQt} {mE wE : Nat} {o0 : Nat} {x_7 : Int32} {x_10 : Int32} {I_75 : zId} {a0 : Int32} {v4_80 : Int32} {v5_81 : Int32} {r : (Int32 × Int32) ⊕ (Int32)} (hF : F_X1_round_L160 K F o0 x_7 x_10 I_75 v4_80 v5_81 = some r) (kl : ∀ (z0 : Int32) (z1 : Int32), r = .inl (z0, z1) → zW l G MX1_round 10 241 mE wE 160 [(0, .ref o0), (2, .int x_7), (3, .int x_10), (4, .int z0), (5, .int z1)] [] K F I_75 L Q) (kx : ∀ (y0 : Int32), r = .inr y0 → zW l G MX1_round 10 241 mE wE 205 [(4, .int y0)] [] K F I_75 L Q)  : zW l G MX1_round 10 241 mE wE 160 [(0, .ref o0), (2, .int x_7), (3, .int x_10), (4, .int v4_80), (5, .int v5_81)] [] K F I_75 L Q := by
  unfold F_X1_round_L160 at hF
  refine z_iload (n := 162) dX1_round_160 rfl 4 rfl ?_
  refine z_aload_n (n := 163) dX1_round_162 rfl 0 rfl rfl ?_
  obtain ⟨n_82, hk_83, hF⟩ := zka_some hF
  obtain ⟨x_85, c_84, hF⟩ := zb1_some hF
  refine z_cV (n := 166) (st := [.int v5_81]) (C_X1_forests htr c_84) dX1_round_163 rfl (lw_V q923 q925 qs12 q105 q926) hcee_X1_forests rfl (by decide) hk_83 rfl rfl rfl (Nat.le_of_ble_eq_true rfl) (Nat.le_refl _) (Nat.le_refl _) ?_
  refine z_icmp_ge (n := 169) (t := 205) dX1_round_166 rfl (by decide) (fun hc => ?_) (fun hc => ?_)
  · replace hF := (if_pos hc).symm.trans hF
    refine z_sub [3] rfl ?_
    have hF := Option.some.inj hF; subst hF
    exact kx v4_80 rfl
  · replace hF := (if_neg hc).symm.trans hF
    refine z_iload (n := 171) dX1_round_169 rfl 3 rfl ?_
    refine z_aload_n (n := 172) dX1_round_171 rfl 0 rfl rfl ?_
    obtain ⟨hb_86, hF⟩ := zg_some hF
    obtain ⟨o_87, hr_88, hF⟩ := zb1_some hF
    refine z_getRS (n := 175) dX1_round_172 rfl zok0 fX1_45_0 rfl hk_83 (Or.inl (zbig hb_86)) hr_88 ?_
    refine z_bipush (n := 177) (v := 8) dX1_round_175 rfl (by decide) ?_
    refine z_iload_n (n := 178) dX1_round_177 rfl 2 rfl rfl ?_
    refine z_imul (n := 179) dX1_round_178 rfl ?_
    refine z_iload (n := 181) dX1_round_179 rfl 4 rfl ?_
    refine z_iadd (n := 182) dX1_round_181 rfl ?_
    obtain ⟨n_89, hk_90, hF⟩ := zka_some hF
    obtain ⟨h_91, hF⟩ := zg_some hF
    refine z_ialdK (n := 183) ((((8 : Int32) * x_10) + v5_81).toNatClampNeg) rfl dX1_round_182 rfl hk_90 (zin_ok h_91) ?_
    refine z_aload_n (n := 184) dX1_round_183 rfl 0 rfl rfl ?_
    obtain ⟨o_92, hr_93, hF⟩ := zb1_some hF
    refine z_getRS (n := 187) dX1_round_184 rfl zok0 fX1_10_0 rfl hk_83 (Or.inl (zbig hb_86)) hr_93 ?_
    refine z_iload (n := 189) dX1_round_187 rfl 4 rfl ?_
    refine z_iload_n (n := 190) dX1_round_189 rfl 1 rfl rfl ?_
    obtain ⟨n_94, hk_95, hF⟩ := zka_some hF
    obtain ⟨x_97, c_96, hF⟩ := zb1_some hF
    refine z_cV (n := 193) (st := [.int (I_75 o_87 ((((8 : Int32) * x_10) + v5_81).toNatClampNeg)), .int v4_80]) (C_X2_far htr c_96) dX1_round_190 rfl (lw_V q1538 q1350 q1351 q106 q1352) hcee_X2_far rfl (by decide) hk_95 rfl rfl rfl (Nat.le_of_ble_eq_true rfl) (Nat.le_refl _) (Nat.le_refl _) ?_
    refine z_iadd (n := 194) dX1_round_193 rfl ?_
    refine z_min (n := 197) dX1_round_194 rfl q1454 q290 q119 q291 (by decide) (Nat.le_of_ble_eq_true rfl) ?_
    obtain ⟨v4_98, e_99, hF⟩ := zlet_ob hF
    refine z_istoreE (n := 199) (lv' := [(4, .int v4_98), (0, .ref o0), (2, .int x_7), (3, .int x_10), (5, .int v5_81)]) dX1_round_197 rfl e_99 (by decide) rfl ?_
    obtain ⟨v5_100, e_101, hF⟩ := zlet_ob hF
    refine z_iincE (n := 202) (w := 1) (v := v5_100) (lv' := [(5, .int v5_100), (4, .int v4_98), (0, .ref o0), (2, .int x_7), (3, .int x_10)]) dX1_round_199 rfl 4 rfl (by decide) e_101 (by decide) rfl ?_
    refine z_goto (t := 160) dX1_round_202 (by decide) ?_
    refine z_sub [2, 3, 4, 1, 0] rfl ?_
    have hF := Option.some.inj hF; subst hF
    exact kl v4_98 v5_100 rfl
set_option maxHeartbeats 1000000 in
theorem C_X1_round {l : Launch} {G : zGt} (htr : l.stackTraces = false) {K : zKd} {F : zFd} {L : zLd} {o0 : Nat} {a0 : Int32} {I : zId} {r : (Int32 ⊕ (String × Nat)) × zId} (hF : F_X1_round K F o0 a0 I = some r) : zMet l G yX1_round (ws_ yX1_round cX1_round 6 (some .int)) 10 241 (zxc r.1) (zxs r.1) [.ref o0, .int a0] K F I L (zQe (zoi r.1) K F r.2 L) := by
  refine zMet.of (by decide +kernel) htr (Nat.le_of_ble_eq_true rfl) ?_
  change zW l G MX1_round 10 241 (zxc r.1) (zxs r.1) 0 [(0, .ref o0), (1, .int a0)] [] K F I L (zQe (zoi r.1) K F r.2 L)
  unfold F_X1_round at hF
  refine z_aload_n (n := 1) dX1_round_0 rfl 0 rfl rfl ?_
  refine z_iload_n (n := 2) dX1_round_1 rfl 1 rfl rfl ?_
  obtain ⟨n_1, hk_2, hF⟩ := zka_some hF
  obtain ⟨s_4, I_5, c_3, hF⟩ := zb2_some hF
  rcases zsum_some hF with ⟨x_7, e_6, hF⟩ | ⟨w_8, e_6, hF⟩
  rotate_left
  · first | rw [e_6] at c_3 ⊢ | rw [e_6] at c_3
    have hF := Option.some.inj hF; subst hF
    refine z_cVx (n := 5) (mc2 := 0) (ms2 := 0) (st := []) (C_X1_fortAt htr c_3) dX1_round_2 rfl (lw_V q1550 q1552 qs37 q105 q1553) hcee_X1_fortAt rfl (by decide) hk_2 rfl rfl rfl (Nat.le_of_ble_eq_true rfl) (Nat.le_refl _) (Nat.le_refl _) ?_
    exact z_out rfl ⟨rfl, rfl, rfl, rfl, rfl⟩
  first | rw [e_6] at c_3 ⊢ | rw [e_6] at c_3
  refine z_cV (n := 5) (st := []) (C_X1_fortAt htr c_3) dX1_round_2 rfl (lw_V q1550 q1552 qs37 q105 q1553) hcee_X1_fortAt rfl (by decide) hk_2 rfl rfl rfl (Nat.le_of_ble_eq_true rfl) (Nat.le_refl _) (Nat.le_refl _) ?_
  refine z_istore_nE (n := 6) (lv' := [(2, .int x_7), (0, .ref o0), (1, .int a0)]) dX1_round_5 rfl rfl rfl (by decide) rfl ?_
  refine z_aload_n (n := 7) dX1_round_6 rfl 1 rfl rfl ?_
  obtain ⟨x_10, c_9, hF⟩ := zb1_some hF
  refine z_cV (n := 10) (st := []) (C_X1_camps htr c_9) dX1_round_7 rfl (lw_V q1556 q1558 qs38 q105 q1559) hcee_X1_camps rfl (by decide) hk_2 rfl rfl rfl (Nat.le_of_ble_eq_true rfl) (Nat.le_refl _) (Nat.le_refl _) ?_
  refine z_istore_nE (n := 11) (lv' := [(3, .int x_10), (2, .int x_7), (0, .ref o0), (1, .int a0)]) dX1_round_10 rfl rfl rfl (by decide) rfl ?_
  refine z_iconst (n := 12) (v := 0) dX1_round_11 rfl (by decide) ?_
  refine z_istoreE (n := 14) (lv' := [(4, .int 0), (3, .int x_10), (2, .int x_7), (0, .ref o0), (1, .int a0)]) dX1_round_12 rfl rfl (by decide) rfl ?_
  refine z_sub [3, 2, 1, 0] rfl ?_
  obtain ⟨t_115, e_114, hF⟩ := zb1_some hF
  obtain ⟨I_30, rfl⟩ : ∃ z, z = t_115 := ⟨_, rfl⟩
  have H_116 : zW l G MX1_round 10 241 (zxc r.1) (zxs r.1) 40 [(0, .ref o0), (2, .int x_7), (3, .int x_10)] [] K F I_30 L (zQe (zoi r.1) K F r.2 L) := by
    refine z_iconst (n := 41) (v := 0) dX1_round_40 rfl (by decide) ?_
    refine z_istoreE (n := 43) (lv' := [(4, .int 0), (0, .ref o0), (2, .int x_7), (3, .int x_10)]) dX1_round_41 rfl rfl (by decide) rfl ?_
    refine z_sub [1, 2, 3, 0] rfl ?_
    obtain ⟨t_112, e_111, hF⟩ := zb1_some hF
    obtain ⟨I_56, rfl⟩ : ∃ z, z = t_112 := ⟨_, rfl⟩
    have H_113 : zW l G MX1_round 10 241 (zxc r.1) (zxs r.1) 93 [(0, .ref o0), (2, .int x_7), (3, .int x_10)] [] K F I_56 L (zQe (zoi r.1) K F r.2 L) := by
      refine z_iconst (n := 94) (v := 1) dX1_round_93 rfl (by decide) ?_
      refine z_istoreE (n := 96) (lv' := [(4, .int 1), (0, .ref o0), (2, .int x_7), (3, .int x_10)]) dX1_round_94 rfl rfl (by decide) rfl ?_
      refine z_sub [1, 2, 3, 0] rfl ?_
      obtain ⟨t_109, e_108, hF⟩ := zb1_some hF
      obtain ⟨I_75, rfl⟩ : ∃ z, z = t_109 := ⟨_, rfl⟩
      have H_110 : zW l G MX1_round 10 241 (zxc r.1) (zxs r.1) 144 [(0, .ref o0), (2, .int x_7), (3, .int x_10)] [] K F I_75 L (zQe (zoi r.1) K F r.2 L) := by
        refine z_iload_n (n := 145) dX1_round_144 rfl 2 rfl rfl ?_
        obtain ⟨k_77, e_78, hF⟩ := zlet_ob hF
        have H_79 : ∀ (w_76 : Int32), k_77 w_76 = some r → zW l G MX1_round 10 241 (zxc r.1) (zxs r.1) 155 [(0, .ref o0), (2, .int x_7), (3, .int x_10)] [.int w_76] K F I_75 L (zQe (zoi r.1) K F r.2 L) := by
          intro w_76 hF
          subst e_78
          dsimp only at hF
          refine z_istoreE (n := 157) (lv' := [(4, .int w_76), (0, .ref o0), (2, .int x_7), (3, .int x_10)]) dX1_round_155 rfl rfl (by decide) rfl ?_
          refine z_iconst (n := 158) (v := 0) dX1_round_157 rfl (by decide) ?_
          refine z_istoreE (n := 160) (lv' := [(5, .int 0), (4, .int w_76), (0, .ref o0), (2, .int x_7), (3, .int x_10)]) dX1_round_158 rfl rfl (by decide) rfl ?_
          refine z_sub [2, 3, 4, 1, 0] rfl ?_
          obtain ⟨t_106, e_105, hF⟩ := zb1_some hF
          obtain ⟨v4_102, rfl⟩ : ∃ z, z = t_106 := ⟨_, rfl⟩
          have H_107 : zW l G MX1_round 10 241 (zxc r.1) (zxs r.1) 205 [(4, .int v4_102)] [] K F I_75 L (zQe (zoi r.1) K F r.2 L) := by
            refine z_iload (n := 207) dX1_round_205 rfl 0 rfl ?_
            obtain ⟨x_104, c_103, hF⟩ := zb1_some hF
            refine z_cS (n := 210) (st := []) (C_X1_orNone htr c_103) dX1_round_207 rfl (lw_S q1539 q1540 q105 q1541) hcee_X1_orNone rfl (by decide) rfl (Nat.le_of_ble_eq_true rfl) (Nat.le_refl _) (Nat.le_refl _) ?_
            have hF := Option.some.inj hF; subst hF
            exact z_iret dX1_round_210 rfl rfl ⟨rfl, rfl, rfl, rfl, rfl⟩
          refine zloop_ind (P := fun s : Int32 × Int32 => zW l G MX1_round 10 241 (zxc r.1) (zxs r.1) 160 [(0, .ref o0), (2, .int x_7), (3, .int x_10), (4, .int s.1), (5, .int s.2)] [] K F I_75 L (zQe (zoi r.1) K F r.2 L)) (fun s r hb kl kr => ?_) e_105
          exact W_X1_round_L160 (o0 := o0) (a0 := a0) htr hb (fun z0 z1 e => kl _ e) (fun y0 e => by cases kr _ e; exact H_107)
        clear e_78
        refine z_if_ne (n := 148) (t := 152) dX1_round_145 rfl (by decide) (fun hc => ?_) (fun hc => ?_)
        · replace hF := (if_pos hc).symm.trans hF
          refine z_ldcw (n := 155) dX1_round_152 rfl q1542 ?_
          exact H_79 100000 hF
        · replace hF := (if_neg hc).symm.trans hF
          refine z_iconst (n := 149) (v := 0) dX1_round_148 rfl (by decide) ?_
          refine z_goto (t := 155) dX1_round_149 (by decide) ?_
          exact H_79 0 hF
      refine zloop_ind (P := fun s : Int32 × zId => zW l G MX1_round 10 241 (zxc r.1) (zxs r.1) 96 [(0, .ref o0), (2, .int x_7), (3, .int x_10), (4, .int s.1)] [] K F s.2 L (zQe (zoi r.1) K F r.2 L)) (fun s r hb kl kr => ?_) e_108
      exact W_X1_round_L96 (o0 := o0) (a0 := a0) htr hb (fun z0 z1 e => kl _ e) (fun y0 e => by cases kr _ e; exact H_110)
    refine zloop_ind (P := fun s : Int32 × zId => zW l G MX1_round 10 241 (zxc r.1) (zxs r.1) 43 [(0, .ref o0), (2, .int x_7), (3, .int x_10), (4, .int s.1)] [] K F s.2 L (zQe (zoi r.1) K F r.2 L)) (fun s r hb kl kr => ?_) e_111
    exact W_X1_round_L43 (o0 := o0) (a0 := a0) htr hb (fun z0 z1 e => kl _ e) (fun y0 e => by cases kr _ e; exact H_113)
  refine zloop_ind (P := fun s : Int32 × zId => zW l G MX1_round 10 241 (zxc r.1) (zxs r.1) 14 [(0, .ref o0), (2, .int x_7), (3, .int x_10), (4, .int s.1)] [] K F s.2 L (zQe (zoi r.1) K F r.2 L)) (fun s r hb kl kr => ?_) e_114
  exact W_X1_round_L14 (o0 := o0) (a0 := a0) htr hb (fun z0 z1 e => kl _ e) (fun y0 e => by cases kr _ e; exact H_116)
abbrev MX1_spy : zM := (RX1, cX1_spy, 4, (some .int), "spy", [])
noncomputable def F_X1_spy (K : zKd) (F : zFd) (o0 : Nat) (a0 : Int32) (a1 : Int32) (a2 : Int32) (I : zId) : Option ((Int32 ⊕ (String × Nat)) × zId) := zka K o0 0 (fun n_1 => zb2 (F_X1_bandAt K F o0 a0 I) (fun s_4 I_5 => zsum s_4 (fun x_7 => zg (decide (600 ≤ o0)) (zb1 (F o0 1) (fun o_10 => zka K o_10 4 (fun n_12 => zg (decide (600 ≤ o_10)) (if (I_5 o_10 7) = 8 then zb2 (F_X1_refuses K F o0 2 I_5) (fun x_16 I_17 => some (.inl x_16, I_17)) else zb1 (F_X1_within K F a1 0 20 I_5) (fun x_19 => if x_19 = 0 then zb2 (F_X1_refuses K F o0 2 I_5) (fun x_21 I_22 => some (.inl x_21, I_22)) else zb1 (F_X1_within K F a2 0 9999 I_5) (fun x_24 => if ¬ x_24 = 0 then zb1 (F o0 1) (fun o_25 => zka K o_25 4 (fun n_27 => zg (decide (600 ≤ o_25)) (zb1 (F o_25 2) (fun o_30 => zb1 (F o0 1) (fun o_32 => zka K o_32 4 (fun n_34 => zg (decide (600 ≤ o_32)) (zka K o_30 64 (fun n_37 => zg (zin (I_5 o_32 7) n_37) (zg (decide (600 ≤ o_30)) (zlet (zu I_5 o_30 ((I_5 o_32 7).toNatClampNeg) a0) (fun I_41 => zb1 (F o0 1) (fun o_43 => zka K o_43 4 (fun n_45 => zg (decide (600 ≤ o_43)) (zb1 (F o_43 3) (fun o_48 => zb1 (F o0 1) (fun o_50 => zka K o_50 4 (fun n_52 => zg (decide (600 ≤ o_50)) (zka K o_48 64 (fun n_55 => zg (zin (I_41 o_50 7) n_55) (zg (decide (600 ≤ o_48)) (zlet (zu I_41 o_48 ((I_41 o_50 7).toNatClampNeg) a1) (fun I_59 => zb1 (F o0 1) (fun o_61 => zka K o_61 4 (fun n_63 => zg (decide (600 ≤ o_61)) (zb1 (F o_61 4) (fun o_66 => zb1 (F o0 1) (fun o_68 => zka K o_68 4 (fun n_70 => zg (decide (600 ≤ o_68)) (zka K o_66 64 (fun n_73 => zg (zin (I_59 o_68 7) n_73) (zg (decide (600 ≤ o_66)) (zlet (zu I_59 o_66 ((I_59 o_68 7).toNatClampNeg) a2) (fun I_77 => zb1 (F o0 1) (fun o_79 => zka K o_79 4 (fun n_81 => zg (decide (600 ≤ o_79)) (zlet (zu I_77 o_79 7 ((I_77 o_79 7) + 1)) (fun I_84 => zb1 (F o0 1) (fun o_86 => zka K o_86 4 (fun n_88 => zg (decide (600 ≤ o_86)) (some (.inl (I_84 o_86 7), I_84))))))))))))))))))))))))))))))))))))))))) else zb2 (F_X1_refuses K F o0 2 I_5) (fun x_92 I_93 => some (.inl x_92, I_93))))))))) (fun w_8 => some (.inr w_8, I_5))))
set_option maxHeartbeats 1000000 in
theorem C_X1_spy {l : Launch} {G : zGt} (htr : l.stackTraces = false) {K : zKd} {F : zFd} {L : zLd} {o0 : Nat} {a0 : Int32} {a1 : Int32} {a2 : Int32} {I : zId} {r : (Int32 ⊕ (String × Nat)) × zId} (hF : F_X1_spy K F o0 a0 a1 a2 I = some r) : zMet l G yX1_spy (ws_ yX1_spy cX1_spy 4 (some .int)) 10 241 (zxc r.1) (zxs r.1) [.ref o0, .int a0, .int a1, .int a2] K F I L (zQe (zoi r.1) K F r.2 L) := by
  refine zMet.of (by decide +kernel) htr (Nat.le_of_ble_eq_true rfl) ?_
  change zW l G MX1_spy 10 241 (zxc r.1) (zxs r.1) 0 [(0, .ref o0), (1, .int a0), (2, .int a1), (3, .int a2)] [] K F I L (zQe (zoi r.1) K F r.2 L)
  unfold F_X1_spy at hF
  refine z_aload_n (n := 1) dX1_spy_0 rfl 0 rfl rfl ?_
  refine z_iload_n (n := 2) dX1_spy_1 rfl 1 rfl rfl ?_
  obtain ⟨n_1, hk_2, hF⟩ := zka_some hF
  obtain ⟨s_4, I_5, c_3, hF⟩ := zb2_some hF
  rcases zsum_some hF with ⟨x_7, e_6, hF⟩ | ⟨w_8, e_6, hF⟩
  rotate_left
  · first | rw [e_6] at c_3 ⊢ | rw [e_6] at c_3
    have hF := Option.some.inj hF; subst hF
    refine z_cVx (n := 5) (mc2 := 0) (ms2 := 0) (st := []) (C_X1_bandAt htr c_3) dX1_spy_2 rfl (lw_V q1421 q1423 qs34 q105 q1424) hcee_X1_bandAt rfl (by decide) hk_2 rfl rfl rfl (Nat.le_of_ble_eq_true rfl) (Nat.le_refl _) (Nat.le_refl _) ?_
    exact z_out rfl ⟨rfl, rfl, rfl, rfl, rfl⟩
  first | rw [e_6] at c_3 ⊢ | rw [e_6] at c_3
  refine z_cV (n := 5) (st := []) (C_X1_bandAt htr c_3) dX1_spy_2 rfl (lw_V q1421 q1423 qs34 q105 q1424) hcee_X1_bandAt rfl (by decide) hk_2 rfl rfl rfl (Nat.le_of_ble_eq_true rfl) (Nat.le_refl _) (Nat.le_refl _) ?_
  refine z_aload_n (n := 6) dX1_spy_5 rfl 0 rfl rfl ?_
  obtain ⟨hb_9, hF⟩ := zg_some hF
  obtain ⟨o_10, hr_11, hF⟩ := zb1_some hF
  refine z_getRS (n := 9) dX1_spy_6 rfl zok0 fX1_19_0 rfl hk_2 (Or.inl (zbig hb_9)) hr_11 ?_
  obtain ⟨n_12, hk_13, hF⟩ := zka_some hF
  obtain ⟨hb_14, hF⟩ := zg_some hF
  refine z_getI (n := 12) dX1_spy_9 rfl zok4 fX1_129_4 rfl hk_13 (Or.inl (zbig hb_14)) ?_
  refine z_bipush (n := 14) (v := 8) dX1_spy_12 rfl (by decide) ?_
  refine z_icmp_eq (n := 17) (t := 38) dX1_spy_14 rfl (by decide) (fun hc => ?_) (fun hc => ?_)
  · replace hF := (if_pos hc).symm.trans hF
    refine z_aload_n (n := 39) dX1_spy_38 rfl 0 rfl rfl ?_
    refine z_iconst (n := 40) (v := 2) dX1_spy_39 rfl (by decide) ?_
    obtain ⟨x_16, I_17, c_15, hF⟩ := zb2_some hF
    refine z_cV (n := 43) (st := []) (C_X1_refuses htr c_15) dX1_spy_40 rfl (lw_V q825 q827 qs7 q105 q828) hcee_X1_refuses rfl (by decide) hk_2 rfl rfl rfl (Nat.le_of_ble_eq_true rfl) (Nat.le_refl _) (Nat.le_refl _) ?_
    have hF := Option.some.inj hF; subst hF
    exact z_iret dX1_spy_43 rfl rfl ⟨rfl, rfl, rfl, rfl, rfl⟩
  · replace hF := (if_neg hc).symm.trans hF
    refine z_iload_n (n := 18) dX1_spy_17 rfl 2 rfl rfl ?_
    refine z_iconst (n := 19) (v := 0) dX1_spy_18 rfl (by decide) ?_
    refine z_bipush (n := 21) (v := 20) dX1_spy_19 rfl (by decide) ?_
    obtain ⟨x_19, c_18, hF⟩ := zb1_some hF
    refine z_cS (n := 24) (st := []) (C_X1_within htr c_18) dX1_spy_21 rfl (lw_S q786 q787 q105 q788) hcee_X1_within rfl (by decide) rfl (Nat.le_of_ble_eq_true rfl) (Nat.le_refl _) (Nat.le_refl _) ?_
    refine z_if_eq (n := 27) (t := 38) dX1_spy_24 rfl (by decide) (fun hc => ?_) (fun hc => ?_)
    · replace hF := (if_pos hc).symm.trans hF
      refine z_aload_n (n := 39) dX1_spy_38 rfl 0 rfl rfl ?_
      refine z_iconst (n := 40) (v := 2) dX1_spy_39 rfl (by decide) ?_
      obtain ⟨x_21, I_22, c_20, hF⟩ := zb2_some hF
      refine z_cV (n := 43) (st := []) (C_X1_refuses htr c_20) dX1_spy_40 rfl (lw_V q825 q827 qs7 q105 q828) hcee_X1_refuses rfl (by decide) hk_2 rfl rfl rfl (Nat.le_of_ble_eq_true rfl) (Nat.le_refl _) (Nat.le_refl _) ?_
      have hF := Option.some.inj hF; subst hF
      exact z_iret dX1_spy_43 rfl rfl ⟨rfl, rfl, rfl, rfl, rfl⟩
    · replace hF := (if_neg hc).symm.trans hF
      refine z_iload_n (n := 28) dX1_spy_27 rfl 3 rfl rfl ?_
      refine z_iconst (n := 29) (v := 0) dX1_spy_28 rfl (by decide) ?_
      refine z_sipush (n := 32) (v := 9999) dX1_spy_29 rfl (by decide) ?_
      obtain ⟨x_24, c_23, hF⟩ := zb1_some hF
      refine z_cS (n := 35) (st := []) (C_X1_within htr c_23) dX1_spy_32 rfl (lw_S q786 q787 q105 q788) hcee_X1_within rfl (by decide) rfl (Nat.le_of_ble_eq_true rfl) (Nat.le_refl _) (Nat.le_refl _) ?_
      refine z_if_ne (n := 38) (t := 44) dX1_spy_35 rfl (by decide) (fun hc => ?_) (fun hc => ?_)
      · replace hF := (if_pos hc).symm.trans hF
        refine z_aload_n (n := 45) dX1_spy_44 rfl 0 rfl rfl ?_
        obtain ⟨o_25, hr_26, hF⟩ := zb1_some hF
        refine z_getRS (n := 48) dX1_spy_45 rfl zok0 fX1_19_0 rfl hk_2 (Or.inl (zbig hb_9)) hr_26 ?_
        obtain ⟨n_27, hk_28, hF⟩ := zka_some hF
        obtain ⟨hb_29, hF⟩ := zg_some hF
        obtain ⟨o_30, hr_31, hF⟩ := zb1_some hF
        refine z_getRS (n := 51) dX1_spy_48 rfl zok4 fX1_284_4 rfl hk_28 (Or.inl (zbig hb_29)) hr_31 ?_
        refine z_aload_n (n := 52) dX1_spy_51 rfl 0 rfl rfl ?_
        obtain ⟨o_32, hr_33, hF⟩ := zb1_some hF
        refine z_getRS (n := 55) dX1_spy_52 rfl zok0 fX1_19_0 rfl hk_2 (Or.inl (zbig hb_9)) hr_33 ?_
        obtain ⟨n_34, hk_35, hF⟩ := zka_some hF
        obtain ⟨hb_36, hF⟩ := zg_some hF
        refine z_getI (n := 58) dX1_spy_55 rfl zok4 fX1_129_4 rfl hk_35 (Or.inl (zbig hb_36)) ?_
        refine z_iload_n (n := 59) dX1_spy_58 rfl 1 rfl rfl ?_
        obtain ⟨n_37, hk_38, hF⟩ := zka_some hF
        obtain ⟨h_39, hF⟩ := zg_some hF
        obtain ⟨hb_40, hF⟩ := zg_some hF
        obtain ⟨I_41, e_42, hF⟩ := zlet_ob hF
        refine z_iastK (n := 60) ((I_5 o_32 7).toNatClampNeg) rfl dX1_spy_59 rfl hk_38 (zbig hb_40) (zin_ok h_39) e_42 ?_
        refine z_aload_n (n := 61) dX1_spy_60 rfl 0 rfl rfl ?_
        obtain ⟨o_43, hr_44, hF⟩ := zb1_some hF
        refine z_getRS (n := 64) dX1_spy_61 rfl zok0 fX1_19_0 rfl hk_2 (Or.inl (zbig hb_9)) hr_44 ?_
        obtain ⟨n_45, hk_46, hF⟩ := zka_some hF
        obtain ⟨hb_47, hF⟩ := zg_some hF
        obtain ⟨o_48, hr_49, hF⟩ := zb1_some hF
        refine z_getRS (n := 67) dX1_spy_64 rfl zok4 fX1_287_4 rfl hk_46 (Or.inl (zbig hb_47)) hr_49 ?_
        refine z_aload_n (n := 68) dX1_spy_67 rfl 0 rfl rfl ?_
        obtain ⟨o_50, hr_51, hF⟩ := zb1_some hF
        refine z_getRS (n := 71) dX1_spy_68 rfl zok0 fX1_19_0 rfl hk_2 (Or.inl (zbig hb_9)) hr_51 ?_
        obtain ⟨n_52, hk_53, hF⟩ := zka_some hF
        obtain ⟨hb_54, hF⟩ := zg_some hF
        refine z_getI (n := 74) dX1_spy_71 rfl zok4 fX1_129_4 rfl hk_53 (Or.inl (zbig hb_54)) ?_
        refine z_iload_n (n := 75) dX1_spy_74 rfl 2 rfl rfl ?_
        obtain ⟨n_55, hk_56, hF⟩ := zka_some hF
        obtain ⟨h_57, hF⟩ := zg_some hF
        obtain ⟨hb_58, hF⟩ := zg_some hF
        obtain ⟨I_59, e_60, hF⟩ := zlet_ob hF
        refine z_iastK (n := 76) ((I_41 o_50 7).toNatClampNeg) rfl dX1_spy_75 rfl hk_56 (zbig hb_58) (zin_ok h_57) e_60 ?_
        refine z_aload_n (n := 77) dX1_spy_76 rfl 0 rfl rfl ?_
        obtain ⟨o_61, hr_62, hF⟩ := zb1_some hF
        refine z_getRS (n := 80) dX1_spy_77 rfl zok0 fX1_19_0 rfl hk_2 (Or.inl (zbig hb_9)) hr_62 ?_
        obtain ⟨n_63, hk_64, hF⟩ := zka_some hF
        obtain ⟨hb_65, hF⟩ := zg_some hF
        obtain ⟨o_66, hr_67, hF⟩ := zb1_some hF
        refine z_getRS (n := 83) dX1_spy_80 rfl zok4 fX1_290_4 rfl hk_64 (Or.inl (zbig hb_65)) hr_67 ?_
        refine z_aload_n (n := 84) dX1_spy_83 rfl 0 rfl rfl ?_
        obtain ⟨o_68, hr_69, hF⟩ := zb1_some hF
        refine z_getRS (n := 87) dX1_spy_84 rfl zok0 fX1_19_0 rfl hk_2 (Or.inl (zbig hb_9)) hr_69 ?_
        obtain ⟨n_70, hk_71, hF⟩ := zka_some hF
        obtain ⟨hb_72, hF⟩ := zg_some hF
        refine z_getI (n := 90) dX1_spy_87 rfl zok4 fX1_129_4 rfl hk_71 (Or.inl (zbig hb_72)) ?_
        refine z_iload_n (n := 91) dX1_spy_90 rfl 3 rfl rfl ?_
        obtain ⟨n_73, hk_74, hF⟩ := zka_some hF
        obtain ⟨h_75, hF⟩ := zg_some hF
        obtain ⟨hb_76, hF⟩ := zg_some hF
        obtain ⟨I_77, e_78, hF⟩ := zlet_ob hF
        refine z_iastK (n := 92) ((I_59 o_68 7).toNatClampNeg) rfl dX1_spy_91 rfl hk_74 (zbig hb_76) (zin_ok h_75) e_78 ?_
        refine z_aload_n (n := 93) dX1_spy_92 rfl 0 rfl rfl ?_
        obtain ⟨o_79, hr_80, hF⟩ := zb1_some hF
        refine z_getRS (n := 96) dX1_spy_93 rfl zok0 fX1_19_0 rfl hk_2 (Or.inl (zbig hb_9)) hr_80 ?_
        refine z_dup (n := 97) dX1_spy_96 rfl rfl ?_
        obtain ⟨n_81, hk_82, hF⟩ := zka_some hF
        obtain ⟨hb_83, hF⟩ := zg_some hF
        refine z_getI (n := 100) dX1_spy_97 rfl zok4 fX1_129_4 rfl hk_82 (Or.inl (zbig hb_83)) ?_
        refine z_iconst (n := 101) (v := 1) dX1_spy_100 rfl (by decide) ?_
        refine z_iadd (n := 102) dX1_spy_101 rfl ?_
        obtain ⟨I_84, e_85, hF⟩ := zlet_ob hF
        refine z_putIE (n := 105) dX1_spy_102 rfl zok4 fX1_129_4 (Or.inl ⟨_, rfl, rfl⟩) rfl ⟨rfl, rfl⟩ hk_82 (zbig hb_83) e_85 ?_
        refine z_aload_n (n := 106) dX1_spy_105 rfl 0 rfl rfl ?_
        obtain ⟨o_86, hr_87, hF⟩ := zb1_some hF
        refine z_getRS (n := 109) dX1_spy_106 rfl zok0 fX1_19_0 rfl hk_2 (Or.inl (zbig hb_9)) hr_87 ?_
        obtain ⟨n_88, hk_89, hF⟩ := zka_some hF
        obtain ⟨hb_90, hF⟩ := zg_some hF
        refine z_getI (n := 112) dX1_spy_109 rfl zok4 fX1_129_4 rfl hk_89 (Or.inl (zbig hb_90)) ?_
        have hF := Option.some.inj hF; subst hF
        exact z_iret dX1_spy_112 rfl rfl ⟨rfl, rfl, rfl, rfl, rfl⟩
      · replace hF := (if_neg hc).symm.trans hF
        refine z_aload_n (n := 39) dX1_spy_38 rfl 0 rfl rfl ?_
        refine z_iconst (n := 40) (v := 2) dX1_spy_39 rfl (by decide) ?_
        obtain ⟨x_92, I_93, c_91, hF⟩ := zb2_some hF
        refine z_cV (n := 43) (st := []) (C_X1_refuses htr c_91) dX1_spy_40 rfl (lw_V q825 q827 qs7 q105 q828) hcee_X1_refuses rfl (by decide) hk_2 rfl rfl rfl (Nat.le_of_ble_eq_true rfl) (Nat.le_refl _) (Nat.le_refl _) ?_
        have hF := Option.some.inj hF; subst hF
        exact z_iret dX1_spy_43 rfl rfl ⟨rfl, rfl, rfl, rfl, rfl⟩
abbrev MX1_then : zM := (RX1, cX1_then, 3, (some .int), "then", [])
noncomputable def F_X1_then (K : zKd) (F : zFd) (o0 : Nat) (a0 : Int32) (a1 : Int32) (I : zId) : Option ((Int32 ⊕ (String × Nat)) × zId) := zka K o0 0 (fun n_1 => zb2 (F_X1_forestAt K F o0 a0 I) (fun s_4 I_5 => zsum s_4 (fun q_7 => zb1 q_7 (fun o_9 => zb1 (F_X1_within K F a1 0 50 I_5) (fun x_12 => zb2 (F_X1_right K F x_12 I_5) (fun s_14 I_15 => zsum s_14 (fun x_17 => zg (decide (600 ≤ o0)) (zb1 (F o0 4) (fun o_20 => zb1 (F o0 3) (fun o_22 => zka K o_20 5 (fun n_24 => zb1 (F_X6_like K F o_20 o_22 I_15) (fun I_27 => zb1 (F_X1_goesBy K F o0 a1 I_27) (fun I_29 => zb1 (F o0 4) (fun o_30 => zka K o_30 5 (fun n_32 => zg (decide (600 ≤ o_30)) (zb1 (F o_30 0) (fun o_35 => zka K o_35 64 (fun n_37 => zg (zin a0 n_37) (some (.inl (I_29 o_35 a0.toNatClampNeg), I_29)))))))))))))) (fun w_18 => some (.inr w_18, I_15)))))) (fun w_8 => some (.inr w_8, I_5))))
set_option maxHeartbeats 1000000 in
theorem C_X1_then {l : Launch} {G : zGt} (htr : l.stackTraces = false) {K : zKd} {F : zFd} {L : zLd} {o0 : Nat} {a0 : Int32} {a1 : Int32} {I : zId} {r : (Int32 ⊕ (String × Nat)) × zId} (hF : F_X1_then K F o0 a0 a1 I = some r) : zMet l G yX1_then (ws_ yX1_then cX1_then 3 (some .int)) 1006 24093 (zxc r.1) (zxs r.1) [.ref o0, .int a0, .int a1] K F I L (zQe (zoi r.1) K F r.2 L) := by
  refine zMet.of (by decide +kernel) htr (Nat.le_of_ble_eq_true rfl) ?_
  change zW l G MX1_then 1006 24093 (zxc r.1) (zxs r.1) 0 [(0, .ref o0), (1, .int a0), (2, .int a1)] [] K F I L (zQe (zoi r.1) K F r.2 L)
  unfold F_X1_then at hF
  refine z_aload_n (n := 1) dX1_then_0 rfl 0 rfl rfl ?_
  refine z_iload_n (n := 2) dX1_then_1 rfl 1 rfl rfl ?_
  obtain ⟨n_1, hk_2, hF⟩ := zka_some hF
  obtain ⟨s_4, I_5, c_3, hF⟩ := zb2_some hF
  rcases zsum_some hF with ⟨q_7, e_6, hF⟩ | ⟨w_8, e_6, hF⟩
  rotate_left
  · first | rw [e_6] at c_3 ⊢ | rw [e_6] at c_3
    have hF := Option.some.inj hF; subst hF
    refine z_cVx (n := 5) (mc2 := 0) (ms2 := 0) (st := []) (C_X1_forestAt htr c_3) dX1_then_2 rfl (lw_V q1400 q1402 qs31 q105 q1403) hcee_X1_forestAt rfl (by decide) hk_2 rfl rfl rfl (Nat.le_of_ble_eq_true rfl) (Nat.le_refl _) (Nat.le_refl _) ?_
    exact z_out rfl ⟨rfl, rfl, rfl, rfl, rfl⟩
  first | rw [e_6] at c_3 ⊢ | rw [e_6] at c_3
  refine z_cV (n := 5) (st := []) (C_X1_forestAt htr c_3) dX1_then_2 rfl (lw_V q1400 q1402 qs31 q105 q1403) hcee_X1_forestAt rfl (by decide) hk_2 rfl rfl rfl (Nat.le_of_ble_eq_true rfl) (Nat.le_refl _) (Nat.le_refl _) ?_
  obtain ⟨o_9, hr_10, hF⟩ := zb1_some hF
  rw [hr_10]
  refine z_pop (n := 6) dX1_then_5 rfl rfl ?_
  refine z_iload_n (n := 7) dX1_then_6 rfl 2 rfl rfl ?_
  refine z_iconst (n := 8) (v := 0) dX1_then_7 rfl (by decide) ?_
  refine z_bipush (n := 10) (v := 50) dX1_then_8 rfl (by decide) ?_
  obtain ⟨x_12, c_11, hF⟩ := zb1_some hF
  refine z_cS (n := 13) (st := []) (C_X1_within htr c_11) dX1_then_10 rfl (lw_S q786 q787 q105 q788) hcee_X1_within rfl (by decide) rfl (Nat.le_of_ble_eq_true rfl) (Nat.le_refl _) (Nat.le_refl _) ?_
  obtain ⟨s_14, I_15, c_13, hF⟩ := zb2_some hF
  rcases zsum_some hF with ⟨x_17, e_16, hF⟩ | ⟨w_18, e_16, hF⟩
  rotate_left
  · first | rw [e_16] at c_13 ⊢ | rw [e_16] at c_13
    have hF := Option.some.inj hF; subst hF
    refine z_cSx (n := 16) (mc2 := 0) (ms2 := 0) (st := []) (C_X1_right htr c_13) dX1_then_13 rfl (lw_S q954 q955 q105 q956) hcee_X1_right rfl (by decide) rfl (Nat.le_of_ble_eq_true rfl) (Nat.le_refl _) (Nat.le_refl _) ?_
    exact z_out rfl ⟨rfl, rfl, rfl, rfl, rfl⟩
  first | rw [e_16] at c_13 ⊢ | rw [e_16] at c_13
  refine z_cS (n := 16) (st := []) (C_X1_right htr c_13) dX1_then_13 rfl (lw_S q954 q955 q105 q956) hcee_X1_right rfl (by decide) rfl (Nat.le_of_ble_eq_true rfl) (Nat.le_refl _) (Nat.le_refl _) ?_
  refine z_aload_n (n := 17) dX1_then_16 rfl 0 rfl rfl ?_
  obtain ⟨hb_19, hF⟩ := zg_some hF
  obtain ⟨o_20, hr_21, hF⟩ := zb1_some hF
  refine z_getRS (n := 20) dX1_then_17 rfl zok0 fX1_34_0 rfl hk_2 (Or.inl (zbig hb_19)) hr_21 ?_
  refine z_aload_n (n := 21) dX1_then_20 rfl 0 rfl rfl ?_
  obtain ⟨o_22, hr_23, hF⟩ := zb1_some hF
  refine z_getRS (n := 24) dX1_then_21 rfl zok0 fX1_30_0 rfl hk_2 (Or.inl (zbig hb_19)) hr_23 ?_
  obtain ⟨n_24, hk_25, hF⟩ := zka_some hF
  obtain ⟨I_27, c_26, hF⟩ := zb1_some hF
  refine z_cV (n := 27) (st := []) (C_X6_like htr c_26) dX1_then_24 rfl (lw_V q918 q821 q822 q130 q823) hcee_X6_like rfl (by decide) hk_25 rfl rfl rfl (Nat.le_of_ble_eq_true rfl) (Nat.le_refl _) (Nat.le_refl _) ?_
  refine z_aload_n (n := 28) dX1_then_27 rfl 0 rfl rfl ?_
  refine z_iload_n (n := 29) dX1_then_28 rfl 2 rfl rfl ?_
  obtain ⟨I_29, c_28, hF⟩ := zb1_some hF
  refine z_cV (n := 32) (st := []) (C_X1_goesBy htr c_28) dX1_then_29 rfl (lw_V q1469 q1471 qs35 q105 q1472) hcee_X1_goesBy rfl (by decide) hk_2 rfl rfl rfl (Nat.le_of_ble_eq_true rfl) (Nat.le_refl _) (Nat.le_refl _) ?_
  refine z_aload_n (n := 33) dX1_then_32 rfl 0 rfl rfl ?_
  obtain ⟨o_30, hr_31, hF⟩ := zb1_some hF
  refine z_getRS (n := 36) dX1_then_33 rfl zok0 fX1_34_0 rfl hk_2 (Or.inl (zbig hb_19)) hr_31 ?_
  obtain ⟨n_32, hk_33, hF⟩ := zka_some hF
  obtain ⟨hb_34, hF⟩ := zg_some hF
  obtain ⟨o_35, hr_36, hF⟩ := zb1_some hF
  refine z_getRS (n := 39) dX1_then_36 rfl zok5 fX1_176_5 rfl hk_33 (Or.inl (zbig hb_34)) hr_36 ?_
  refine z_iload_n (n := 40) dX1_then_39 rfl 1 rfl rfl ?_
  obtain ⟨n_37, hk_38, hF⟩ := zka_some hF
  obtain ⟨h_39, hF⟩ := zg_some hF
  refine z_ialdK (n := 41) a0.toNatClampNeg rfl dX1_then_40 rfl hk_38 (zin_ok h_39) ?_
  have hF := Option.some.inj hF; subst hF
  exact z_iret dX1_then_41 rfl rfl ⟨rfl, rfl, rfl, rfl, rfl⟩
theorem fX1_238_4 : zFld RX1 238 4 1 := ⟨_, rfl, by decide, _, Or.inr ⟨_, q701⟩, Or.inl rfl⟩
abbrev MX1_undo : zM := (RX1, cX1_undo, 1, (some .int), "undo", [])
noncomputable def F_X1_undo (K : zKd) (F : zFd) (o0 : Nat) (I : zId) : Option (Int32 × zId) := zka K o0 0 (fun n_1 => zg (decide (600 ≤ o0)) (zb1 (F o0 1) (fun o_4 => zka K o_4 4 (fun n_6 => zg (decide (600 ≤ o_4)) (if ¬ (I o_4 6) = 0 then zb1 (F o0 1) (fun o_9 => zka K o_9 4 (fun n_11 => zg (decide (600 ≤ o_9)) (zlet (zu I o_9 6 ((I o_9 6) - 1)) (fun I_14 => zb1 (F o0 3) (fun o_16 => zb1 (F o0 1) (fun o_18 => zka K o_18 4 (fun n_20 => zg (decide (600 ≤ o_18)) (zb1 (F o_18 1) (fun o_23 => zb1 (F o0 1) (fun o_25 => zka K o_25 4 (fun n_27 => zg (decide (600 ≤ o_25)) (zka K o_23 2 (fun n_30 => zb1 (F_J2_get K F o_23 (I_14 o_25 6) I_14) (fun q_33 => zb1 q_33 (fun o_34 => zka K o_34 5 (fun n_36 => zka K o_16 5 (fun n_38 => zb1 (F_X6_like K F o_16 o_34 I_14) (fun I_41 => zb1 (F o0 1) (fun o_42 => zka K o_42 4 (fun n_44 => zg (decide (600 ≤ o_42)) (some (I_41 o_42 6, I_41)))))))))))))))))))))) else some ((-1), I))))))
set_option maxHeartbeats 1000000 in
theorem C_X1_undo {l : Launch} {G : zGt} (htr : l.stackTraces = false) {K : zKd} {F : zFd} {L : zLd} {o0 : Nat} {I : zId} {r : Int32 × zId} (hF : F_X1_undo K F o0 I = some r) : zMet l G yX1_undo (ws_ yX1_undo cX1_undo 1 (some .int)) 3 81 0 0 [.ref o0] K F I L (zQe (.inl (some (.int r.1))) K F r.2 L) := by
  refine zMet.of (by decide +kernel) htr (Nat.le_of_ble_eq_true rfl) ?_
  change zW l G MX1_undo 3 81 0 0 0 [(0, .ref o0)] [] K F I L (zQe (.inl (some (.int r.1))) K F r.2 L)
  unfold F_X1_undo at hF
  refine z_aload_n (n := 1) dX1_undo_0 rfl 0 rfl rfl ?_
  obtain ⟨n_1, hk_2, hF⟩ := zka_some hF
  obtain ⟨hb_3, hF⟩ := zg_some hF
  obtain ⟨o_4, hr_5, hF⟩ := zb1_some hF
  refine z_getRS (n := 4) dX1_undo_1 rfl zok0 fX1_19_0 rfl hk_2 (Or.inl (zbig hb_3)) hr_5 ?_
  obtain ⟨n_6, hk_7, hF⟩ := zka_some hF
  obtain ⟨hb_8, hF⟩ := zg_some hF
  refine z_getI (n := 7) dX1_undo_4 rfl zok4 fX1_126_4 rfl hk_7 (Or.inl (zbig hb_8)) ?_
  refine z_if_ne (n := 10) (t := 12) dX1_undo_7 rfl (by decide) (fun hc => ?_) (fun hc => ?_)
  · replace hF := (if_pos hc).symm.trans hF
    refine z_aload_n (n := 13) dX1_undo_12 rfl 0 rfl rfl ?_
    obtain ⟨o_9, hr_10, hF⟩ := zb1_some hF
    refine z_getRS (n := 16) dX1_undo_13 rfl zok0 fX1_19_0 rfl hk_2 (Or.inl (zbig hb_3)) hr_10 ?_
    refine z_dup (n := 17) dX1_undo_16 rfl rfl ?_
    obtain ⟨n_11, hk_12, hF⟩ := zka_some hF
    obtain ⟨hb_13, hF⟩ := zg_some hF
    refine z_getI (n := 20) dX1_undo_17 rfl zok4 fX1_126_4 rfl hk_12 (Or.inl (zbig hb_13)) ?_
    refine z_iconst (n := 21) (v := 1) dX1_undo_20 rfl (by decide) ?_
    refine z_isub (n := 22) dX1_undo_21 rfl ?_
    obtain ⟨I_14, e_15, hF⟩ := zlet_ob hF
    refine z_putIE (n := 25) dX1_undo_22 rfl zok4 fX1_126_4 (Or.inl ⟨_, rfl, rfl⟩) rfl ⟨rfl, rfl⟩ hk_12 (zbig hb_13) e_15 ?_
    refine z_aload_n (n := 26) dX1_undo_25 rfl 0 rfl rfl ?_
    obtain ⟨o_16, hr_17, hF⟩ := zb1_some hF
    refine z_getRS (n := 29) dX1_undo_26 rfl zok0 fX1_30_0 rfl hk_2 (Or.inl (zbig hb_3)) hr_17 ?_
    refine z_aload_n (n := 30) dX1_undo_29 rfl 0 rfl rfl ?_
    obtain ⟨o_18, hr_19, hF⟩ := zb1_some hF
    refine z_getRS (n := 33) dX1_undo_30 rfl zok0 fX1_19_0 rfl hk_2 (Or.inl (zbig hb_3)) hr_19 ?_
    obtain ⟨n_20, hk_21, hF⟩ := zka_some hF
    obtain ⟨hb_22, hF⟩ := zg_some hF
    obtain ⟨o_23, hr_24, hF⟩ := zb1_some hF
    refine z_getRS (n := 36) dX1_undo_33 rfl zok4 fX1_238_4 rfl hk_21 (Or.inl (zbig hb_22)) hr_24 ?_
    refine z_aload_n (n := 37) dX1_undo_36 rfl 0 rfl rfl ?_
    obtain ⟨o_25, hr_26, hF⟩ := zb1_some hF
    refine z_getRS (n := 40) dX1_undo_37 rfl zok0 fX1_19_0 rfl hk_2 (Or.inl (zbig hb_3)) hr_26 ?_
    obtain ⟨n_27, hk_28, hF⟩ := zka_some hF
    obtain ⟨hb_29, hF⟩ := zg_some hF
    refine z_getI (n := 43) dX1_undo_40 rfl zok4 fX1_126_4 rfl hk_28 (Or.inl (zbig hb_29)) ?_
    obtain ⟨n_30, hk_31, hF⟩ := zka_some hF
    obtain ⟨q_33, c_32, hF⟩ := zb1_some hF
    refine z_cV (n := 46) (st := [.ref o_16]) (C_J2_get htr c_32) dX1_undo_43 rfl (lw_V q917 q813 q814 q109 q815) hcee_J2_get rfl (by decide) hk_31 rfl rfl rfl (Nat.le_of_ble_eq_true rfl) (Nat.le_refl _) (Nat.le_refl _) ?_
    obtain ⟨o_34, hr_35, hF⟩ := zb1_some hF
    rw [hr_35]
    obtain ⟨n_36, hk_37, hF⟩ := zka_some hF
    refine z_castS (n := 49) dX1_undo_46 rfl hk_37 rfl q731 rfl ?_
    obtain ⟨n_38, hk_39, hF⟩ := zka_some hF
    obtain ⟨I_41, c_40, hF⟩ := zb1_some hF
    refine z_cV (n := 52) (st := []) (C_X6_like htr c_40) dX1_undo_49 rfl (lw_V q918 q821 q822 q130 q823) hcee_X6_like rfl (by decide) hk_39 rfl rfl rfl (Nat.le_of_ble_eq_true rfl) (Nat.le_refl _) (Nat.le_refl _) ?_
    refine z_aload_n (n := 53) dX1_undo_52 rfl 0 rfl rfl ?_
    obtain ⟨o_42, hr_43, hF⟩ := zb1_some hF
    refine z_getRS (n := 56) dX1_undo_53 rfl zok0 fX1_19_0 rfl hk_2 (Or.inl (zbig hb_3)) hr_43 ?_
    obtain ⟨n_44, hk_45, hF⟩ := zka_some hF
    obtain ⟨hb_46, hF⟩ := zg_some hF
    refine z_getI (n := 59) dX1_undo_56 rfl zok4 fX1_126_4 rfl hk_45 (Or.inl (zbig hb_46)) ?_
    have hF := Option.some.inj hF; subst hF
    exact z_iret dX1_undo_59 rfl rfl ⟨rfl, rfl, rfl, rfl, rfl⟩
  · replace hF := (if_neg hc).symm.trans hF
    refine z_iconst (n := 11) (v := (-1)) dX1_undo_10 rfl (by decide) ?_
    have hF := Option.some.inj hF; subst hF
    exact z_iret dX1_undo_11 rfl rfl ⟨rfl, rfl, rfl, rfl, rfl⟩
abbrev MX1_where : zM := (RX1, cX1_where, 8, (some .int), "where", [])
noncomputable def F_X1_where_L33 (K : zKd) (F : zFd) (o0 : Nat) (a0 : Int32) (a1 : Int32) (v4_25 : Int32) (v5_26 : Int32) (v6_27 : Int32) (I_28 : zId) : Option ((Int32 × Int32 × Int32 × zId) ⊕ (Int32 × Int32 × zId)) := zka K o0 0 (fun n_29 => zb1 (F_X1_forests K F o0 I_28) (fun x_32 => if x_32 ≤ v6_27 then some (.inr ((v4_25, v5_26, I_28))) else zg (decide (600 ≤ o0)) (zb1 (F o0 3) (fun o_34 => zka K o_34 5 (fun n_36 => zg (decide (600 ≤ o_34)) (zb1 (F o_34 5) (fun o_39 => zka K o_39 64 (fun n_41 => zg (zin a0 n_41) (zb2 (F_X1_owesBy K F o0 a0 v6_27 (I_28 o_39 a0.toNatClampNeg) a1 I_28) (fun x_45 I_46 => if v4_25 = (-1) then zlet (v6_27 + 1) (fun v6_47 => some (.inl (v6_27, x_45, v6_47, I_46))) else if x_45 < v5_26 then zlet (v6_27 + 1) (fun v6_49 => some (.inl (v6_27, x_45, v6_49, I_46))) else zlet (v6_27 + 1) (fun v6_51 => some (.inl (v4_25, v5_26, v6_51, I_46)))))))))))))
noncomputable def F_X1_where (K : zKd) (F : zFd) (o0 : Nat) (a0 : Int32) (a1 : Int32) (a2 : Int32) (I : zId) : Option ((Int32 ⊕ (String × Nat)) × zId) := zka K o0 0 (fun n_1 => zb2 (F_X1_bandAt K F o0 a0 I) (fun s_4 I_5 => zsum s_4 (fun x_7 => zb1 (F_X1_within K F a2 0 1 I_5) (fun x_10 => zb2 (F_X1_there K F x_10 I_5) (fun s_12 I_13 => zsum s_12 (fun x_15 => zb1 (F_X1_within K F a1 1 20 I_13) (fun x_18 => zb2 (F_X1_right K F x_18 I_13) (fun s_20 I_21 => zsum s_20 (fun x_23 => zb1 (zloop (fun s : Int32 × Int32 × Int32 × zId => F_X1_where_L33 K F o0 a0 a1 s.1 s.2.1 s.2.2.1 s.2.2.2) ((-1), 0, 0, I_21)) (zn3 (fun v4_53 v5_54 I_55 => if ¬ a2 = 0 then some (.inl v5_54, I_55) else some (.inl v4_53, I_55)))) (fun w_24 => some (.inr w_24, I_21))))) (fun w_16 => some (.inr w_16, I_13))))) (fun w_8 => some (.inr w_8, I_5))))
set_option maxHeartbeats 1000000 in
theorem W_X1_where_L33 {l : Launch} {G : zGt} (htr : l.stackTraces = false) {K : zKd} {F : zFd} {L : zLd} {Q : zQt} {mE wE : Nat} {o0 : Nat} {a0 : Int32} {a1 : Int32} {a2 : Int32} {v4_25 : Int32} {v5_26 : Int32} {v6_27 : Int32} {I_28 : zId} {r : (Int32 × Int32 × Int32 × zId) ⊕ (Int32 × Int32 × zId)} (hF : F_X1_where_L33 K F o0 a0 a1 v4_25 v5_26 v6_27 I_28 = some r) (kl : ∀ (z0 : Int32) (z1 : Int32) (z2 : Int32) (z3 : zId), r = .inl (z0, z1, z2, z3) → zW l G MX1_where 1007 24117 mE wE 33 [(0, .ref o0), (1, .int a0), (2, .int a1), (3, .int a2), (4, .int z0), (5, .int z1), (6, .int z2)] [] K F z3 L Q) (kx : ∀ (y0 : Int32) (y1 : Int32) (y2 : zId), r = .inr (y0, y1, y2) → zW l G MX1_where 1007 24117 mE wE 91 [(3, .int a2), (4, .int y0), (5, .int y1)] [] K F y2 L Q)  : zW l G MX1_where 1007 24117 mE wE 33 [(0, .ref o0), (1, .int a0), (2, .int a1), (3, .int a2), (4, .int v4_25), (5, .int v5_26), (6, .int v6_27)] [] K F I_28 L Q := by
  unfold F_X1_where_L33 at hF
  refine z_iload (n := 35) dX1_where_33 rfl 6 rfl ?_
  refine z_aload_n (n := 36) dX1_where_35 rfl 0 rfl rfl ?_
  obtain ⟨n_29, hk_30, hF⟩ := zka_some hF
  obtain ⟨x_32, c_31, hF⟩ := zb1_some hF
  refine z_cV (n := 39) (st := [.int v6_27]) (C_X1_forests htr c_31) dX1_where_36 rfl (lw_V q923 q925 qs12 q105 q926) hcee_X1_forests rfl (by decide) hk_30 rfl rfl rfl (Nat.le_of_ble_eq_true rfl) (Nat.le_refl _) (Nat.le_refl _) ?_
  refine z_icmp_ge (n := 42) (t := 91) dX1_where_39 rfl (by decide) (fun hc => ?_) (fun hc => ?_)
  · replace hF := (if_pos hc).symm.trans hF
    refine z_sub [3, 4, 5] rfl ?_
    have hF := Option.some.inj hF; subst hF
    exact kx v4_25 v5_26 I_28 rfl
  · replace hF := (if_neg hc).symm.trans hF
    refine z_aload_n (n := 43) dX1_where_42 rfl 0 rfl rfl ?_
    refine z_iload_n (n := 44) dX1_where_43 rfl 1 rfl rfl ?_
    refine z_iload (n := 46) dX1_where_44 rfl 6 rfl ?_
    refine z_aload_n (n := 47) dX1_where_46 rfl 0 rfl rfl ?_
    obtain ⟨hb_33, hF⟩ := zg_some hF
    obtain ⟨o_34, hr_35, hF⟩ := zb1_some hF
    refine z_getRS (n := 50) dX1_where_47 rfl zok0 fX1_30_0 rfl hk_30 (Or.inl (zbig hb_33)) hr_35 ?_
    obtain ⟨n_36, hk_37, hF⟩ := zka_some hF
    obtain ⟨hb_38, hF⟩ := zg_some hF
    obtain ⟨o_39, hr_40, hF⟩ := zb1_some hF
    refine z_getRS (n := 53) dX1_where_50 rfl zok5 fX1_203_5 rfl hk_37 (Or.inl (zbig hb_38)) hr_40 ?_
    refine z_iload_n (n := 54) dX1_where_53 rfl 1 rfl rfl ?_
    obtain ⟨n_41, hk_42, hF⟩ := zka_some hF
    obtain ⟨h_43, hF⟩ := zg_some hF
    refine z_ialdK (n := 55) a0.toNatClampNeg rfl dX1_where_54 rfl hk_42 (zin_ok h_43) ?_
    refine z_iload_n (n := 56) dX1_where_55 rfl 2 rfl rfl ?_
    obtain ⟨x_45, I_46, c_44, hF⟩ := zb2_some hF
    refine z_cV (n := 59) (st := []) (C_X1_owesBy htr c_44) dX1_where_56 rfl (lw_V q1586 q1588 qs40 q105 q1589) hcee_X1_owesBy rfl (by decide) hk_30 rfl rfl rfl (Nat.le_of_ble_eq_true rfl) (Nat.le_refl _) (Nat.le_refl _) ?_
    refine z_istoreE (n := 61) (lv' := [(7, .int x_45), (0, .ref o0), (1, .int a0), (2, .int a1), (3, .int a2), (4, .int v4_25), (5, .int v5_26), (6, .int v6_27)]) dX1_where_59 rfl rfl (by decide) rfl ?_
    refine z_iload (n := 63) dX1_where_61 rfl 5 rfl ?_
    refine z_iconst (n := 64) (v := (-1)) dX1_where_63 rfl (by decide) ?_
    refine z_icmp_eq (n := 67) (t := 77) dX1_where_64 rfl (by decide) (fun hc => ?_) (fun hc => ?_)
    · replace hF := (if_pos hc).symm.trans hF
      refine z_iload (n := 79) dX1_where_77 rfl 7 rfl ?_
      refine z_istoreE (n := 81) (lv' := [(4, .int v6_27), (7, .int x_45), (0, .ref o0), (1, .int a0), (2, .int a1), (3, .int a2), (5, .int v5_26), (6, .int v6_27)]) dX1_where_79 rfl rfl (by decide) rfl ?_
      refine z_iload (n := 83) dX1_where_81 rfl 1 rfl ?_
      refine z_istoreE (n := 85) (lv' := [(5, .int x_45), (4, .int v6_27), (7, .int x_45), (0, .ref o0), (1, .int a0), (2, .int a1), (3, .int a2), (6, .int v6_27)]) dX1_where_83 rfl rfl (by decide) rfl ?_
      obtain ⟨v6_47, e_48, hF⟩ := zlet_ob hF
      refine z_iincE (n := 88) (w := 1) (v := v6_47) (lv' := [(6, .int v6_47), (5, .int x_45), (4, .int v6_27), (7, .int x_45), (0, .ref o0), (1, .int a0), (2, .int a1), (3, .int a2)]) dX1_where_85 rfl 7 rfl (by decide) e_48 (by decide) rfl ?_
      refine z_goto (t := 33) dX1_where_88 (by decide) ?_
      refine z_sub [4, 5, 6, 7, 2, 1, 0] rfl ?_
      have hF := Option.some.inj hF; subst hF
      exact kl v6_27 x_45 v6_47 I_46 rfl
    · replace hF := (if_neg hc).symm.trans hF
      refine z_iload (n := 69) dX1_where_67 rfl 0 rfl ?_
      refine z_iload (n := 71) dX1_where_69 rfl 6 rfl ?_
      refine z_icmp_lt (n := 74) (t := 77) dX1_where_71 rfl (by decide) (fun hc => ?_) (fun hc => ?_)
      · replace hF := (if_pos hc).symm.trans hF
        refine z_iload (n := 79) dX1_where_77 rfl 7 rfl ?_
        refine z_istoreE (n := 81) (lv' := [(4, .int v6_27), (7, .int x_45), (0, .ref o0), (1, .int a0), (2, .int a1), (3, .int a2), (5, .int v5_26), (6, .int v6_27)]) dX1_where_79 rfl rfl (by decide) rfl ?_
        refine z_iload (n := 83) dX1_where_81 rfl 1 rfl ?_
        refine z_istoreE (n := 85) (lv' := [(5, .int x_45), (4, .int v6_27), (7, .int x_45), (0, .ref o0), (1, .int a0), (2, .int a1), (3, .int a2), (6, .int v6_27)]) dX1_where_83 rfl rfl (by decide) rfl ?_
        obtain ⟨v6_49, e_50, hF⟩ := zlet_ob hF
        refine z_iincE (n := 88) (w := 1) (v := v6_49) (lv' := [(6, .int v6_49), (5, .int x_45), (4, .int v6_27), (7, .int x_45), (0, .ref o0), (1, .int a0), (2, .int a1), (3, .int a2)]) dX1_where_85 rfl 7 rfl (by decide) e_50 (by decide) rfl ?_
        refine z_goto (t := 33) dX1_where_88 (by decide) ?_
        refine z_sub [4, 5, 6, 7, 2, 1, 0] rfl ?_
        have hF := Option.some.inj hF; subst hF
        exact kl v6_27 x_45 v6_49 I_46 rfl
      · replace hF := (if_neg hc).symm.trans hF
        refine z_goto (t := 85) dX1_where_74 (by decide) ?_
        obtain ⟨v6_51, e_52, hF⟩ := zlet_ob hF
        refine z_iincE (n := 88) (w := 1) (v := v6_51) (lv' := [(6, .int v6_51), (7, .int x_45), (0, .ref o0), (1, .int a0), (2, .int a1), (3, .int a2), (4, .int v4_25), (5, .int v5_26)]) dX1_where_85 rfl 7 rfl (by decide) e_52 (by decide) rfl ?_
        refine z_goto (t := 33) dX1_where_88 (by decide) ?_
        refine z_sub [2, 3, 4, 5, 6, 7, 0] rfl ?_
        have hF := Option.some.inj hF; subst hF
        exact kl v4_25 v5_26 v6_51 I_46 rfl
set_option maxHeartbeats 1000000 in
theorem C_X1_where {l : Launch} {G : zGt} (htr : l.stackTraces = false) {K : zKd} {F : zFd} {L : zLd} {o0 : Nat} {a0 : Int32} {a1 : Int32} {a2 : Int32} {I : zId} {r : (Int32 ⊕ (String × Nat)) × zId} (hF : F_X1_where K F o0 a0 a1 a2 I = some r) : zMet l G yX1_where (ws_ yX1_where cX1_where 8 (some .int)) 1007 24117 (zxc r.1) (zxs r.1) [.ref o0, .int a0, .int a1, .int a2] K F I L (zQe (zoi r.1) K F r.2 L) := by
  refine zMet.of (by decide +kernel) htr (Nat.le_of_ble_eq_true rfl) ?_
  change zW l G MX1_where 1007 24117 (zxc r.1) (zxs r.1) 0 [(0, .ref o0), (1, .int a0), (2, .int a1), (3, .int a2)] [] K F I L (zQe (zoi r.1) K F r.2 L)
  unfold F_X1_where at hF
  refine z_aload_n (n := 1) dX1_where_0 rfl 0 rfl rfl ?_
  refine z_iload_n (n := 2) dX1_where_1 rfl 1 rfl rfl ?_
  obtain ⟨n_1, hk_2, hF⟩ := zka_some hF
  obtain ⟨s_4, I_5, c_3, hF⟩ := zb2_some hF
  rcases zsum_some hF with ⟨x_7, e_6, hF⟩ | ⟨w_8, e_6, hF⟩
  rotate_left
  · first | rw [e_6] at c_3 ⊢ | rw [e_6] at c_3
    have hF := Option.some.inj hF; subst hF
    refine z_cVx (n := 5) (mc2 := 0) (ms2 := 0) (st := []) (C_X1_bandAt htr c_3) dX1_where_2 rfl (lw_V q1421 q1423 qs34 q105 q1424) hcee_X1_bandAt rfl (by decide) hk_2 rfl rfl rfl (Nat.le_of_ble_eq_true rfl) (Nat.le_refl _) (Nat.le_refl _) ?_
    exact z_out rfl ⟨rfl, rfl, rfl, rfl, rfl⟩
  first | rw [e_6] at c_3 ⊢ | rw [e_6] at c_3
  refine z_cV (n := 5) (st := []) (C_X1_bandAt htr c_3) dX1_where_2 rfl (lw_V q1421 q1423 qs34 q105 q1424) hcee_X1_bandAt rfl (by decide) hk_2 rfl rfl rfl (Nat.le_of_ble_eq_true rfl) (Nat.le_refl _) (Nat.le_refl _) ?_
  refine z_iload_n (n := 6) dX1_where_5 rfl 3 rfl rfl ?_
  refine z_iconst (n := 7) (v := 0) dX1_where_6 rfl (by decide) ?_
  refine z_iconst (n := 8) (v := 1) dX1_where_7 rfl (by decide) ?_
  obtain ⟨x_10, c_9, hF⟩ := zb1_some hF
  refine z_cS (n := 11) (st := []) (C_X1_within htr c_9) dX1_where_8 rfl (lw_S q786 q787 q105 q788) hcee_X1_within rfl (by decide) rfl (Nat.le_of_ble_eq_true rfl) (Nat.le_refl _) (Nat.le_refl _) ?_
  obtain ⟨s_12, I_13, c_11, hF⟩ := zb2_some hF
  rcases zsum_some hF with ⟨x_15, e_14, hF⟩ | ⟨w_16, e_14, hF⟩
  rotate_left
  · first | rw [e_14] at c_11 ⊢ | rw [e_14] at c_11
    have hF := Option.some.inj hF; subst hF
    refine z_cSx (n := 14) (mc2 := 0) (ms2 := 0) (st := []) (C_X1_there htr c_11) dX1_where_11 rfl (lw_S q1367 q1368 q105 q1369) hcee_X1_there rfl (by decide) rfl (Nat.le_of_ble_eq_true rfl) (Nat.le_refl _) (Nat.le_refl _) ?_
    exact z_out rfl ⟨rfl, rfl, rfl, rfl, rfl⟩
  first | rw [e_14] at c_11 ⊢ | rw [e_14] at c_11
  refine z_cS (n := 14) (st := []) (C_X1_there htr c_11) dX1_where_11 rfl (lw_S q1367 q1368 q105 q1369) hcee_X1_there rfl (by decide) rfl (Nat.le_of_ble_eq_true rfl) (Nat.le_refl _) (Nat.le_refl _) ?_
  refine z_iload_n (n := 15) dX1_where_14 rfl 2 rfl rfl ?_
  refine z_iconst (n := 16) (v := 1) dX1_where_15 rfl (by decide) ?_
  refine z_bipush (n := 18) (v := 20) dX1_where_16 rfl (by decide) ?_
  obtain ⟨x_18, c_17, hF⟩ := zb1_some hF
  refine z_cS (n := 21) (st := []) (C_X1_within htr c_17) dX1_where_18 rfl (lw_S q786 q787 q105 q788) hcee_X1_within rfl (by decide) rfl (Nat.le_of_ble_eq_true rfl) (Nat.le_refl _) (Nat.le_refl _) ?_
  obtain ⟨s_20, I_21, c_19, hF⟩ := zb2_some hF
  rcases zsum_some hF with ⟨x_23, e_22, hF⟩ | ⟨w_24, e_22, hF⟩
  rotate_left
  · first | rw [e_22] at c_19 ⊢ | rw [e_22] at c_19
    have hF := Option.some.inj hF; subst hF
    refine z_cSx (n := 24) (mc2 := 0) (ms2 := 0) (st := []) (C_X1_right htr c_19) dX1_where_21 rfl (lw_S q954 q955 q105 q956) hcee_X1_right rfl (by decide) rfl (Nat.le_of_ble_eq_true rfl) (Nat.le_refl _) (Nat.le_refl _) ?_
    exact z_out rfl ⟨rfl, rfl, rfl, rfl, rfl⟩
  first | rw [e_22] at c_19 ⊢ | rw [e_22] at c_19
  refine z_cS (n := 24) (st := []) (C_X1_right htr c_19) dX1_where_21 rfl (lw_S q954 q955 q105 q956) hcee_X1_right rfl (by decide) rfl (Nat.le_of_ble_eq_true rfl) (Nat.le_refl _) (Nat.le_refl _) ?_
  refine z_iconst (n := 25) (v := (-1)) dX1_where_24 rfl (by decide) ?_
  refine z_istoreE (n := 27) (lv' := [(4, .int (-1)), (0, .ref o0), (1, .int a0), (2, .int a1), (3, .int a2)]) dX1_where_25 rfl rfl (by decide) rfl ?_
  refine z_iconst (n := 28) (v := 0) dX1_where_27 rfl (by decide) ?_
  refine z_istoreE (n := 30) (lv' := [(5, .int 0), (4, .int (-1)), (0, .ref o0), (1, .int a0), (2, .int a1), (3, .int a2)]) dX1_where_28 rfl rfl (by decide) rfl ?_
  refine z_iconst (n := 31) (v := 0) dX1_where_30 rfl (by decide) ?_
  refine z_istoreE (n := 33) (lv' := [(6, .int 0), (5, .int 0), (4, .int (-1)), (0, .ref o0), (1, .int a0), (2, .int a1), (3, .int a2)]) dX1_where_31 rfl rfl (by decide) rfl ?_
  refine z_sub [3, 4, 5, 6, 2, 1, 0] rfl ?_
  obtain ⟨t_57, e_56, hF⟩ := zb1_some hF
  obtain ⟨v4_53, v5_54, I_55⟩ := t_57
  dsimp only [zn3] at hF
  have H_58 : zW l G MX1_where 1007 24117 (zxc r.1) (zxs r.1) 91 [(3, .int a2), (4, .int v4_53), (5, .int v5_54)] [] K F I_55 L (zQe (zoi r.1) K F r.2 L) := by
    refine z_iload_n (n := 92) dX1_where_91 rfl 0 rfl rfl ?_
    refine z_if_ne (n := 95) (t := 100) dX1_where_92 rfl (by decide) (fun hc => ?_) (fun hc => ?_)
    · replace hF := (if_pos hc).symm.trans hF
      refine z_iload (n := 102) dX1_where_100 rfl 2 rfl ?_
      have hF := Option.some.inj hF; subst hF
      exact z_iret dX1_where_102 rfl rfl ⟨rfl, rfl, rfl, rfl, rfl⟩
    · replace hF := (if_neg hc).symm.trans hF
      refine z_iload (n := 97) dX1_where_95 rfl 1 rfl ?_
      refine z_goto (t := 102) dX1_where_97 (by decide) ?_
      have hF := Option.some.inj hF; subst hF
      exact z_iret dX1_where_102 rfl rfl ⟨rfl, rfl, rfl, rfl, rfl⟩
  refine zloop_ind (P := fun s : Int32 × Int32 × Int32 × zId => zW l G MX1_where 1007 24117 (zxc r.1) (zxs r.1) 33 [(0, .ref o0), (1, .int a0), (2, .int a1), (3, .int a2), (4, .int s.1), (5, .int s.2.1), (6, .int s.2.2.1)] [] K F s.2.2.2 L (zQe (zoi r.1) K F r.2 L)) (fun s r hb kl kr => ?_) e_56
  exact W_X1_where_L33 (o0 := o0) (a0 := a0) (a1 := a1) (a2 := a2) htr hb (fun z0 z1 z2 z3 e => kl _ e) (fun y0 y1 y2 e => by cases kr _ e; exact H_58)
theorem hcee_X1_happens : zCee yX1_happens RX1 0 := ⟨rfl, by decide +kernel, by decide +kernel, by decide +kernel⟩
abbrev MX1_winter : zM := (RX1, cX1_winter, 6, (some .int), "winter", [])
noncomputable def F_X1_winter_L38 (K : zKd) (F : zFd) (o0 : Nat) (a1 : Int32) (v4_30 : Int32) (I_31 : zId) : Option ((Int32 × zId) ⊕ (zId)) := if a1 ≤ v4_30 then some (.inr (I_31)) else zka K o0 0 (fun n_32 => zb1 (F_X1_forests K F o0 I_31) (fun x_35 => zlet (fun (I_36 : zId) => zg (decide (600 ≤ o0)) (zb1 (F o0 4) (fun o_41 => zb1 (F o0 0) (fun o_43 => zka K o_41 5 (fun n_45 => zb1 (F_X6_goes K F o_41 o_43 I_36) (fun I_48 => zlet (v4_30 + 1) (fun v4_49 => some (.inl (v4_49, I_48))))))))) (fun k_37 => if x_35 ≤ 0 then k_37 I_31 else zb1 (F_X1_happens K F o0 I_31) (fun I_52 => k_37 I_52))))
noncomputable def F_X1_winter_L78 (K : zKd) (F : zFd) (o0 : Nat) (I_53 : zId) (v4_54 : Int32) (v5_55 : Int32) : Option ((Int32 × Int32) ⊕ (Int32)) := zka K o0 0 (fun n_56 => zb1 (F_X1_forests K F o0 I_53) (fun x_59 => if x_59 ≤ v5_55 then some (.inr (v4_54)) else zg (decide (600 ≤ o0)) (zb1 (F o0 4) (fun o_61 => zka K o_61 5 (fun n_63 => zg (decide (600 ≤ o_61)) (zb1 (F o_61 0) (fun o_66 => zka K o_66 64 (fun n_68 => zg (zin v5_55 n_68) (if ¬ (I_53 o_66 v5_55.toNatClampNeg) = 0 then zlet (v5_55 + 1) (fun v5_71 => some (.inl (v4_54, v5_71))) else zlet (v4_54 + 1) (fun v4_73 => zlet (v5_55 + 1) (fun v5_75 => some (.inl (v4_73, v5_75)))))))))))))
noncomputable def F_X1_winter (K : zKd) (F : zFd) (o0 : Nat) (a0 : Int32) (a1 : Int32) (a2 : Int32) (I : zId) : Option ((Int32 ⊕ (String × Nat)) × zId) := zb1 (F_X1_within K F a2 0 2 I) (fun x_2 => zb2 (F_X1_there K F x_2 I) (fun s_4 I_5 => zsum s_4 (fun x_7 => zb1 (F_X1_within K F a1 0 50 I_5) (fun x_10 => zb2 (F_X1_right K F x_10 I_5) (fun s_12 I_13 => zsum s_12 (fun x_15 => zka K o0 0 (fun n_17 => zg (decide (600 ≤ o0)) (zb1 (F o0 4) (fun o_20 => zb1 (F o0 3) (fun o_22 => zka K o_20 5 (fun n_24 => zb1 (F_X6_like K F o_20 o_22 I_13) (fun I_27 => zlet (zu I_27 o0 11 a0) (fun I_28 => zb1 (zloop (fun s : Int32 × zId => F_X1_winter_L38 K F o0 a1 s.1 s.2) (0, I_28)) (fun I_53 => zb1 (zloop (fun s : Int32 × Int32 => F_X1_winter_L78 K F o0 I_53 s.1 s.2) (0, 0)) (fun v4_77 => if ¬ a2 = 0 then if ¬ a2 = 1 then some (.inl v4_77, I_53) else zb1 (F o0 4) (fun o_78 => zb1 (F_X1_bands K F o0 I_53) (fun x_81 => zka K o_78 5 (fun n_82 => zb1 (F_X6_allDead K F o_78 x_81 I_53) (fun x_85 => zb1 (F o0 3) (fun o_86 => zb1 (F_X1_bands K F o0 I_53) (fun x_89 => zka K o_86 5 (fun n_90 => zb1 (F_X6_allDead K F o_86 x_89 I_53) (fun x_93 => some (.inl (x_85 - x_93), I_53))))))))) else zb1 (F o0 4) (fun o_94 => zb1 (F_X1_forests K F o0 I_53) (fun x_97 => zka K o_94 5 (fun n_98 => zb1 (F_X6_all K F o_94 x_97 I_53) (fun x_101 => some (.inl x_101, I_53))))))))))))))) (fun w_16 => some (.inr w_16, I_13))))) (fun w_8 => some (.inr w_8, I_5))))
set_option maxHeartbeats 1000000 in
theorem W_X1_winter_L38 {l : Launch} {G : zGt} (htr : l.stackTraces = false) {K : zKd} {F : zFd} {L : zLd} {Q : zQt} {mE wE : Nat} {o0 : Nat} {a1 : Int32} {a2 : Int32} {a0 : Int32} {v4_30 : Int32} {I_31 : zId} {r : (Int32 × zId) ⊕ (zId)} (hF : F_X1_winter_L38 K F o0 a1 v4_30 I_31 = some r) (kl : ∀ (z0 : Int32) (z1 : zId), r = .inl (z0, z1) → zW l G MX1_winter 1005 24071 mE wE 38 [(0, .ref o0), (2, .int a1), (3, .int a2), (4, .int z0)] [] K F z1 L Q) (kx : ∀ (y0 : zId), r = .inr y0 → zW l G MX1_winter 1005 24071 mE wE 72 [(0, .ref o0), (3, .int a2)] [] K F y0 L Q)  : zW l G MX1_winter 1005 24071 mE wE 38 [(0, .ref o0), (2, .int a1), (3, .int a2), (4, .int v4_30)] [] K F I_31 L Q := by
  unfold F_X1_winter_L38 at hF
  refine z_iload (n := 40) dX1_winter_38 rfl 3 rfl ?_
  refine z_iload_n (n := 41) dX1_winter_40 rfl 1 rfl rfl ?_
  refine z_icmp_ge (n := 44) (t := 72) dX1_winter_41 rfl (by decide) (fun hc => ?_) (fun hc => ?_)
  · replace hF := (if_pos hc).symm.trans hF
    refine z_sub [0, 2] rfl ?_
    have hF := Option.some.inj hF; subst hF
    exact kx I_31 rfl
  · replace hF := (if_neg hc).symm.trans hF
    refine z_aload_n (n := 45) dX1_winter_44 rfl 0 rfl rfl ?_
    obtain ⟨n_32, hk_33, hF⟩ := zka_some hF
    obtain ⟨x_35, c_34, hF⟩ := zb1_some hF
    refine z_cV (n := 48) (st := []) (C_X1_forests htr c_34) dX1_winter_45 rfl (lw_V q923 q925 qs12 q105 q926) hcee_X1_forests rfl (by decide) hk_33 rfl rfl rfl (Nat.le_of_ble_eq_true rfl) (Nat.le_refl _) (Nat.le_refl _) ?_
    obtain ⟨k_37, e_38, hF⟩ := zlet_ob hF
    have H_39 : ∀ (I_36 : zId), k_37 I_36 = some r → zW l G MX1_winter 1005 24071 mE wE 55 [(0, .ref o0), (2, .int a1), (3, .int a2), (4, .int v4_30)] [] K F I_36 L Q := by
      intro I_36 hF
      subst e_38
      dsimp only at hF
      refine z_aload_n (n := 56) dX1_winter_55 rfl 0 rfl rfl ?_
      obtain ⟨hb_40, hF⟩ := zg_some hF
      obtain ⟨o_41, hr_42, hF⟩ := zb1_some hF
      refine z_getRS (n := 59) dX1_winter_56 rfl zok0 fX1_34_0 rfl hk_33 (Or.inl (zbig hb_40)) hr_42 ?_
      refine z_aload_n (n := 60) dX1_winter_59 rfl 0 rfl rfl ?_
      obtain ⟨o_43, hr_44, hF⟩ := zb1_some hF
      refine z_getRS (n := 63) dX1_winter_60 rfl zok0 fX1_10_0 rfl hk_33 (Or.inl (zbig hb_40)) hr_44 ?_
      obtain ⟨n_45, hk_46, hF⟩ := zka_some hF
      obtain ⟨I_48, c_47, hF⟩ := zb1_some hF
      refine z_cV (n := 66) (st := []) (C_X6_goes htr c_47) dX1_winter_63 rfl (lw_V q829 q830 q831 q130 q832) hcee_X6_goes rfl (by decide) hk_46 rfl rfl rfl (Nat.le_of_ble_eq_true rfl) (Nat.le_refl _) (Nat.le_refl _) ?_
      obtain ⟨v4_49, e_50, hF⟩ := zlet_ob hF
      refine z_iincE (n := 69) (w := 1) (v := v4_49) (lv' := [(4, .int v4_49), (0, .ref o0), (2, .int a1), (3, .int a2)]) dX1_winter_66 rfl 3 rfl (by decide) e_50 (by decide) rfl ?_
      refine z_goto (t := 38) dX1_winter_69 (by decide) ?_
      refine z_sub [1, 2, 3, 0] rfl ?_
      have hF := Option.some.inj hF; subst hF
      exact kl v4_49 I_48 rfl
    clear e_38
    refine z_if_le (n := 51) (t := 55) dX1_winter_48 rfl (by decide) (fun hc => ?_) (fun hc => ?_)
    · replace hF := (if_pos hc).symm.trans hF
      exact H_39 I_31 hF
    · replace hF := (if_neg hc).symm.trans hF
      refine z_aload_n (n := 52) dX1_winter_51 rfl 0 rfl rfl ?_
      obtain ⟨I_52, c_51, hF⟩ := zb1_some hF
      refine z_cV (n := 55) (st := []) (C_X1_happens htr c_51) dX1_winter_52 rfl (lw_V q1653 q1655 qs46 q105 q1656) hcee_X1_happens rfl (by decide) hk_33 rfl rfl rfl (Nat.le_of_ble_eq_true rfl) (Nat.le_refl _) (Nat.le_refl _) ?_
      exact H_39 I_52 hF
set_option maxHeartbeats 1000000 in
theorem W_X1_winter_L78 {l : Launch} {G : zGt} (htr : l.stackTraces = false) {K : zKd} {F : zFd} {L : zLd} {Q : zQt} {mE wE : Nat} {o0 : Nat} {a2 : Int32} {I_53 : zId} {a0 : Int32} {a1 : Int32} {v4_54 : Int32} {v5_55 : Int32} {r : (Int32 × Int32) ⊕ (Int32)} (hF : F_X1_winter_L78 K F o0 I_53 v4_54 v5_55 = some r) (kl : ∀ (z0 : Int32) (z1 : Int32), r = .inl (z0, z1) → zW l G MX1_winter 1005 24071 mE wE 78 [(0, .ref o0), (3, .int a2), (4, .int z0), (5, .int z1)] [] K F I_53 L Q) (kx : ∀ (y0 : Int32), r = .inr y0 → zW l G MX1_winter 1005 24071 mE wE 109 [(0, .ref o0), (3, .int a2), (4, .int y0)] [] K F I_53 L Q)  : zW l G MX1_winter 1005 24071 mE wE 78 [(0, .ref o0), (3, .int a2), (4, .int v4_54), (5, .int v5_55)] [] K F I_53 L Q := by
  unfold F_X1_winter_L78 at hF
  refine z_iload (n := 80) dX1_winter_78 rfl 3 rfl ?_
  refine z_aload_n (n := 81) dX1_winter_80 rfl 0 rfl rfl ?_
  obtain ⟨n_56, hk_57, hF⟩ := zka_some hF
  obtain ⟨x_59, c_58, hF⟩ := zb1_some hF
  refine z_cV (n := 84) (st := [.int v5_55]) (C_X1_forests htr c_58) dX1_winter_81 rfl (lw_V q923 q925 qs12 q105 q926) hcee_X1_forests rfl (by decide) hk_57 rfl rfl rfl (Nat.le_of_ble_eq_true rfl) (Nat.le_refl _) (Nat.le_refl _) ?_
  refine z_icmp_ge (n := 87) (t := 109) dX1_winter_84 rfl (by decide) (fun hc => ?_) (fun hc => ?_)
  · replace hF := (if_pos hc).symm.trans hF
    refine z_sub [0, 1, 2] rfl ?_
    have hF := Option.some.inj hF; subst hF
    exact kx v4_54 rfl
  · replace hF := (if_neg hc).symm.trans hF
    refine z_aload_n (n := 88) dX1_winter_87 rfl 0 rfl rfl ?_
    obtain ⟨hb_60, hF⟩ := zg_some hF
    obtain ⟨o_61, hr_62, hF⟩ := zb1_some hF
    refine z_getRS (n := 91) dX1_winter_88 rfl zok0 fX1_34_0 rfl hk_57 (Or.inl (zbig hb_60)) hr_62 ?_
    obtain ⟨n_63, hk_64, hF⟩ := zka_some hF
    obtain ⟨hb_65, hF⟩ := zg_some hF
    obtain ⟨o_66, hr_67, hF⟩ := zb1_some hF
    refine z_getRS (n := 94) dX1_winter_91 rfl zok5 fX1_176_5 rfl hk_64 (Or.inl (zbig hb_65)) hr_67 ?_
    refine z_iload (n := 96) dX1_winter_94 rfl 3 rfl ?_
    obtain ⟨n_68, hk_69, hF⟩ := zka_some hF
    obtain ⟨h_70, hF⟩ := zg_some hF
    refine z_ialdK (n := 97) v5_55.toNatClampNeg rfl dX1_winter_96 rfl hk_69 (zin_ok h_70) ?_
    refine z_if_ne (n := 100) (t := 103) dX1_winter_97 rfl (by decide) (fun hc => ?_) (fun hc => ?_)
    · replace hF := (if_pos hc).symm.trans hF
      obtain ⟨v5_71, e_72, hF⟩ := zlet_ob hF
      refine z_iincE (n := 106) (w := 1) (v := v5_71) (lv' := [(5, .int v5_71), (0, .ref o0), (3, .int a2), (4, .int v4_54)]) dX1_winter_103 rfl 3 rfl (by decide) e_72 (by decide) rfl ?_
      refine z_goto (t := 78) dX1_winter_106 (by decide) ?_
      refine z_sub [1, 2, 3, 0] rfl ?_
      have hF := Option.some.inj hF; subst hF
      exact kl v4_54 v5_71 rfl
    · replace hF := (if_neg hc).symm.trans hF
      obtain ⟨v4_73, e_74, hF⟩ := zlet_ob hF
      refine z_iincE (n := 103) (w := 1) (v := v4_73) (lv' := [(4, .int v4_73), (0, .ref o0), (3, .int a2), (5, .int v5_55)]) dX1_winter_100 rfl 2 rfl (by decide) e_74 (by decide) rfl ?_
      obtain ⟨v5_75, e_76, hF⟩ := zlet_ob hF
      refine z_iincE (n := 106) (w := 1) (v := v5_75) (lv' := [(5, .int v5_75), (4, .int v4_73), (0, .ref o0), (3, .int a2)]) dX1_winter_103 rfl 3 rfl (by decide) e_76 (by decide) rfl ?_
      refine z_goto (t := 78) dX1_winter_106 (by decide) ?_
      refine z_sub [2, 3, 1, 0] rfl ?_
      have hF := Option.some.inj hF; subst hF
      exact kl v4_73 v5_75 rfl
set_option maxHeartbeats 1000000 in
theorem C_X1_winter {l : Launch} {G : zGt} (htr : l.stackTraces = false) {K : zKd} {F : zFd} {L : zLd} {o0 : Nat} {a0 : Int32} {a1 : Int32} {a2 : Int32} {I : zId} {r : (Int32 ⊕ (String × Nat)) × zId} (hF : F_X1_winter K F o0 a0 a1 a2 I = some r) : zMet l G yX1_winter (ws_ yX1_winter cX1_winter 6 (some .int)) 1005 24071 (zxc r.1) (zxs r.1) [.ref o0, .int a0, .int a1, .int a2] K F I L (zQe (zoi r.1) K F r.2 L) := by
  refine zMet.of (by decide +kernel) htr (Nat.le_of_ble_eq_true rfl) ?_
  change zW l G MX1_winter 1005 24071 (zxc r.1) (zxs r.1) 0 [(0, .ref o0), (1, .int a0), (2, .int a1), (3, .int a2)] [] K F I L (zQe (zoi r.1) K F r.2 L)
  unfold F_X1_winter at hF
  refine z_iload_n (n := 1) dX1_winter_0 rfl 3 rfl rfl ?_
  refine z_iconst (n := 2) (v := 0) dX1_winter_1 rfl (by decide) ?_
  refine z_iconst (n := 3) (v := 2) dX1_winter_2 rfl (by decide) ?_
  obtain ⟨x_2, c_1, hF⟩ := zb1_some hF
  refine z_cS (n := 6) (st := []) (C_X1_within htr c_1) dX1_winter_3 rfl (lw_S q786 q787 q105 q788) hcee_X1_within rfl (by decide) rfl (Nat.le_of_ble_eq_true rfl) (Nat.le_refl _) (Nat.le_refl _) ?_
  obtain ⟨s_4, I_5, c_3, hF⟩ := zb2_some hF
  rcases zsum_some hF with ⟨x_7, e_6, hF⟩ | ⟨w_8, e_6, hF⟩
  rotate_left
  · first | rw [e_6] at c_3 ⊢ | rw [e_6] at c_3
    have hF := Option.some.inj hF; subst hF
    refine z_cSx (n := 9) (mc2 := 0) (ms2 := 0) (st := []) (C_X1_there htr c_3) dX1_winter_6 rfl (lw_S q1367 q1368 q105 q1369) hcee_X1_there rfl (by decide) rfl (Nat.le_of_ble_eq_true rfl) (Nat.le_refl _) (Nat.le_refl _) ?_
    exact z_out rfl ⟨rfl, rfl, rfl, rfl, rfl⟩
  first | rw [e_6] at c_3 ⊢ | rw [e_6] at c_3
  refine z_cS (n := 9) (st := []) (C_X1_there htr c_3) dX1_winter_6 rfl (lw_S q1367 q1368 q105 q1369) hcee_X1_there rfl (by decide) rfl (Nat.le_of_ble_eq_true rfl) (Nat.le_refl _) (Nat.le_refl _) ?_
  refine z_iload_n (n := 10) dX1_winter_9 rfl 2 rfl rfl ?_
  refine z_iconst (n := 11) (v := 0) dX1_winter_10 rfl (by decide) ?_
  refine z_bipush (n := 13) (v := 50) dX1_winter_11 rfl (by decide) ?_
  obtain ⟨x_10, c_9, hF⟩ := zb1_some hF
  refine z_cS (n := 16) (st := []) (C_X1_within htr c_9) dX1_winter_13 rfl (lw_S q786 q787 q105 q788) hcee_X1_within rfl (by decide) rfl (Nat.le_of_ble_eq_true rfl) (Nat.le_refl _) (Nat.le_refl _) ?_
  obtain ⟨s_12, I_13, c_11, hF⟩ := zb2_some hF
  rcases zsum_some hF with ⟨x_15, e_14, hF⟩ | ⟨w_16, e_14, hF⟩
  rotate_left
  · first | rw [e_14] at c_11 ⊢ | rw [e_14] at c_11
    have hF := Option.some.inj hF; subst hF
    refine z_cSx (n := 19) (mc2 := 0) (ms2 := 0) (st := []) (C_X1_right htr c_11) dX1_winter_16 rfl (lw_S q954 q955 q105 q956) hcee_X1_right rfl (by decide) rfl (Nat.le_of_ble_eq_true rfl) (Nat.le_refl _) (Nat.le_refl _) ?_
    exact z_out rfl ⟨rfl, rfl, rfl, rfl, rfl⟩
  first | rw [e_14] at c_11 ⊢ | rw [e_14] at c_11
  refine z_cS (n := 19) (st := []) (C_X1_right htr c_11) dX1_winter_16 rfl (lw_S q954 q955 q105 q956) hcee_X1_right rfl (by decide) rfl (Nat.le_of_ble_eq_true rfl) (Nat.le_refl _) (Nat.le_refl _) ?_
  refine z_aload_n (n := 20) dX1_winter_19 rfl 0 rfl rfl ?_
  obtain ⟨n_17, hk_18, hF⟩ := zka_some hF
  obtain ⟨hb_19, hF⟩ := zg_some hF
  obtain ⟨o_20, hr_21, hF⟩ := zb1_some hF
  refine z_getRS (n := 23) dX1_winter_20 rfl zok0 fX1_34_0 rfl hk_18 (Or.inl (zbig hb_19)) hr_21 ?_
  refine z_aload_n (n := 24) dX1_winter_23 rfl 0 rfl rfl ?_
  obtain ⟨o_22, hr_23, hF⟩ := zb1_some hF
  refine z_getRS (n := 27) dX1_winter_24 rfl zok0 fX1_30_0 rfl hk_18 (Or.inl (zbig hb_19)) hr_23 ?_
  obtain ⟨n_24, hk_25, hF⟩ := zka_some hF
  obtain ⟨I_27, c_26, hF⟩ := zb1_some hF
  refine z_cV (n := 30) (st := []) (C_X6_like htr c_26) dX1_winter_27 rfl (lw_V q918 q821 q822 q130 q823) hcee_X6_like rfl (by decide) hk_25 rfl rfl rfl (Nat.le_of_ble_eq_true rfl) (Nat.le_refl _) (Nat.le_refl _) ?_
  refine z_aload_n (n := 31) dX1_winter_30 rfl 0 rfl rfl ?_
  refine z_iload_n (n := 32) dX1_winter_31 rfl 1 rfl rfl ?_
  obtain ⟨I_28, e_29, hF⟩ := zlet_ob hF
  refine z_putIE (n := 35) dX1_winter_32 rfl zok0 fX1_316_0 (Or.inl ⟨_, rfl, rfl⟩) rfl ⟨rfl, rfl⟩ hk_18 (zbig hb_19) e_29 ?_
  refine z_iconst (n := 36) (v := 0) dX1_winter_35 rfl (by decide) ?_
  refine z_istoreE (n := 38) (lv' := [(4, .int 0), (0, .ref o0), (1, .int a0), (2, .int a1), (3, .int a2)]) dX1_winter_36 rfl rfl (by decide) rfl ?_
  refine z_sub [1, 3, 4, 0] rfl ?_
  obtain ⟨t_106, e_105, hF⟩ := zb1_some hF
  obtain ⟨I_53, rfl⟩ : ∃ z, z = t_106 := ⟨_, rfl⟩
  have H_107 : zW l G MX1_winter 1005 24071 (zxc r.1) (zxs r.1) 72 [(0, .ref o0), (3, .int a2)] [] K F I_53 L (zQe (zoi r.1) K F r.2 L) := by
    refine z_iconst (n := 73) (v := 0) dX1_winter_72 rfl (by decide) ?_
    refine z_istoreE (n := 75) (lv' := [(4, .int 0), (0, .ref o0), (3, .int a2)]) dX1_winter_73 rfl rfl (by decide) rfl ?_
    refine z_iconst (n := 76) (v := 0) dX1_winter_75 rfl (by decide) ?_
    refine z_istoreE (n := 78) (lv' := [(5, .int 0), (4, .int 0), (0, .ref o0), (3, .int a2)]) dX1_winter_76 rfl rfl (by decide) rfl ?_
    refine z_sub [2, 3, 1, 0] rfl ?_
    obtain ⟨t_103, e_102, hF⟩ := zb1_some hF
    obtain ⟨v4_77, rfl⟩ : ∃ z, z = t_103 := ⟨_, rfl⟩
    have H_104 : zW l G MX1_winter 1005 24071 (zxc r.1) (zxs r.1) 109 [(0, .ref o0), (3, .int a2), (4, .int v4_77)] [] K F I_53 L (zQe (zoi r.1) K F r.2 L) := by
      refine z_iload_n (n := 110) dX1_winter_109 rfl 1 rfl rfl ?_
      refine z_if_ne (n := 113) (t := 127) dX1_winter_110 rfl (by decide) (fun hc => ?_) (fun hc => ?_)
      · replace hF := (if_pos hc).symm.trans hF
        refine z_iload_n (n := 128) dX1_winter_127 rfl 1 rfl rfl ?_
        refine z_iconst (n := 129) (v := 1) dX1_winter_128 rfl (by decide) ?_
        refine z_icmp_ne (n := 132) (t := 158) dX1_winter_129 rfl (by decide) (fun hc => ?_) (fun hc => ?_)
        · replace hF := (if_pos hc).symm.trans hF
          refine z_iload (n := 160) dX1_winter_158 rfl 2 rfl ?_
          have hF := Option.some.inj hF; subst hF
          exact z_iret dX1_winter_160 rfl rfl ⟨rfl, rfl, rfl, rfl, rfl⟩
        · replace hF := (if_neg hc).symm.trans hF
          refine z_aload_n (n := 133) dX1_winter_132 rfl 0 rfl rfl ?_
          obtain ⟨o_78, hr_79, hF⟩ := zb1_some hF
          refine z_getRS (n := 136) dX1_winter_133 rfl zok0 fX1_34_0 rfl hk_18 (Or.inl (zbig hb_19)) hr_79 ?_
          refine z_aload_n (n := 137) dX1_winter_136 rfl 0 rfl rfl ?_
          obtain ⟨x_81, c_80, hF⟩ := zb1_some hF
          refine z_cV (n := 140) (st := [.ref o_78]) (C_X1_bands htr c_80) dX1_winter_137 rfl (lw_V q1385 q1387 qs30 q105 q1388) hcee_X1_bands rfl (by decide) hk_18 rfl rfl rfl (Nat.le_of_ble_eq_true rfl) (Nat.le_refl _) (Nat.le_refl _) ?_
          obtain ⟨n_82, hk_83, hF⟩ := zka_some hF
          obtain ⟨x_85, c_84, hF⟩ := zb1_some hF
          refine z_cV (n := 143) (st := []) (C_X6_allDead htr c_84) dX1_winter_140 rfl (lw_V q1494 q1495 q1496 q130 q1497) hcee_X6_allDead rfl (by decide) hk_83 rfl rfl rfl (Nat.le_of_ble_eq_true rfl) (Nat.le_refl _) (Nat.le_refl _) ?_
          refine z_aload_n (n := 144) dX1_winter_143 rfl 0 rfl rfl ?_
          obtain ⟨o_86, hr_87, hF⟩ := zb1_some hF
          refine z_getRS (n := 147) dX1_winter_144 rfl zok0 fX1_30_0 rfl hk_18 (Or.inl (zbig hb_19)) hr_87 ?_
          refine z_aload_n (n := 148) dX1_winter_147 rfl 0 rfl rfl ?_
          obtain ⟨x_89, c_88, hF⟩ := zb1_some hF
          refine z_cV (n := 151) (st := [.ref o_86, .int x_85]) (C_X1_bands htr c_88) dX1_winter_148 rfl (lw_V q1385 q1387 qs30 q105 q1388) hcee_X1_bands rfl (by decide) hk_18 rfl rfl rfl (Nat.le_of_ble_eq_true rfl) (Nat.le_refl _) (Nat.le_refl _) ?_
          obtain ⟨n_90, hk_91, hF⟩ := zka_some hF
          obtain ⟨x_93, c_92, hF⟩ := zb1_some hF
          refine z_cV (n := 154) (st := [.int x_85]) (C_X6_allDead htr c_92) dX1_winter_151 rfl (lw_V q1494 q1495 q1496 q130 q1497) hcee_X6_allDead rfl (by decide) hk_91 rfl rfl rfl (Nat.le_of_ble_eq_true rfl) (Nat.le_refl _) (Nat.le_refl _) ?_
          refine z_isub (n := 155) dX1_winter_154 rfl ?_
          refine z_goto (t := 160) dX1_winter_155 (by decide) ?_
          have hF := Option.some.inj hF; subst hF
          exact z_iret dX1_winter_160 rfl rfl ⟨rfl, rfl, rfl, rfl, rfl⟩
      · replace hF := (if_neg hc).symm.trans hF
        refine z_aload_n (n := 114) dX1_winter_113 rfl 0 rfl rfl ?_
        obtain ⟨o_94, hr_95, hF⟩ := zb1_some hF
        refine z_getRS (n := 117) dX1_winter_114 rfl zok0 fX1_34_0 rfl hk_18 (Or.inl (zbig hb_19)) hr_95 ?_
        refine z_aload_n (n := 118) dX1_winter_117 rfl 0 rfl rfl ?_
        obtain ⟨x_97, c_96, hF⟩ := zb1_some hF
        refine z_cV (n := 121) (st := [.ref o_94]) (C_X1_forests htr c_96) dX1_winter_118 rfl (lw_V q923 q925 qs12 q105 q926) hcee_X1_forests rfl (by decide) hk_18 rfl rfl rfl (Nat.le_of_ble_eq_true rfl) (Nat.le_refl _) (Nat.le_refl _) ?_
        obtain ⟨n_98, hk_99, hF⟩ := zka_some hF
        obtain ⟨x_101, c_100, hF⟩ := zb1_some hF
        refine z_cV (n := 124) (st := []) (C_X6_all htr c_100) dX1_winter_121 rfl (lw_V q1389 q1390 q1391 q130 q1392) hcee_X6_all rfl (by decide) hk_99 rfl rfl rfl (Nat.le_of_ble_eq_true rfl) (Nat.le_refl _) (Nat.le_refl _) ?_
        refine z_goto (t := 160) dX1_winter_124 (by decide) ?_
        have hF := Option.some.inj hF; subst hF
        exact z_iret dX1_winter_160 rfl rfl ⟨rfl, rfl, rfl, rfl, rfl⟩
    refine zloop_ind (P := fun s : Int32 × Int32 => zW l G MX1_winter 1005 24071 (zxc r.1) (zxs r.1) 78 [(0, .ref o0), (3, .int a2), (4, .int s.1), (5, .int s.2)] [] K F I_53 L (zQe (zoi r.1) K F r.2 L)) (fun s r hb kl kr => ?_) e_102
    exact W_X1_winter_L78 (o0 := o0) (a0 := a0) (a1 := a1) (a2 := a2) htr hb (fun z0 z1 e => kl _ e) (fun y0 e => by cases kr _ e; exact H_104)
  refine zloop_ind (P := fun s : Int32 × zId => zW l G MX1_winter 1005 24071 (zxc r.1) (zxs r.1) 38 [(0, .ref o0), (2, .int a1), (3, .int a2), (4, .int s.1)] [] K F s.2 L (zQe (zoi r.1) K F r.2 L)) (fun s r hb kl kr => ?_) e_105
  exact W_X1_winter_L38 (o0 := o0) (a0 := a0) (a1 := a1) (a2 := a2) htr hb (fun z0 z1 e => kl _ e) (fun y0 e => by cases kr _ e; exact H_107)
abbrev MX1_years : zM := (RX1, cX1_years, 3, (some .int), "years", [])
noncomputable def F_X1_years_L41 (o0 : Nat) (a0 : Int32) (v2_14 : Int32) (h_15 : zSt) : Option ((Nat × Nat) × ((Int32 × zSt) ⊕ (zSt))) := if a0 ≤ v2_14 then some ((0, 0), .inr (h_15)) else zka (hK h_15) o0 0 (fun n_16 => zg (decide (600 ≤ o0)) (zb1 ((jF h_15) o0 3) (fun o_19 => zb1 ((jF h_15) o0 0) (fun o_21 => zka (hK h_15) o_19 5 (fun n_23 => zb1 (F_X6_goes (hK h_15) (jF h_15) o_19 o_21 (hI h_15)) (fun I_26 => zlet (zsFI h_15 (jF h_15) I_26) (fun h_27 => zlet (v2_14 + 1) (fun v2_29 => some ((0, 0), .inl (v2_29, h_27))))))))))
noncomputable def F_X1_years (o0 : Nat) (a0 : Int32) (h : zSt) : Option ((Nat × Nat) × (Int32 × zSt)) := zb1 (F_X1_within (hK h) (jF h) a0 1 30 (hI h)) (fun x_2 => zlet (fun (w_3 : Int32) => zka (hK h) o0 0 (fun n_7 => zc1 (F_X1_does o0 w_3 h) (fun c_12 => zn2 (fun x_10 h_11 => zpay c_12 (if ¬ x_10 = 0 then zc1 (zloopC (fun s : Int32 × zSt => F_X1_years_L41 o0 a0 s.1 s.2) (0, h_11)) (fun c_41 t_42 => zpay c_41 ((fun h_31 => zka (hK h_31) o0 0 (fun n_32 => zg (decide (600 ≤ o0)) (zb1 ((jF h_31) o0 3) (fun o_35 => zka (hK h_31) o_35 5 (fun n_37 => zg (decide (600 ≤ o_35)) (some ((0, 0), ((hI h_31) o_35 9, h_31)))))))) t_42)) else some ((0, 0), ((-1), h_11))))))) (fun k_4 => if x_2 = 0 then k_4 0 else zka (hK h) o0 0 (fun n_44 => zg (decide (600 ≤ o0)) (zb1 ((jF h) o0 3) (fun o_47 => zka (hK h) o_47 5 (fun n_49 => zg (decide (600 ≤ o_47)) (if 999 < (((hI h) o_47 9) + a0) then k_4 0 else k_4 1)))))))
set_option maxHeartbeats 1000000 in
theorem W_X1_years_L41 {l : Launch} {G : zGt} (htr : l.stackTraces = false) {Q : zQt} {mE wE : Nat} {cc : Nat × Nat} {o0 : Nat} {a0 : Int32} {v2_14 : Int32} {h_15 : zSt} {r : (Int32 × zSt) ⊕ (zSt)} (hF : F_X1_years_L41 o0 a0 v2_14 h_15 = some (cc, r)) (kl : ∀ (z0 : Int32) (z1 : zSt), r = .inl (z0, z1) → zW l G MX1_years 1005 24071 mE wE 41 [(0, .ref o0), (1, .int a0), (2, .int z0)] [] (hK z1) (jF z1) (hI z1) (hL z1) Q) (kx : ∀ (y0 : zSt), r = .inr y0 → zW l G MX1_years 1005 24071 mE wE 63 [(0, .ref o0)] [] (hK y0) (jF y0) (hI y0) (hL y0) Q)  : zW l G MX1_years 1005 24071 (cc.1 + mE) (cc.2 + wE) 41 [(0, .ref o0), (1, .int a0), (2, .int v2_14)] [] (hK h_15) (jF h_15) (hI h_15) (hL h_15) Q := by
  unfold F_X1_years_L41 at hF
  refine z_iload_n (n := 42) dX1_years_41 rfl 2 rfl rfl ?_
  refine z_iload_n (n := 43) dX1_years_42 rfl 1 rfl rfl ?_
  refine z_icmp_ge (n := 46) (t := 63) dX1_years_43 rfl (by decide) (fun hc => ?_) (fun hc => ?_)
  · replace hF := (if_pos hc).symm.trans hF
    refine z_sub [0] rfl ?_
    obtain ⟨rfl, rfl⟩ := zpair hF
    refine z_eq (Nat.zero_add _) (Nat.zero_add _) ?_
    exact kx h_15 rfl
  · replace hF := (if_neg hc).symm.trans hF
    refine z_aload_n (n := 47) dX1_years_46 rfl 0 rfl rfl ?_
    obtain ⟨n_16, hk_17, hF⟩ := zka_some hF
    obtain ⟨hb_18, hF⟩ := zg_some hF
    obtain ⟨o_19, hr_20, hF⟩ := zb1_some hF
    refine z_getRS (n := 50) dX1_years_47 rfl zok0 fX1_30_0 rfl hk_17 (Or.inl (zbig hb_18)) hr_20 ?_
    refine z_aload_n (n := 51) dX1_years_50 rfl 0 rfl rfl ?_
    obtain ⟨o_21, hr_22, hF⟩ := zb1_some hF
    refine z_getRS (n := 54) dX1_years_51 rfl zok0 fX1_10_0 rfl hk_17 (Or.inl (zbig hb_18)) hr_22 ?_
    obtain ⟨n_23, hk_24, hF⟩ := zka_some hF
    obtain ⟨I_26, c_25, hF⟩ := zb1_some hF
    refine z_cV (n := 57) (mc2 := (cc.1 + mE)) (ms2 := (cc.2 + wE)) (st := []) (C_X6_goes htr c_25) dX1_years_54 rfl (lw_V q829 q830 q831 q130 q832) hcee_X6_goes rfl (by decide) hk_24 rfl rfl rfl (Nat.le_of_ble_eq_true rfl) (Nat.le_refl _) (Nat.le_refl _) ?_
    obtain ⟨h_27, e_28, hF⟩ := zlet_ob hF
    refine z_toFI e_28 ?_
    obtain ⟨v2_29, e_30, hF⟩ := zlet_ob hF
    refine z_iincE (n := 60) (w := 1) (v := v2_29) (lv' := [(2, .int v2_29), (0, .ref o0), (1, .int a0)]) dX1_years_57 rfl 2 rfl (by decide) e_30 (by decide) rfl ?_
    refine z_goto (t := 41) dX1_years_60 (by decide) ?_
    refine z_sub [1, 2, 0] rfl ?_
    obtain ⟨rfl, rfl⟩ := zpair hF
    refine z_eq (Nat.zero_add _) (Nat.zero_add _) ?_
    exact kl v2_29 h_27 rfl
set_option maxHeartbeats 1000000 in
theorem C_X1_years {l : Launch} {G : zGt} (htr : l.stackTraces = false) {o0 : Nat} {a0 : Int32} {h : zSt} {cc : Nat × Nat} {r : Int32 × zSt} (hF : F_X1_years o0 a0 h = some (cc, r)) : zMet l G yX1_years (ws_ yX1_years cX1_years 3 (some .int)) 1005 24071 (cc.1 + 0) (cc.2 + 0) [.ref o0, .int a0] (hK h) (jF h) (hI h) (hL h) (zQe (.inl (some (.int r.1))) (hK r.2) (jF r.2) (hI r.2) (hL r.2)) := by
  refine zMet.of (by decide +kernel) htr (Nat.le_of_ble_eq_true rfl) ?_
  change zW l G MX1_years 1005 24071 (cc.1 + 0) (cc.2 + 0) 0 [(0, .ref o0), (1, .int a0)] [] (hK h) (jF h) (hI h) (hL h) (zQe (.inl (some (.int r.1))) (hK r.2) (jF r.2) (hI r.2) (hL r.2))
  unfold F_X1_years at hF
  refine z_aload_n (n := 1) dX1_years_0 rfl 0 rfl rfl ?_
  refine z_iload_n (n := 2) dX1_years_1 rfl 1 rfl rfl ?_
  refine z_iconst (n := 3) (v := 1) dX1_years_2 rfl (by decide) ?_
  refine z_bipush (n := 5) (v := 30) dX1_years_3 rfl (by decide) ?_
  obtain ⟨x_2, c_1, hF⟩ := zb1_some hF
  refine z_cS (n := 8) (mc2 := (cc.1 + 0)) (ms2 := (cc.2 + 0)) (st := [.ref o0]) (C_X1_within htr c_1) dX1_years_5 rfl (lw_S q786 q787 q105 q788) hcee_X1_within rfl (by decide) rfl (Nat.le_of_ble_eq_true rfl) (Nat.le_refl _) (Nat.le_refl _) ?_
  obtain ⟨k_4, e_5, hF⟩ := zlet_ob hF
  have H_6 : ∀ (w_3 : Int32) (cc : Nat × Nat), k_4 w_3 = some (cc, r) → zW l G MX1_years 1005 24071 (cc.1 + 0) (cc.2 + 0) 31 [(0, .ref o0), (1, .int a0)] [.int w_3, .ref o0] (hK h) (jF h) (hI h) (hL h) (zQe (.inl (some (.int r.1))) (hK r.2) (jF r.2) (hI r.2) (hL r.2)) := by
    intro w_3 cc hF
    subst e_5
    dsimp only at hF
    obtain ⟨n_7, hk_8, hF⟩ := zka_some hF
    obtain ⟨c_12, t_13, c_9, hF⟩ := zc1_some hF
    obtain ⟨x_10, h_11⟩ := t_13
    dsimp only [zn2] at hF
    obtain ⟨cc, hF, hcc⟩ := zpay_some hF
    refine z_payE hcc ?_
    refine z_cV (n := 34) (mc2 := (cc.1 + 0)) (ms2 := (cc.2 + 0)) (st := []) (C_X1_does htr c_9) dX1_years_31 rfl (lw_V q789 q791 qs5 q105 q792) hcee_X1_does rfl (by decide) hk_8 rfl rfl rfl (Nat.le_of_ble_eq_true rfl) (Nat.le_of_eq (Nat.add_comm _ _)) (Nat.le_of_eq (Nat.add_comm _ _)) ?_
    refine z_if_ne (n := 37) (t := 39) dX1_years_34 rfl (by decide) (fun hc => ?_) (fun hc => ?_)
    · replace hF := (if_pos hc).symm.trans hF
      refine z_iconst (n := 40) (v := 0) dX1_years_39 rfl (by decide) ?_
      refine z_istore_nE (n := 41) (lv' := [(2, .int 0), (0, .ref o0), (1, .int a0)]) dX1_years_40 rfl rfl rfl (by decide) rfl ?_
      refine z_sub [1, 2, 0] rfl ?_
      obtain ⟨c_41, t_42, e_40, hF⟩ := zc1_some hF
      obtain ⟨cc, hF, hcc⟩ := zpay_some hF
      obtain ⟨h_31, rfl⟩ : ∃ z, z = t_42 := ⟨_, rfl⟩
      have H_43 : zW l G MX1_years 1005 24071 (cc.1 + 0) (cc.2 + 0) 63 [(0, .ref o0)] [] (hK h_31) (jF h_31) (hI h_31) (hL h_31) (zQe (.inl (some (.int r.1))) (hK r.2) (jF r.2) (hI r.2) (hL r.2)) := by
        refine z_aload_n (n := 64) dX1_years_63 rfl 0 rfl rfl ?_
        obtain ⟨n_32, hk_33, hF⟩ := zka_some hF
        obtain ⟨hb_34, hF⟩ := zg_some hF
        obtain ⟨o_35, hr_36, hF⟩ := zb1_some hF
        refine z_getRS (n := 67) dX1_years_64 rfl zok0 fX1_30_0 rfl hk_33 (Or.inl (zbig hb_34)) hr_36 ?_
        obtain ⟨n_37, hk_38, hF⟩ := zka_some hF
        obtain ⟨hb_39, hF⟩ := zg_some hF
        refine z_getI (n := 70) dX1_years_67 rfl zok5 fX1_152_5 rfl hk_38 (Or.inl (zbig hb_39)) ?_
        obtain ⟨rfl, rfl⟩ := zpair hF
        exact z_iret dX1_years_70 rfl rfl ⟨rfl, rfl, rfl, rfl, rfl⟩
      refine z_payE hcc ?_
      refine zloopC_ind (P := fun (s : Int32 × zSt) m w => zW l G MX1_years 1005 24071 (m + (cc.1 + 0)) (w + (cc.2 + 0)) 41 [(0, .ref o0), (1, .int a0), (2, .int s.1)] [] (hK s.2) (jF s.2) (hI s.2) (hL s.2) (zQe (.inl (some (.int r.1))) (hK r.2) (jF r.2) (hI r.2) (hL r.2))) (fun s c r E9 W9 hb kl kr => ?_) e_40
      refine z_eq (Nat.add_assoc _ _ _) (Nat.add_assoc _ _ _) ?_
      exact W_X1_years_L41 (o0 := o0) (a0 := a0) htr hb (fun z0 z1 e => kl _ e) (fun y0 e => by obtain ⟨h1, rfl, rfl⟩ := kr _ e; cases h1; exact z_eq (Nat.zero_add _) (Nat.zero_add _) H_43)
    · replace hF := (if_neg hc).symm.trans hF
      refine z_iconst (n := 38) (v := (-1)) dX1_years_37 rfl (by decide) ?_
      obtain ⟨rfl, rfl⟩ := zpair hF
      exact z_iret dX1_years_38 rfl rfl ⟨rfl, rfl, rfl, rfl, rfl⟩
  clear e_5
  refine z_if_eq (n := 11) (t := 30) dX1_years_8 rfl (by decide) (fun hc => ?_) (fun hc => ?_)
  · replace hF := (if_pos hc).symm.trans hF
    refine z_iconst (n := 31) (v := 0) dX1_years_30 rfl (by decide) ?_
    exact H_6 0 _ hF
  · replace hF := (if_neg hc).symm.trans hF
    refine z_aload_n (n := 12) dX1_years_11 rfl 0 rfl rfl ?_
    obtain ⟨n_44, hk_45, hF⟩ := zka_some hF
    obtain ⟨hb_46, hF⟩ := zg_some hF
    obtain ⟨o_47, hr_48, hF⟩ := zb1_some hF
    refine z_getRS (n := 15) dX1_years_12 rfl zok0 fX1_30_0 rfl hk_45 (Or.inl (zbig hb_46)) hr_48 ?_
    obtain ⟨n_49, hk_50, hF⟩ := zka_some hF
    obtain ⟨hb_51, hF⟩ := zg_some hF
    refine z_getI (n := 18) dX1_years_15 rfl zok5 fX1_152_5 rfl hk_50 (Or.inl (zbig hb_51)) ?_
    refine z_iload_n (n := 19) dX1_years_18 rfl 1 rfl rfl ?_
    refine z_iadd (n := 20) dX1_years_19 rfl ?_
    refine z_sipush (n := 23) (v := 999) dX1_years_20 rfl (by decide) ?_
    refine z_icmp_gt (n := 26) (t := 30) dX1_years_23 rfl (by decide) (fun hc => ?_) (fun hc => ?_)
    · replace hF := (if_pos hc).symm.trans hF
      refine z_iconst (n := 31) (v := 0) dX1_years_30 rfl (by decide) ?_
      exact H_6 0 _ hF
    · replace hF := (if_neg hc).symm.trans hF
      refine z_iconst (n := 27) (v := 1) dX1_years_26 rfl (by decide) ?_
      refine z_goto (t := 31) dX1_years_27 (by decide) ?_
      exact H_6 1 _ hF
