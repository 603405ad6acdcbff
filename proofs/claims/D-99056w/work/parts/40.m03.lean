abbrev MX7_isBand : zM := (RX7, cX7_isBand, 2, (some .boolean), "isBand", [])
noncomputable def F_X7_isBand (a0 : Int32) (I : zId) : Option (Int32) := zb1 (F_X7_isIn a0.toInt64 0 (((I 1862 2) - 1).toInt64) I) (fun x_2 => zg (decide (x_2 = 0) || decide (x_2 = 1)) (some x_2))
set_option maxHeartbeats 1000000 in
theorem C_X7_isBand {l : Launch} {G : zGt} (htr : l.stackTraces = false) {K : zKd} {F : zFd} {L : zLd} {a0 : Int32} (hM : zMLay K F) {I : zId} {r : Int32} (hF : F_X7_isBand a0 I = some r) : zMet l G yX7_isBand (ws_ yX7_isBand cX7_isBand 2 (some .boolean)) 1 25 0 0 [.ref 1860, .int a0] K F I L (zQe (.inl (some (.int r))) K F I L) := by
  refine zMet.of (by decide +kernel) htr (Nat.le_of_ble_eq_true rfl) ?_
  change zW l G MX7_isBand 1 25 0 0 0 [(0, .ref 1860), (1, .int a0)] [] K F I L (zQe (.inl (some (.int r))) K F I L)
  unfold F_X7_isBand at hF
  refine z_iload_n (n := 1) dX7_isBand_0 rfl 1 rfl rfl ?_
  refine z_i2l (n := 2) dX7_isBand_1 rfl ?_
  refine z_lconst (n := 3) (v := 0) dX7_isBand_2 rfl (by decide) ?_
  refine z_aload_n (n := 4) dX7_isBand_3 rfl 0 rfl rfl ?_
  refine z_getRS (n := 7) dX7_isBand_4 rfl zok6 fX7_29 rfl hM.1 (Or.inl (by decide)) (mF_2 hM) ?_
  refine z_iconst (n := 8) (v := 2) dX7_isBand_7 rfl (by decide) ?_
  refine z_ialdK (n := 9) 2 (by decide) dX7_isBand_8 rfl (mK_2 hM) (zin_ok (i := 2) (n := 16) rfl) ?_
  refine z_iconst (n := 10) (v := 1) dX7_isBand_9 rfl (by decide) ?_
  refine z_isub (n := 11) dX7_isBand_10 rfl ?_
  refine z_i2l (n := 12) dX7_isBand_11 rfl ?_
  obtain ⟨x_2, c_1, hF⟩ := zb1_some hF
  refine z_cS (n := 15) (st := []) (C_X7_isIn htr c_1) dX7_isBand_12 rfl (lw_S q2030 q2031 q131 q2032) hcee_X7_isIn rfl (by decide) rfl (Nat.le_of_ble_eq_true rfl) (Nat.le_refl _) (Nat.le_refl _) ?_
  obtain ⟨h_3, hF⟩ := zg_some hF
  have hF := Option.some.inj hF; subst hF
  exact z_iret dX7_isBand_15 rfl (zbool_nar h_3) ⟨rfl, rfl, rfl, rfl, rfl⟩
abbrev MX7_due : zM := (RX7, cX7_due, 2, (some .int), "due", [])
noncomputable def F_X7_due (a0 : Int32) (I : zId) : Option (Int32) := zg (zin a0 6) (some ((I 1862 4) * (I 1879 a0.toNatClampNeg)))
set_option maxHeartbeats 1000000 in
theorem C_X7_due {l : Launch} {G : zGt} (htr : l.stackTraces = false) {K : zKd} {F : zFd} {L : zLd} {a0 : Int32} (hM : zMLay K F) {I : zId} {r : Int32} (hF : F_X7_due a0 I = some r) : zMet l G yX7_due (ws_ yX7_due cX7_due 2 (some .int)) 0 0 0 0 [.ref 1860, .int a0] K F I L (zQe (.inl (some (.int r))) K F I L) := by
  refine zMet.of (by decide +kernel) htr (Nat.le_of_ble_eq_true rfl) ?_
  change zW l G MX7_due 0 0 0 0 0 [(0, .ref 1860), (1, .int a0)] [] K F I L (zQe (.inl (some (.int r))) K F I L)
  unfold F_X7_due at hF
  refine z_aload_n (n := 1) dX7_due_0 rfl 0 rfl rfl ?_
  refine z_getRS (n := 4) dX7_due_1 rfl zok6 fX7_29 rfl hM.1 (Or.inl (by decide)) (mF_2 hM) ?_
  refine z_iconst (n := 5) (v := 4) dX7_due_4 rfl (by decide) ?_
  refine z_ialdK (n := 6) 4 (by decide) dX7_due_5 rfl (mK_2 hM) (zin_ok (i := 4) (n := 16) rfl) ?_
  refine z_aload_n (n := 7) dX7_due_6 rfl 0 rfl rfl ?_
  refine z_getRS (n := 10) dX7_due_7 rfl zok6 fX7_83 rfl hM.1 (Or.inl (by decide)) (mF_29 hM) ?_
  refine z_iload_n (n := 11) dX7_due_10 rfl 1 rfl rfl ?_
  obtain ⟨h_1, hF⟩ := zg_some hF
  refine z_ialdK (n := 12) a0.toNatClampNeg rfl dX7_due_11 rfl (mK_29 hM) (zin_ok h_1) ?_
  refine z_imul (n := 13) dX7_due_12 rfl ?_
  have hF := Option.some.inj hF; subst hF
  exact z_iret dX7_due_13 rfl rfl ⟨rfl, rfl, rfl, rfl, rfl⟩
abbrev MX7_bitsOf : zM := (RX7, cX7_bitsOf, 3, (some .int), "bitsOf", [])
noncomputable def F_X7_bitsOf_L4 (v1_1 : Int32) (v2_2 : Int32) : Option ((Int32 × Int32) ⊕ (Int32)) := if v2_2 = 0 then some (.inr (v1_1)) else zlet (v1_1 + 1) (fun v1_3 => zlet (v2_2 &&& (v2_2 - 1)) (fun v2_5 => some (.inl (v1_3, v2_5))))
noncomputable def F_X7_bitsOf (a0 : Int32) (I : zId) : Option (Int32) := zb1 (zloop (fun s : Int32 × Int32 => F_X7_bitsOf_L4 s.1 s.2) (0, a0)) (fun v1_7 => some v1_7)
set_option maxHeartbeats 1000000 in
theorem W_X7_bitsOf_L4 {l : Launch} {G : zGt} (htr : l.stackTraces = false) {K : zKd} {F : zFd} {L : zLd} {Q : zQt} {a0 : Int32} {I : zId} {v1_1 : Int32} {v2_2 : Int32} {r : (Int32 × Int32) ⊕ (Int32)} (hF : F_X7_bitsOf_L4 v1_1 v2_2 = some r) (kl : ∀ (z0 : Int32) (z1 : Int32), r = .inl (z0, z1) → zW l G MX7_bitsOf 0 0 0 0 4 [(1, .int z0), (2, .int z1)] [] K F I L Q) (kx : ∀ (y0 : Int32), r = .inr y0 → zW l G MX7_bitsOf 0 0 0 0 20 [(1, .int y0)] [] K F I L Q)  : zW l G MX7_bitsOf 0 0 0 0 4 [(1, .int v1_1), (2, .int v2_2)] [] K F I L Q := by
  unfold F_X7_bitsOf_L4 at hF
  refine z_iload_n (n := 5) dX7_bitsOf_4 rfl 1 rfl rfl ?_
  refine z_if_eq (n := 8) (t := 20) dX7_bitsOf_5 rfl (by decide) (fun hc => ?_) (fun hc => ?_)
  · replace hF := (if_pos hc).symm.trans hF
    refine z_sub [0] rfl ?_
    have hF := Option.some.inj hF; subst hF
    exact kx _ rfl
  · replace hF := (if_neg hc).symm.trans hF
    obtain ⟨v1_3, e_4, hF⟩ := zlet_ob hF
    refine z_iincE (n := 11) (w := 1) (v := v1_3) (lv' := [(1, .int v1_3), (2, .int v2_2)]) dX7_bitsOf_8 rfl 0 rfl (by decide) e_4 (by decide) rfl ?_
    refine z_iload_n (n := 12) dX7_bitsOf_11 rfl 1 rfl rfl ?_
    refine z_iload_n (n := 13) dX7_bitsOf_12 rfl 1 rfl rfl ?_
    refine z_iconst (n := 14) (v := 1) dX7_bitsOf_13 rfl (by decide) ?_
    refine z_isub (n := 15) dX7_bitsOf_14 rfl ?_
    refine z_iand (n := 16) dX7_bitsOf_15 rfl ?_
    obtain ⟨v2_5, e_6, hF⟩ := zlet_ob hF
    refine z_istore_nE (n := 17) (lv' := [(2, .int v2_5), (1, .int v1_3)]) dX7_bitsOf_16 rfl e_6 rfl (by decide) rfl ?_
    refine z_goto (t := 4) dX7_bitsOf_17 (by decide) ?_
    refine z_sub [1, 0] rfl ?_
    have hF := Option.some.inj hF; subst hF
    exact kl _ _ rfl
set_option maxHeartbeats 1000000 in
theorem C_X7_bitsOf {l : Launch} {G : zGt} (htr : l.stackTraces = false) {K : zKd} {F : zFd} {L : zLd} {a0 : Int32} {I : zId} {r : Int32} (hF : F_X7_bitsOf a0 I = some r) : zMet l G yX7_bitsOf (ws_ yX7_bitsOf cX7_bitsOf 3 (some .int)) 0 0 0 0 [.int a0] K F I L (zQe (.inl (some (.int r))) K F I L) := by
  refine zMet.of (by decide +kernel) htr (Nat.le_of_ble_eq_true rfl) ?_
  change zW l G MX7_bitsOf 0 0 0 0 0 [(0, .int a0)] [] K F I L (zQe (.inl (some (.int r))) K F I L)
  unfold F_X7_bitsOf at hF
  refine z_iconst (n := 1) (v := 0) dX7_bitsOf_0 rfl (by decide) ?_
  refine z_istore_nE (n := 2) (lv' := [(1, .int 0), (0, .int a0)]) dX7_bitsOf_1 rfl rfl rfl (by decide) rfl ?_
  refine z_iload_n (n := 3) dX7_bitsOf_2 rfl 1 rfl rfl ?_
  refine z_istore_nE (n := 4) (lv' := [(2, .int a0), (1, .int 0), (0, .int a0)]) dX7_bitsOf_3 rfl rfl rfl (by decide) rfl ?_
  refine z_sub [1, 0] rfl ?_
  obtain ⟨t_9, e_8, hF⟩ := zb1_some hF
  obtain ⟨v1_7, rfl⟩ : ∃ z, z = t_9 := ⟨_, rfl⟩
  have H_10 : zW l G MX7_bitsOf 0 0 0 0 20 [(1, .int v1_7)] [] K F I L (zQe (.inl (some (.int r))) K F I L) := by
    refine z_iload_n (n := 21) dX7_bitsOf_20 rfl 0 rfl rfl ?_
    have hF := Option.some.inj hF; subst hF
    exact z_iret dX7_bitsOf_21 rfl rfl ⟨rfl, rfl, rfl, rfl, rfl⟩
  refine zloop_ind (P := fun s : Int32 × Int32 => zW l G MX7_bitsOf 0 0 0 0 4 [(1, .int s.1), (2, .int s.2)] [] K F I L (zQe (.inl (some (.int r))) K F I L)) (fun s r hb kl kr => ?_) e_8
  exact W_X7_bitsOf_L4 (a0 := a0) htr hb (fun z0 z1 e => kl _ e) (fun y0 e => by cases kr _ e; exact H_10)
abbrev MX7_reckon : zM := (RX7, cX7_reckon, 3, (some .int), "reckon", [])
noncomputable def F_X7_reckon (a0 : Int32) (a1 : Int32) (a2 : Int32) (I : zId) : Option (Int32) := if a0 = (-26) then if a1 = 0 then some 0 else if a2 = 0 then some 0 else some 1 else if a0 = (-25) then if ¬ a1 = a2 then some 0 else some 1 else if a0 = (-24) then if a2 ≤ a1 then some 0 else some 1 else if a0 = (-23) then if ¬ a2 = 0 then zg (!(decide (a2 = 0))) (some (a1 / a2)) else some 0 else if a0 = (-22) then some (a1 * a2) else if a0 = (-21) then some (a1 - a2) else if a0 = (-20) then some (a1 + a2) else if ¬ a1 = 0 then some 1 else if a2 = 0 then some 0 else some 1
set_option maxHeartbeats 1000000 in
theorem C_X7_reckon {l : Launch} {G : zGt} (htr : l.stackTraces = false) {K : zKd} {F : zFd} {L : zLd} {a0 : Int32} {a1 : Int32} {a2 : Int32} {I : zId} {r : Int32} (hF : F_X7_reckon a0 a1 a2 I = some r) : zMet l G yX7_reckon (ws_ yX7_reckon cX7_reckon 3 (some .int)) 0 0 0 0 [.int a0, .int a1, .int a2] K F I L (zQe (.inl (some (.int r))) K F I L) := by
  refine zMet.of (by decide +kernel) htr (Nat.le_of_ble_eq_true rfl) ?_
  change zW l G MX7_reckon 0 0 0 0 0 [(0, .int a0), (1, .int a1), (2, .int a2)] [] K F I L (zQe (.inl (some (.int r))) K F I L)
  unfold F_X7_reckon at hF
  refine z_iload_n (n := 1) dX7_reckon_0 rfl 0 rfl rfl ?_
  by_cases ht1026 : a0 = (-26)
  · replace hF := (if_pos ht1026).symm.trans hF
    refine z_tableIn (off := 89) (t := 90) dX7_reckon_1 (by rw [ht1026]; decide) (by rw [ht1026]; decide) (by rw [ht1026]; rfl) (by decide) ?_
    refine z_iload_n (n := 91) dX7_reckon_90 rfl 1 rfl rfl ?_
    refine z_if_eq (n := 94) (t := 102) dX7_reckon_91 rfl (by decide) (fun hc => ?_) (fun hc => ?_)
    · replace hF := (if_pos hc).symm.trans hF
      refine z_iconst (n := 103) (v := 0) dX7_reckon_102 rfl (by decide) ?_
      have hF := Option.some.inj hF; subst hF
      exact z_iret dX7_reckon_103 rfl rfl ⟨rfl, rfl, rfl, rfl, rfl⟩
    · replace hF := (if_neg hc).symm.trans hF
      refine z_iload_n (n := 95) dX7_reckon_94 rfl 2 rfl rfl ?_
      refine z_if_eq (n := 98) (t := 102) dX7_reckon_95 rfl (by decide) (fun hc => ?_) (fun hc => ?_)
      · replace hF := (if_pos hc).symm.trans hF
        refine z_iconst (n := 103) (v := 0) dX7_reckon_102 rfl (by decide) ?_
        have hF := Option.some.inj hF; subst hF
        exact z_iret dX7_reckon_103 rfl rfl ⟨rfl, rfl, rfl, rfl, rfl⟩
      · replace hF := (if_neg hc).symm.trans hF
        refine z_iconst (n := 99) (v := 1) dX7_reckon_98 rfl (by decide) ?_
        refine z_goto (t := 103) dX7_reckon_99 (by decide) ?_
        have hF := Option.some.inj hF; subst hF
        exact z_iret dX7_reckon_103 rfl rfl ⟨rfl, rfl, rfl, rfl, rfl⟩
  replace hF := (if_neg ht1026).symm.trans hF
  by_cases ht1025 : a0 = (-25)
  · replace hF := (if_pos ht1025).symm.trans hF
    refine z_tableIn (off := 78) (t := 79) dX7_reckon_1 (by rw [ht1025]; decide) (by rw [ht1025]; decide) (by rw [ht1025]; rfl) (by decide) ?_
    refine z_iload_n (n := 80) dX7_reckon_79 rfl 1 rfl rfl ?_
    refine z_iload_n (n := 81) dX7_reckon_80 rfl 2 rfl rfl ?_
    refine z_icmp_ne (n := 84) (t := 88) dX7_reckon_81 rfl (by decide) (fun hc => ?_) (fun hc => ?_)
    · replace hF := (if_pos hc).symm.trans hF
      refine z_iconst (n := 89) (v := 0) dX7_reckon_88 rfl (by decide) ?_
      have hF := Option.some.inj hF; subst hF
      exact z_iret dX7_reckon_89 rfl rfl ⟨rfl, rfl, rfl, rfl, rfl⟩
    · replace hF := (if_neg hc).symm.trans hF
      refine z_iconst (n := 85) (v := 1) dX7_reckon_84 rfl (by decide) ?_
      refine z_goto (t := 89) dX7_reckon_85 (by decide) ?_
      have hF := Option.some.inj hF; subst hF
      exact z_iret dX7_reckon_89 rfl rfl ⟨rfl, rfl, rfl, rfl, rfl⟩
  replace hF := (if_neg ht1025).symm.trans hF
  by_cases ht1024 : a0 = (-24)
  · replace hF := (if_pos ht1024).symm.trans hF
    refine z_tableIn (off := 67) (t := 68) dX7_reckon_1 (by rw [ht1024]; decide) (by rw [ht1024]; decide) (by rw [ht1024]; rfl) (by decide) ?_
    refine z_iload_n (n := 69) dX7_reckon_68 rfl 1 rfl rfl ?_
    refine z_iload_n (n := 70) dX7_reckon_69 rfl 2 rfl rfl ?_
    refine z_icmp_ge (n := 73) (t := 77) dX7_reckon_70 rfl (by decide) (fun hc => ?_) (fun hc => ?_)
    · replace hF := (if_pos hc).symm.trans hF
      refine z_iconst (n := 78) (v := 0) dX7_reckon_77 rfl (by decide) ?_
      have hF := Option.some.inj hF; subst hF
      exact z_iret dX7_reckon_78 rfl rfl ⟨rfl, rfl, rfl, rfl, rfl⟩
    · replace hF := (if_neg hc).symm.trans hF
      refine z_iconst (n := 74) (v := 1) dX7_reckon_73 rfl (by decide) ?_
      refine z_goto (t := 78) dX7_reckon_74 (by decide) ?_
      have hF := Option.some.inj hF; subst hF
      exact z_iret dX7_reckon_78 rfl rfl ⟨rfl, rfl, rfl, rfl, rfl⟩
  replace hF := (if_neg ht1024).symm.trans hF
  by_cases ht1023 : a0 = (-23)
  · replace hF := (if_pos ht1023).symm.trans hF
    refine z_tableIn (off := 55) (t := 56) dX7_reckon_1 (by rw [ht1023]; decide) (by rw [ht1023]; decide) (by rw [ht1023]; rfl) (by decide) ?_
    refine z_iload_n (n := 57) dX7_reckon_56 rfl 2 rfl rfl ?_
    refine z_if_ne (n := 60) (t := 64) dX7_reckon_57 rfl (by decide) (fun hc => ?_) (fun hc => ?_)
    · replace hF := (if_pos hc).symm.trans hF
      refine z_iload_n (n := 65) dX7_reckon_64 rfl 1 rfl rfl ?_
      refine z_iload_n (n := 66) dX7_reckon_65 rfl 2 rfl rfl ?_
      obtain ⟨h_1, hF⟩ := zg_some hF
      refine z_idiv (n := 67) dX7_reckon_66 rfl (zneg0 (a := 0) h_1) ?_
      have hF := Option.some.inj hF; subst hF
      exact z_iret dX7_reckon_67 rfl rfl ⟨rfl, rfl, rfl, rfl, rfl⟩
    · replace hF := (if_neg hc).symm.trans hF
      refine z_iconst (n := 61) (v := 0) dX7_reckon_60 rfl (by decide) ?_
      refine z_goto (t := 67) dX7_reckon_61 (by decide) ?_
      have hF := Option.some.inj hF; subst hF
      exact z_iret dX7_reckon_67 rfl rfl ⟨rfl, rfl, rfl, rfl, rfl⟩
  replace hF := (if_neg ht1023).symm.trans hF
  by_cases ht1022 : a0 = (-22)
  · replace hF := (if_pos ht1022).symm.trans hF
    refine z_tableIn (off := 51) (t := 52) dX7_reckon_1 (by rw [ht1022]; decide) (by rw [ht1022]; decide) (by rw [ht1022]; rfl) (by decide) ?_
    refine z_iload_n (n := 53) dX7_reckon_52 rfl 1 rfl rfl ?_
    refine z_iload_n (n := 54) dX7_reckon_53 rfl 2 rfl rfl ?_
    refine z_imul (n := 55) dX7_reckon_54 rfl ?_
    have hF := Option.some.inj hF; subst hF
    exact z_iret dX7_reckon_55 rfl rfl ⟨rfl, rfl, rfl, rfl, rfl⟩
  replace hF := (if_neg ht1022).symm.trans hF
  by_cases ht1021 : a0 = (-21)
  · replace hF := (if_pos ht1021).symm.trans hF
    refine z_tableIn (off := 47) (t := 48) dX7_reckon_1 (by rw [ht1021]; decide) (by rw [ht1021]; decide) (by rw [ht1021]; rfl) (by decide) ?_
    refine z_iload_n (n := 49) dX7_reckon_48 rfl 1 rfl rfl ?_
    refine z_iload_n (n := 50) dX7_reckon_49 rfl 2 rfl rfl ?_
    refine z_isub (n := 51) dX7_reckon_50 rfl ?_
    have hF := Option.some.inj hF; subst hF
    exact z_iret dX7_reckon_51 rfl rfl ⟨rfl, rfl, rfl, rfl, rfl⟩
  replace hF := (if_neg ht1021).symm.trans hF
  by_cases ht1020 : a0 = (-20)
  · replace hF := (if_pos ht1020).symm.trans hF
    refine z_tableIn (off := 43) (t := 44) dX7_reckon_1 (by rw [ht1020]; decide) (by rw [ht1020]; decide) (by rw [ht1020]; rfl) (by decide) ?_
    refine z_iload_n (n := 45) dX7_reckon_44 rfl 1 rfl rfl ?_
    refine z_iload_n (n := 46) dX7_reckon_45 rfl 2 rfl rfl ?_
    refine z_iadd (n := 47) dX7_reckon_46 rfl ?_
    have hF := Option.some.inj hF; subst hF
    exact z_iret dX7_reckon_47 rfl rfl ⟨rfl, rfl, rfl, rfl, rfl⟩
  replace hF := (if_neg ht1020).symm.trans hF
  refine z_tableOut (t := 104) dX7_reckon_1 (by have := lv_neT (a := -26) ht1026 (by decide); have := lv_neT (a := -25) ht1025 (by decide); have := lv_neT (a := -24) ht1024 (by decide); have := lv_neT (a := -23) ht1023 (by decide); have := lv_neT (a := -22) ht1022 (by decide); have := lv_neT (a := -21) ht1021 (by decide); have := lv_neT (a := -20) ht1020 (by decide); omega) (by decide) ?_
  refine z_iload_n (n := 105) dX7_reckon_104 rfl 1 rfl rfl ?_
  refine z_if_ne (n := 108) (t := 112) dX7_reckon_105 rfl (by decide) (fun hc => ?_) (fun hc => ?_)
  · replace hF := (if_pos hc).symm.trans hF
    refine z_iconst (n := 113) (v := 1) dX7_reckon_112 rfl (by decide) ?_
    refine z_goto (t := 117) dX7_reckon_113 (by decide) ?_
    have hF := Option.some.inj hF; subst hF
    exact z_iret dX7_reckon_117 rfl rfl ⟨rfl, rfl, rfl, rfl, rfl⟩
  · replace hF := (if_neg hc).symm.trans hF
    refine z_iload_n (n := 109) dX7_reckon_108 rfl 2 rfl rfl ?_
    refine z_if_eq (n := 112) (t := 116) dX7_reckon_109 rfl (by decide) (fun hc => ?_) (fun hc => ?_)
    · replace hF := (if_pos hc).symm.trans hF
      refine z_iconst (n := 117) (v := 0) dX7_reckon_116 rfl (by decide) ?_
      have hF := Option.some.inj hF; subst hF
      exact z_iret dX7_reckon_117 rfl rfl ⟨rfl, rfl, rfl, rfl, rfl⟩
    · replace hF := (if_neg hc).symm.trans hF
      refine z_iconst (n := 113) (v := 1) dX7_reckon_112 rfl (by decide) ?_
      refine z_goto (t := 117) dX7_reckon_113 (by decide) ?_
      have hF := Option.some.inj hF; subst hF
      exact z_iret dX7_reckon_117 rfl rfl ⟨rfl, rfl, rfl, rfl, rfl⟩
theorem fX7_96 : zFld RX7 96 6 39 := ⟨_, rfl, by decide, _, Or.inl q1716, Or.inl rfl⟩
theorem fX7_99 : zFld RX7 99 6 40 := ⟨_, rfl, by decide, _, Or.inl q1717, Or.inl rfl⟩
theorem hcee_X7_reckon : zCee yX7_reckon RX7 3 := ⟨rfl, by decide +kernel, by decide +kernel, by decide +kernel⟩
abbrev MX7_valueNow : zM := (RX7, cX7_valueNow, 4, (some .int), "valueNow", [])
noncomputable def F_X7_valueNow_L4 (v1_1 : Int32) (v2_2 : Int32) (I_3 : zId) : Option ((Int32 × Int32 × zId) ⊕ (zId)) := if (I_3 1862 7) ≤ v2_2 then some (.inr (I_3)) else zg (zin v2_2 1400) (zlet (I_3 1872 v2_2.toNatClampNeg) (fun v3_5 => if v3_5 ≤ (-20) then if ¬ v3_5 = (-28) then zlet (v1_1 + (-1)) (fun v1_7 => zg (zin (v1_7 - 1) 64) (zg (zin v1_7 64) (zb1 (F_X7_reckon v3_5 (I_3 1885 ((v1_7 - 1).toNatClampNeg)) (I_3 1885 v1_7.toNatClampNeg) I_3) (fun x_12 => zg (zin (v1_7 - 1) 64) (zlet (zu I_3 1885 ((v1_7 - 1).toNatClampNeg) x_12) (fun I_14 => zlet (v2_2 + 1) (fun v2_16 => some (.inl (v1_7, v2_16, I_14))))))))) else zg (zin (v1_1 - 1) 64) (zlet (fun (w_19 : Int32) => zg (zin (v1_1 - 1) 64) (zlet (zu I_3 1885 ((v1_1 - 1).toNatClampNeg) w_19) (fun I_24 => zlet (v2_2 + 1) (fun v2_26 => some (.inl (v1_1, v2_26, I_24)))))) (fun k_20 => if (I_3 1885 ((v1_1 - 1).toNatClampNeg)) = 0 then k_20 1 else k_20 0)) else zlet (fun (w_28 : Int32) => zg (zin v1_1 64) (zlet (zu I_3 1885 v1_1.toNatClampNeg w_28) (fun I_33 => zlet (v1_1 + 1) (fun v1_35 => zlet (v2_2 + 1) (fun v2_37 => some (.inl (v1_35, v2_37, I_33))))))) (fun k_29 => if v3_5 < 0 then zg (zin (((-1) : Int32) - v3_5) 7) (k_29 (I_3 1884 ((((-1) : Int32) - v3_5).toNatClampNeg))) else k_29 v3_5)))
noncomputable def F_X7_valueNow (I : zId) : Option (Int32 × zId) := zb1 (zloop (fun s : Int32 × Int32 × zId => F_X7_valueNow_L4 s.1 s.2.1 s.2.2) (0, 0, I)) (fun I_40 => some (I_40 1885 0, I_40))
set_option maxHeartbeats 1000000 in
theorem W_X7_valueNow_L4 {l : Launch} {G : zGt} (htr : l.stackTraces = false) {K : zKd} {F : zFd} {L : zLd} {Q : zQt} {v1_1 : Int32} {v2_2 : Int32} {I_3 : zId} (hM : zMLay K F) {r : (Int32 × Int32 × zId) ⊕ (zId)} (hF : F_X7_valueNow_L4 v1_1 v2_2 I_3 = some r) (kl : ∀ (z0 : Int32) (z1 : Int32) (z2 : zId), r = .inl (z0, z1, z2) → zW l G MX7_valueNow 1 22 0 0 4 [(0, .ref 1860), (1, .int z0), (2, .int z1)] [] K F z2 L Q) (kx : ∀ (y0 : zId), r = .inr y0 → zW l G MX7_valueNow 1 22 0 0 124 [(0, .ref 1860)] [] K F y0 L Q)  : zW l G MX7_valueNow 1 22 0 0 4 [(0, .ref 1860), (1, .int v1_1), (2, .int v2_2)] [] K F I_3 L Q := by
  unfold F_X7_valueNow_L4 at hF
  refine z_iload_n (n := 5) dX7_valueNow_4 rfl 2 rfl rfl ?_
  refine z_aload_n (n := 6) dX7_valueNow_5 rfl 0 rfl rfl ?_
  refine z_getRS (n := 9) dX7_valueNow_6 rfl zok6 fX7_29 rfl hM.1 (Or.inl (by decide)) (mF_2 hM) ?_
  refine z_bipush (n := 11) (v := 7) dX7_valueNow_9 rfl (by decide) ?_
  refine z_ialdK (n := 12) 7 (by decide) dX7_valueNow_11 rfl (mK_2 hM) (zin_ok (i := 7) (n := 16) rfl) ?_
  refine z_icmp_ge (n := 15) (t := 124) dX7_valueNow_12 rfl (by decide) (fun hc => ?_) (fun hc => ?_)
  · replace hF := (if_pos hc).symm.trans hF
    refine z_sub [0] rfl ?_
    have hF := Option.some.inj hF; subst hF
    exact kx _ rfl
  · replace hF := (if_neg hc).symm.trans hF
    refine z_aload_n (n := 16) dX7_valueNow_15 rfl 0 rfl rfl ?_
    refine z_getRS (n := 19) dX7_valueNow_16 rfl zok6 fX7_59 rfl hM.1 (Or.inl (by decide)) (mF_12 hM) ?_
    refine z_iload_n (n := 20) dX7_valueNow_19 rfl 2 rfl rfl ?_
    obtain ⟨h_4, hF⟩ := zg_some hF
    refine z_ialdK (n := 21) v2_2.toNatClampNeg rfl dX7_valueNow_20 rfl (mK_12 hM) (zin_ok h_4) ?_
    obtain ⟨v3_5, e_6, hF⟩ := zlet_ob hF
    refine z_istore_nE (n := 22) (lv' := [(3, .int v3_5), (0, .ref 1860), (1, .int v1_1), (2, .int v2_2)]) dX7_valueNow_21 rfl e_6 rfl (by decide) rfl ?_
    refine z_iload_n (n := 23) dX7_valueNow_22 rfl 0 rfl rfl ?_
    refine z_bipush (n := 25) (v := (-20)) dX7_valueNow_23 rfl (by decide) ?_
    refine z_icmp_le (n := 28) (t := 56) dX7_valueNow_25 rfl (by decide) (fun hc => ?_) (fun hc => ?_)
    · replace hF := (if_pos hc).symm.trans hF
      refine z_iload_n (n := 57) dX7_valueNow_56 rfl 0 rfl rfl ?_
      refine z_bipush (n := 59) (v := (-28)) dX7_valueNow_57 rfl (by decide) ?_
      refine z_icmp_ne (n := 62) (t := 89) dX7_valueNow_59 rfl (by decide) (fun hc => ?_) (fun hc => ?_)
      · replace hF := (if_pos hc).symm.trans hF
        obtain ⟨v1_7, e_8, hF⟩ := zlet_ob hF
        refine z_iincE (n := 92) (w := (-1)) (v := v1_7) (lv' := [(1, .int v1_7), (3, .int v3_5), (0, .ref 1860), (2, .int v2_2)]) dX7_valueNow_89 rfl 2 rfl (by decide) e_8 (by decide) rfl ?_
        refine z_aload_n (n := 93) dX7_valueNow_92 rfl 2 rfl rfl ?_
        refine z_getRS (n := 96) dX7_valueNow_93 rfl zok6 fX7_99 rfl hM.1 (Or.inl (by decide)) (mF_40 hM) ?_
        refine z_iload_n (n := 97) dX7_valueNow_96 rfl 0 rfl rfl ?_
        refine z_iconst (n := 98) (v := 1) dX7_valueNow_97 rfl (by decide) ?_
        refine z_isub (n := 99) dX7_valueNow_98 rfl ?_
        refine z_iload_n (n := 100) dX7_valueNow_99 rfl 1 rfl rfl ?_
        refine z_aload_n (n := 101) dX7_valueNow_100 rfl 2 rfl rfl ?_
        refine z_getRS (n := 104) dX7_valueNow_101 rfl zok6 fX7_99 rfl hM.1 (Or.inl (by decide)) (mF_40 hM) ?_
        refine z_iload_n (n := 105) dX7_valueNow_104 rfl 0 rfl rfl ?_
        refine z_iconst (n := 106) (v := 1) dX7_valueNow_105 rfl (by decide) ?_
        refine z_isub (n := 107) dX7_valueNow_106 rfl ?_
        obtain ⟨h_9, hF⟩ := zg_some hF
        refine z_ialdK (n := 108) ((v1_7 - 1).toNatClampNeg) rfl dX7_valueNow_107 rfl (mK_40 hM) (zin_ok h_9) ?_
        refine z_aload_n (n := 109) dX7_valueNow_108 rfl 2 rfl rfl ?_
        refine z_getRS (n := 112) dX7_valueNow_109 rfl zok6 fX7_99 rfl hM.1 (Or.inl (by decide)) (mF_40 hM) ?_
        refine z_iload_n (n := 113) dX7_valueNow_112 rfl 0 rfl rfl ?_
        obtain ⟨h_10, hF⟩ := zg_some hF
        refine z_ialdK (n := 114) v1_7.toNatClampNeg rfl dX7_valueNow_113 rfl (mK_40 hM) (zin_ok h_10) ?_
        obtain ⟨x_12, c_11, hF⟩ := zb1_some hF
        refine z_cS (n := 117) (st := [.int (v1_7 - 1), .ref 1885]) (C_X7_reckon htr c_11) dX7_valueNow_114 rfl (lw_S q2064 q2065 q131 q2066) hcee_X7_reckon rfl (by decide) rfl (Nat.le_of_ble_eq_true rfl) (Nat.le_refl _) (Nat.le_refl _) ?_
        obtain ⟨h_13, hF⟩ := zg_some hF
        obtain ⟨I_14, e_15, hF⟩ := zlet_ob hF
        refine z_iastK (n := 118) ((v1_7 - 1).toNatClampNeg) rfl dX7_valueNow_117 rfl (mK_40 hM) (by decide) (zin_ok h_13) e_15 ?_
        obtain ⟨v2_16, e_17, hF⟩ := zlet_ob hF
        refine z_iincE (n := 121) (w := 1) (v := v2_16) (lv' := [(2, .int v2_16), (1, .int v1_7), (3, .int v3_5), (0, .ref 1860)]) dX7_valueNow_118 rfl 3 rfl (by decide) e_17 (by decide) rfl ?_
        refine z_goto (t := 4) dX7_valueNow_121 (by decide) ?_
        refine z_sub [3, 1, 0] rfl ?_
        have hF := Option.some.inj hF; subst hF
        exact kl _ _ _ rfl
      · replace hF := (if_neg hc).symm.trans hF
        refine z_aload_n (n := 63) dX7_valueNow_62 rfl 1 rfl rfl ?_
        refine z_getRS (n := 66) dX7_valueNow_63 rfl zok6 fX7_99 rfl hM.1 (Or.inl (by decide)) (mF_40 hM) ?_
        refine z_iload_n (n := 67) dX7_valueNow_66 rfl 2 rfl rfl ?_
        refine z_iconst (n := 68) (v := 1) dX7_valueNow_67 rfl (by decide) ?_
        refine z_isub (n := 69) dX7_valueNow_68 rfl ?_
        refine z_aload_n (n := 70) dX7_valueNow_69 rfl 1 rfl rfl ?_
        refine z_getRS (n := 73) dX7_valueNow_70 rfl zok6 fX7_99 rfl hM.1 (Or.inl (by decide)) (mF_40 hM) ?_
        refine z_iload_n (n := 74) dX7_valueNow_73 rfl 2 rfl rfl ?_
        refine z_iconst (n := 75) (v := 1) dX7_valueNow_74 rfl (by decide) ?_
        refine z_isub (n := 76) dX7_valueNow_75 rfl ?_
        obtain ⟨h_18, hF⟩ := zg_some hF
        refine z_ialdK (n := 77) ((v1_1 - 1).toNatClampNeg) rfl dX7_valueNow_76 rfl (mK_40 hM) (zin_ok h_18) ?_
        obtain ⟨k_20, e_21, hF⟩ := zlet_ob hF
        have H_22 : ∀ (w_19 : Int32), k_20 w_19 = some r → zW l G MX7_valueNow 1 22 0 0 85 [(0, .ref 1860), (1, .int v1_1), (2, .int v2_2)] [.int w_19, .int (v1_1 - 1), .ref 1885] K F I_3 L Q := by
          intro w_19 hF
          subst e_21
          dsimp only at hF
          obtain ⟨h_23, hF⟩ := zg_some hF
          obtain ⟨I_24, e_25, hF⟩ := zlet_ob hF
          refine z_iastK (n := 86) ((v1_1 - 1).toNatClampNeg) rfl dX7_valueNow_85 rfl (mK_40 hM) (by decide) (zin_ok h_23) e_25 ?_
          refine z_goto (t := 118) dX7_valueNow_86 (by decide) ?_
          obtain ⟨v2_26, e_27, hF⟩ := zlet_ob hF
          refine z_iincE (n := 121) (w := 1) (v := v2_26) (lv' := [(2, .int v2_26), (0, .ref 1860), (1, .int v1_1)]) dX7_valueNow_118 rfl 2 rfl (by decide) e_27 (by decide) rfl ?_
          refine z_goto (t := 4) dX7_valueNow_121 (by decide) ?_
          refine z_sub [1, 2, 0] rfl ?_
          have hF := Option.some.inj hF; subst hF
          exact kl _ _ _ rfl
        clear e_21
        refine z_if_eq (n := 80) (t := 84) dX7_valueNow_77 rfl (by decide) (fun hc => ?_) (fun hc => ?_)
        · replace hF := (if_pos hc).symm.trans hF
          refine z_iconst (n := 85) (v := 1) dX7_valueNow_84 rfl (by decide) ?_
          refine z_sub [1, 2, 3] rfl ?_
          exact H_22 _ hF
        · replace hF := (if_neg hc).symm.trans hF
          refine z_iconst (n := 81) (v := 0) dX7_valueNow_80 rfl (by decide) ?_
          refine z_goto (t := 85) dX7_valueNow_81 (by decide) ?_
          refine z_sub [1, 2, 3] rfl ?_
          exact H_22 _ hF
    · replace hF := (if_neg hc).symm.trans hF
      refine z_aload_n (n := 29) dX7_valueNow_28 rfl 1 rfl rfl ?_
      refine z_getRS (n := 32) dX7_valueNow_29 rfl zok6 fX7_99 rfl hM.1 (Or.inl (by decide)) (mF_40 hM) ?_
      refine z_iload_n (n := 33) dX7_valueNow_32 rfl 2 rfl rfl ?_
      refine z_iload_n (n := 34) dX7_valueNow_33 rfl 0 rfl rfl ?_
      obtain ⟨k_29, e_30, hF⟩ := zlet_ob hF
      have H_31 : ∀ (w_28 : Int32), k_29 w_28 = some r → zW l G MX7_valueNow 1 22 0 0 49 [(0, .ref 1860), (1, .int v1_1), (2, .int v2_2)] [.int w_28, .int v1_1, .ref 1885] K F I_3 L Q := by
        intro w_28 hF
        subst e_30
        dsimp only at hF
        obtain ⟨h_32, hF⟩ := zg_some hF
        obtain ⟨I_33, e_34, hF⟩ := zlet_ob hF
        refine z_iastK (n := 50) v1_1.toNatClampNeg rfl dX7_valueNow_49 rfl (mK_40 hM) (by decide) (zin_ok h_32) e_34 ?_
        obtain ⟨v1_35, e_36, hF⟩ := zlet_ob hF
        refine z_iincE (n := 53) (w := 1) (v := v1_35) (lv' := [(1, .int v1_35), (0, .ref 1860), (2, .int v2_2)]) dX7_valueNow_50 rfl 1 rfl (by decide) e_36 (by decide) rfl ?_
        refine z_goto (t := 118) dX7_valueNow_53 (by decide) ?_
        obtain ⟨v2_37, e_38, hF⟩ := zlet_ob hF
        refine z_iincE (n := 121) (w := 1) (v := v2_37) (lv' := [(2, .int v2_37), (1, .int v1_35), (0, .ref 1860)]) dX7_valueNow_118 rfl 2 rfl (by decide) e_38 (by decide) rfl ?_
        refine z_goto (t := 4) dX7_valueNow_121 (by decide) ?_
        refine z_sub [2, 1, 0] rfl ?_
        have hF := Option.some.inj hF; subst hF
        exact kl _ _ _ rfl
      clear e_30
      refine z_if_lt (n := 37) (t := 41) dX7_valueNow_34 rfl (by decide) (fun hc => ?_) (fun hc => ?_)
      · replace hF := (if_pos hc).symm.trans hF
        refine z_aload_n (n := 42) dX7_valueNow_41 rfl 1 rfl rfl ?_
        refine z_getRS (n := 45) dX7_valueNow_42 rfl zok6 fX7_96 rfl hM.1 (Or.inl (by decide)) (mF_39 hM) ?_
        refine z_iconst (n := 46) (v := (-1)) dX7_valueNow_45 rfl (by decide) ?_
        refine z_iload_n (n := 47) dX7_valueNow_46 rfl 0 rfl rfl ?_
        refine z_isub (n := 48) dX7_valueNow_47 rfl ?_
        obtain ⟨h_39, hF⟩ := zg_some hF
        refine z_ialdK (n := 49) ((((-1) : Int32) - v3_5).toNatClampNeg) rfl dX7_valueNow_48 rfl (mK_39 hM) (zin_ok h_39) ?_
        refine z_sub [1, 2, 3] rfl ?_
        exact H_31 _ hF
      · replace hF := (if_neg hc).symm.trans hF
        refine z_iload_n (n := 38) dX7_valueNow_37 rfl 0 rfl rfl ?_
        refine z_goto (t := 49) dX7_valueNow_38 (by decide) ?_
        refine z_sub [1, 2, 3] rfl ?_
        exact H_31 _ hF
set_option maxHeartbeats 1000000 in
theorem C_X7_valueNow {l : Launch} {G : zGt} (htr : l.stackTraces = false) {K : zKd} {F : zFd} {L : zLd} (hM : zMLay K F) {I : zId} {r : Int32 × zId} (hF : F_X7_valueNow I = some r) : zMet l G yX7_valueNow (ws_ yX7_valueNow cX7_valueNow 4 (some .int)) 1 22 0 0 [.ref 1860] K F I L (zQe (.inl (some (.int r.1))) K F r.2 L) := by
  refine zMet.of (by decide +kernel) htr (Nat.le_of_ble_eq_true rfl) ?_
  change zW l G MX7_valueNow 1 22 0 0 0 [(0, .ref 1860)] [] K F I L (zQe (.inl (some (.int r.1))) K F r.2 L)
  unfold F_X7_valueNow at hF
  refine z_iconst (n := 1) (v := 0) dX7_valueNow_0 rfl (by decide) ?_
  refine z_istore_nE (n := 2) (lv' := [(1, .int 0), (0, .ref 1860)]) dX7_valueNow_1 rfl rfl rfl (by decide) rfl ?_
  refine z_iconst (n := 3) (v := 0) dX7_valueNow_2 rfl (by decide) ?_
  refine z_istore_nE (n := 4) (lv' := [(2, .int 0), (1, .int 0), (0, .ref 1860)]) dX7_valueNow_3 rfl rfl rfl (by decide) rfl ?_
  refine z_sub [2, 1, 0] rfl ?_
  obtain ⟨t_42, e_41, hF⟩ := zb1_some hF
  obtain ⟨I_40, rfl⟩ : ∃ z, z = t_42 := ⟨_, rfl⟩
  have H_43 : zW l G MX7_valueNow 1 22 0 0 124 [(0, .ref 1860)] [] K F I_40 L (zQe (.inl (some (.int r.1))) K F r.2 L) := by
    refine z_aload_n (n := 125) dX7_valueNow_124 rfl 0 rfl rfl ?_
    refine z_getRS (n := 128) dX7_valueNow_125 rfl zok6 fX7_99 rfl hM.1 (Or.inl (by decide)) (mF_40 hM) ?_
    refine z_iconst (n := 129) (v := 0) dX7_valueNow_128 rfl (by decide) ?_
    refine z_ialdK (n := 130) 0 (by decide) dX7_valueNow_129 rfl (mK_40 hM) (zin_ok (i := 0) (n := 64) rfl) ?_
    have hF := Option.some.inj hF; subst hF
    exact z_iret dX7_valueNow_130 rfl rfl ⟨rfl, rfl, rfl, rfl, rfl⟩
  refine zloop_ind (P := fun s : Int32 × Int32 × zId => zW l G MX7_valueNow 1 22 0 0 4 [(0, .ref 1860), (1, .int s.1), (2, .int s.2.1)] [] K F s.2.2 L (zQe (.inl (some (.int r.1))) K F r.2 L)) (fun s r hb kl kr => ?_) e_41
  exact W_X7_valueNow_L4 htr hM hb (fun z0 z1 z2 e => kl _ e) (fun y0 e => by cases kr _ e; exact H_43)
theorem hcee_X7_bitsOf : zCee yX7_bitsOf RX7 1 := ⟨rfl, by decide +kernel, by decide +kernel, by decide +kernel⟩
theorem hcee_X7_due : zCee yX7_due RX7 1 := ⟨rfl, by decide +kernel, by decide +kernel, by decide +kernel⟩
theorem hcee_X7_valueNow : zCee yX7_valueNow RX7 0 := ⟨rfl, by decide +kernel, by decide +kernel, by decide +kernel⟩
abbrev MX7_takes : zM := (RX7, cX7_takes, 4, (some .int), "takes", [])
noncomputable def F_X7_takes (a0 : Int32) (I : zId) : Option (Int32 × zId) := zg (zin a0 6) (zlet (I 1878 a0.toNatClampNeg) (fun v2_2 => zg (zin v2_2 8) (if (I 1877 v2_2.toNatClampNeg) ≤ 0 then zg (zin a0 12) (zlet ((3 : Int32) * (I 1868 a0.toNatClampNeg)) (fun v3_6 => zlet (fun (v3_8 : Int32) (I_9 : zId) => zg (zin v2_2 8) (some (zmax 0 (zmin (I_9 1875 v2_2.toNatClampNeg) v3_8), I_9))) (fun k_10 => if (I 1862 7) ≤ 0 then k_10 v3_6 I else zg (zin a0 12) (zlet (zu I 1884 0 (I 1868 a0.toNatClampNeg)) (fun I_15 => zg (zin v2_2 8) (zlet (zu I_15 1884 1 (I_15 1875 v2_2.toNatClampNeg)) (fun I_18 => zg (zin a0 6) (zlet (zu I_18 1884 2 (I_18 1881 a0.toNatClampNeg)) (fun I_21 => zb1 (F_X7_due a0 I_21) (fun x_24 => zlet (zu I_21 1884 3 x_24) (fun I_25 => zlet (zu I_25 1884 4 (I_25 1860 34)) (fun I_27 => zg (zin a0 6) (zlet (zu I_27 1884 5 (I_27 1880 a0.toNatClampNeg)) (fun I_30 => zb1 (F_X7_bandsIn v2_2 I_30) (fun x_33 => zb1 (F_X7_bitsOf x_33 I_30) (fun x_35 => zlet (zu I_30 1884 6 (x_35 - 1)) (fun I_36 => zb2 (F_X7_valueNow I_36) (fun x_39 I_40 => k_10 x_39 I_40)))))))))))))))))) else some (0, I))))
set_option maxHeartbeats 1000000 in
theorem C_X7_takes {l : Launch} {G : zGt} (htr : l.stackTraces = false) {K : zKd} {F : zFd} {L : zLd} {a0 : Int32} (hM : zMLay K F) {I : zId} {r : Int32 × zId} (hF : F_X7_takes a0 I = some r) : zMet l G yX7_takes (ws_ yX7_takes cX7_takes 4 (some .int)) 2 45 0 0 [.ref 1860, .int a0] K F I L (zQe (.inl (some (.int r.1))) K F r.2 L) := by
  refine zMet.of (by decide +kernel) htr (Nat.le_of_ble_eq_true rfl) ?_
  change zW l G MX7_takes 2 45 0 0 0 [(0, .ref 1860), (1, .int a0)] [] K F I L (zQe (.inl (some (.int r.1))) K F r.2 L)
  unfold F_X7_takes at hF
  refine z_aload_n (n := 1) dX7_takes_0 rfl 0 rfl rfl ?_
  refine z_getRS (n := 4) dX7_takes_1 rfl zok6 fX7_80 rfl hM.1 (Or.inl (by decide)) (mF_28 hM) ?_
  refine z_iload_n (n := 5) dX7_takes_4 rfl 1 rfl rfl ?_
  obtain ⟨h_1, hF⟩ := zg_some hF
  refine z_ialdK (n := 6) a0.toNatClampNeg rfl dX7_takes_5 rfl (mK_28 hM) (zin_ok h_1) ?_
  obtain ⟨v2_2, e_3, hF⟩ := zlet_ob hF
  refine z_istore_nE (n := 7) (lv' := [(2, .int v2_2), (0, .ref 1860), (1, .int a0)]) dX7_takes_6 rfl e_3 rfl (by decide) rfl ?_
  refine z_aload_n (n := 8) dX7_takes_7 rfl 1 rfl rfl ?_
  refine z_getRS (n := 11) dX7_takes_8 rfl zok6 fX7_77 rfl hM.1 (Or.inl (by decide)) (mF_27 hM) ?_
  refine z_iload_n (n := 12) dX7_takes_11 rfl 0 rfl rfl ?_
  obtain ⟨h_4, hF⟩ := zg_some hF
  refine z_ialdK (n := 13) v2_2.toNatClampNeg rfl dX7_takes_12 rfl (mK_27 hM) (zin_ok h_4) ?_
  refine z_if_le (n := 16) (t := 18) dX7_takes_13 rfl (by decide) (fun hc => ?_) (fun hc => ?_)
  · replace hF := (if_pos hc).symm.trans hF
    refine z_iconst (n := 19) (v := 3) dX7_takes_18 rfl (by decide) ?_
    refine z_aload_n (n := 20) dX7_takes_19 rfl 1 rfl rfl ?_
    refine z_getRS (n := 23) dX7_takes_20 rfl zok6 fX7_48 rfl hM.1 (Or.inl (by decide)) (mF_8 hM) ?_
    refine z_iload_n (n := 24) dX7_takes_23 rfl 2 rfl rfl ?_
    obtain ⟨h_5, hF⟩ := zg_some hF
    refine z_ialdK (n := 25) a0.toNatClampNeg rfl dX7_takes_24 rfl (mK_8 hM) (zin_ok h_5) ?_
    refine z_imul (n := 26) dX7_takes_25 rfl ?_
    obtain ⟨v3_6, e_7, hF⟩ := zlet_ob hF
    refine z_istore_nE (n := 27) (lv' := [(3, .int v3_6), (2, .int v2_2), (0, .ref 1860), (1, .int a0)]) dX7_takes_26 rfl e_7 rfl (by decide) rfl ?_
    refine z_aload_n (n := 28) dX7_takes_27 rfl 2 rfl rfl ?_
    refine z_getRS (n := 31) dX7_takes_28 rfl zok6 fX7_29 rfl hM.1 (Or.inl (by decide)) (mF_2 hM) ?_
    refine z_bipush (n := 33) (v := 7) dX7_takes_31 rfl (by decide) ?_
    refine z_ialdK (n := 34) 7 (by decide) dX7_takes_33 rfl (mK_2 hM) (zin_ok (i := 7) (n := 16) rfl) ?_
    obtain ⟨k_10, e_11, hF⟩ := zlet_ob hF
    have H_12 : ∀ (v3_8 : Int32) (I_9 : zId), k_10 v3_8 I_9 = some r → zW l G MX7_takes 2 45 0 0 128 [(0, .ref 1860), (2, .int v2_2), (3, .int v3_8)] [] K F I_9 L (zQe (.inl (some (.int r.1))) K F r.2 L) := by
      intro v3_8 I_9 hF
      subst e_11
      dsimp only at hF
      refine z_iconst (n := 129) (v := 0) dX7_takes_128 rfl (by decide) ?_
      refine z_aload_n (n := 130) dX7_takes_129 rfl 0 rfl rfl ?_
      refine z_getRS (n := 133) dX7_takes_130 rfl zok6 fX7_72 rfl hM.1 (Or.inl (by decide)) (mF_25 hM) ?_
      refine z_iload_n (n := 134) dX7_takes_133 rfl 1 rfl rfl ?_
      obtain ⟨h_13, hF⟩ := zg_some hF
      refine z_ialdK (n := 135) v2_2.toNatClampNeg rfl dX7_takes_134 rfl (mK_25 hM) (zin_ok h_13) ?_
      refine z_iload_n (n := 136) dX7_takes_135 rfl 2 rfl rfl ?_
      refine z_min (n := 139) dX7_takes_136 rfl q1898 q290 q119 q291 (by decide) (Nat.le_of_ble_eq_true rfl) ?_
      refine z_max (n := 142) dX7_takes_139 rfl q2067 q272 q119 q273 (by decide) (Nat.le_of_ble_eq_true rfl) ?_
      have hF := Option.some.inj hF; subst hF
      exact z_iret dX7_takes_142 rfl rfl ⟨rfl, rfl, rfl, rfl, rfl⟩
    clear e_11
    refine z_if_le (n := 37) (t := 128) dX7_takes_34 rfl (by decide) (fun hc => ?_) (fun hc => ?_)
    · replace hF := (if_pos hc).symm.trans hF
      refine z_sub [2, 1, 0] rfl ?_
      exact H_12 _ _ hF
    · replace hF := (if_neg hc).symm.trans hF
      refine z_aload_n (n := 38) dX7_takes_37 rfl 2 rfl rfl ?_
      refine z_getRS (n := 41) dX7_takes_38 rfl zok6 fX7_96 rfl hM.1 (Or.inl (by decide)) (mF_39 hM) ?_
      refine z_iconst (n := 42) (v := 0) dX7_takes_41 rfl (by decide) ?_
      refine z_aload_n (n := 43) dX7_takes_42 rfl 2 rfl rfl ?_
      refine z_getRS (n := 46) dX7_takes_43 rfl zok6 fX7_48 rfl hM.1 (Or.inl (by decide)) (mF_8 hM) ?_
      refine z_iload_n (n := 47) dX7_takes_46 rfl 3 rfl rfl ?_
      obtain ⟨h_14, hF⟩ := zg_some hF
      refine z_ialdK (n := 48) a0.toNatClampNeg rfl dX7_takes_47 rfl (mK_8 hM) (zin_ok h_14) ?_
      obtain ⟨I_15, e_16, hF⟩ := zlet_ob hF
      refine z_iastK (n := 49) 0 (by decide) dX7_takes_48 rfl (mK_39 hM) (by decide) (zin_ok (i := 0) (n := 7) rfl) e_16 ?_
      refine z_aload_n (n := 50) dX7_takes_49 rfl 2 rfl rfl ?_
      refine z_getRS (n := 53) dX7_takes_50 rfl zok6 fX7_96 rfl hM.1 (Or.inl (by decide)) (mF_39 hM) ?_
      refine z_iconst (n := 54) (v := 1) dX7_takes_53 rfl (by decide) ?_
      refine z_aload_n (n := 55) dX7_takes_54 rfl 2 rfl rfl ?_
      refine z_getRS (n := 58) dX7_takes_55 rfl zok6 fX7_72 rfl hM.1 (Or.inl (by decide)) (mF_25 hM) ?_
      refine z_iload_n (n := 59) dX7_takes_58 rfl 1 rfl rfl ?_
      obtain ⟨h_17, hF⟩ := zg_some hF
      refine z_ialdK (n := 60) v2_2.toNatClampNeg rfl dX7_takes_59 rfl (mK_25 hM) (zin_ok h_17) ?_
      obtain ⟨I_18, e_19, hF⟩ := zlet_ob hF
      refine z_iastK (n := 61) 1 (by decide) dX7_takes_60 rfl (mK_39 hM) (by decide) (zin_ok (i := 1) (n := 7) rfl) e_19 ?_
      refine z_aload_n (n := 62) dX7_takes_61 rfl 2 rfl rfl ?_
      refine z_getRS (n := 65) dX7_takes_62 rfl zok6 fX7_96 rfl hM.1 (Or.inl (by decide)) (mF_39 hM) ?_
      refine z_iconst (n := 66) (v := 2) dX7_takes_65 rfl (by decide) ?_
      refine z_aload_n (n := 67) dX7_takes_66 rfl 2 rfl rfl ?_
      refine z_getRS (n := 70) dX7_takes_67 rfl zok6 fX7_88 rfl hM.1 (Or.inl (by decide)) (mF_31 hM) ?_
      refine z_iload_n (n := 71) dX7_takes_70 rfl 3 rfl rfl ?_
      obtain ⟨h_20, hF⟩ := zg_some hF
      refine z_ialdK (n := 72) a0.toNatClampNeg rfl dX7_takes_71 rfl (mK_31 hM) (zin_ok h_20) ?_
      obtain ⟨I_21, e_22, hF⟩ := zlet_ob hF
      refine z_iastK (n := 73) 2 (by decide) dX7_takes_72 rfl (mK_39 hM) (by decide) (zin_ok (i := 2) (n := 7) rfl) e_22 ?_
      refine z_aload_n (n := 74) dX7_takes_73 rfl 2 rfl rfl ?_
      refine z_getRS (n := 77) dX7_takes_74 rfl zok6 fX7_96 rfl hM.1 (Or.inl (by decide)) (mF_39 hM) ?_
      refine z_iconst (n := 78) (v := 3) dX7_takes_77 rfl (by decide) ?_
      refine z_aload_n (n := 79) dX7_takes_78 rfl 2 rfl rfl ?_
      refine z_iload_n (n := 80) dX7_takes_79 rfl 3 rfl rfl ?_
      obtain ⟨x_24, c_23, hF⟩ := zb1_some hF
      refine z_cV (n := 83) (st := [.int 3, .ref 1884]) (C_X7_due htr hM c_23) dX7_takes_80 rfl (lw_V q2053 q2055 qs80 q131 q2056) hcee_X7_due rfl (by decide) hM.1 rfl rfl rfl (Nat.le_of_ble_eq_true rfl) (Nat.le_refl _) (Nat.le_refl _) ?_
      obtain ⟨I_25, e_26, hF⟩ := zlet_ob hF
      refine z_iastK (n := 84) 3 (by decide) dX7_takes_83 rfl (mK_39 hM) (by decide) (zin_ok (i := 3) (n := 7) rfl) e_26 ?_
      refine z_aload_n (n := 85) dX7_takes_84 rfl 2 rfl rfl ?_
      refine z_getRS (n := 88) dX7_takes_85 rfl zok6 fX7_96 rfl hM.1 (Or.inl (by decide)) (mF_39 hM) ?_
      refine z_iconst (n := 89) (v := 4) dX7_takes_88 rfl (by decide) ?_
      refine z_aload_n (n := 90) dX7_takes_89 rfl 2 rfl rfl ?_
      refine z_getI (n := 93) dX7_takes_90 rfl zok6 fX7_316 rfl hM.1 (Or.inl (by decide)) ?_
      obtain ⟨I_27, e_28, hF⟩ := zlet_ob hF
      refine z_iastK (n := 94) 4 (by decide) dX7_takes_93 rfl (mK_39 hM) (by decide) (zin_ok (i := 4) (n := 7) rfl) e_28 ?_
      refine z_aload_n (n := 95) dX7_takes_94 rfl 2 rfl rfl ?_
      refine z_getRS (n := 98) dX7_takes_95 rfl zok6 fX7_96 rfl hM.1 (Or.inl (by decide)) (mF_39 hM) ?_
      refine z_iconst (n := 99) (v := 5) dX7_takes_98 rfl (by decide) ?_
      refine z_aload_n (n := 100) dX7_takes_99 rfl 2 rfl rfl ?_
      refine z_getRS (n := 103) dX7_takes_100 rfl zok6 fX7_86 rfl hM.1 (Or.inl (by decide)) (mF_30 hM) ?_
      refine z_iload_n (n := 104) dX7_takes_103 rfl 3 rfl rfl ?_
      obtain ⟨h_29, hF⟩ := zg_some hF
      refine z_ialdK (n := 105) a0.toNatClampNeg rfl dX7_takes_104 rfl (mK_30 hM) (zin_ok h_29) ?_
      obtain ⟨I_30, e_31, hF⟩ := zlet_ob hF
      refine z_iastK (n := 106) 5 (by decide) dX7_takes_105 rfl (mK_39 hM) (by decide) (zin_ok (i := 5) (n := 7) rfl) e_31 ?_
      refine z_aload_n (n := 107) dX7_takes_106 rfl 2 rfl rfl ?_
      refine z_getRS (n := 110) dX7_takes_107 rfl zok6 fX7_96 rfl hM.1 (Or.inl (by decide)) (mF_39 hM) ?_
      refine z_bipush (n := 112) (v := 6) dX7_takes_110 rfl (by decide) ?_
      refine z_aload_n (n := 113) dX7_takes_112 rfl 2 rfl rfl ?_
      refine z_iload_n (n := 114) dX7_takes_113 rfl 1 rfl rfl ?_
      obtain ⟨x_33, c_32, hF⟩ := zb1_some hF
      refine z_cV (n := 117) (st := [.int 6, .ref 1884]) (C_X7_bandsIn htr hM c_32) dX7_takes_114 rfl (lw_V q2033 q2035 qs76 q131 q2036) hcee_X7_bandsIn rfl (by decide) hM.1 rfl rfl rfl (Nat.le_of_ble_eq_true rfl) (Nat.le_refl _) (Nat.le_refl _) ?_
      obtain ⟨x_35, c_34, hF⟩ := zb1_some hF
      refine z_cS (n := 120) (st := [.int 6, .ref 1884]) (C_X7_bitsOf htr c_34) dX7_takes_117 rfl (lw_S q2057 q2058 q131 q2059) hcee_X7_bitsOf rfl (by decide) rfl (Nat.le_of_ble_eq_true rfl) (Nat.le_refl _) (Nat.le_refl _) ?_
      refine z_iconst (n := 121) (v := 1) dX7_takes_120 rfl (by decide) ?_
      refine z_isub (n := 122) dX7_takes_121 rfl ?_
      obtain ⟨I_36, e_37, hF⟩ := zlet_ob hF
      refine z_iastK (n := 123) 6 (by decide) dX7_takes_122 rfl (mK_39 hM) (by decide) (zin_ok (i := 6) (n := 7) rfl) e_37 ?_
      refine z_aload_n (n := 124) dX7_takes_123 rfl 2 rfl rfl ?_
      obtain ⟨x_39, I_40, c_38, hF⟩ := zb2_some hF
      refine z_cV (n := 127) (st := []) (C_X7_valueNow htr hM c_38) dX7_takes_124 rfl (lw_V q2060 q2062 qs81 q131 q2063) hcee_X7_valueNow rfl (by decide) hM.1 rfl rfl rfl (Nat.le_of_ble_eq_true rfl) (Nat.le_refl _) (Nat.le_refl _) ?_
      refine z_istore_nE (n := 128) (lv' := [(3, .int x_39), (2, .int v2_2), (0, .ref 1860), (1, .int a0)]) dX7_takes_127 rfl rfl rfl (by decide) rfl ?_
      refine z_sub [2, 1, 0] rfl ?_
      exact H_12 _ _ hF
  · replace hF := (if_neg hc).symm.trans hF
    refine z_iconst (n := 17) (v := 0) dX7_takes_16 rfl (by decide) ?_
    have hF := Option.some.inj hF; subst hF
    exact z_iret dX7_takes_17 rfl rfl ⟨rfl, rfl, rfl, rfl, rfl⟩
theorem hcee_X7_isBand : zCee yX7_isBand RX7 1 := ⟨rfl, by decide +kernel, by decide +kernel, by decide +kernel⟩
theorem hcee_X7_takes : zCee yX7_takes RX7 1 := ⟨rfl, by decide +kernel, by decide +kernel, by decide +kernel⟩
abbrev MX7_band : zM := (RX7, cX7_band, 3, (some .int), "band", [])
noncomputable def F_X7_band (a0 : Int32) (a1 : Int32) (I : zId) : Option (Int32 × zId) := zlet (zu I 1860 1 0) (fun I_1 => zb1 (F_X7_isBand a0 I_1) (fun x_4 => if ¬ x_4 = 0 then if a1 = 0 then zg (zin a0 12) (some (I_1 1868 a0.toNatClampNeg, I_1)) else if a1 = 1 then zg (zin a0 6) (some (I_1 1878 a0.toNatClampNeg, I_1)) else if a1 = 2 then zg (zin a0 6) (some (I_1 1879 a0.toNatClampNeg, I_1)) else if a1 = 3 then zg (zin a0 6) (some (I_1 1880 a0.toNatClampNeg, I_1)) else if a1 = 4 then zg (zin a0 6) (some (I_1 1881 a0.toNatClampNeg, I_1)) else if a1 = 5 then zg (zin a0 6) (some (I_1 1882 a0.toNatClampNeg, I_1)) else if a1 = 6 then zb2 (F_X7_takes a0 I_1) (fun x_12 I_13 => some (x_12, I_13)) else zb2 (F_X7_fail 1 I_1) (fun x_15 I_16 => some (x_15, I_16)) else zb2 (F_X7_fail 1 I_1) (fun x_18 I_19 => some (x_18, I_19))))
set_option maxHeartbeats 1000000 in
theorem C_X7_band {l : Launch} {G : zGt} (htr : l.stackTraces = false) {K : zKd} {F : zFd} {L : zLd} {a0 : Int32} {a1 : Int32} (hM : zMLay K F) {I : zId} {r : Int32 × zId} (hF : F_X7_band a0 a1 I = some r) : zMet l G yX7_band (ws_ yX7_band cX7_band 3 (some .int)) 3 68 0 0 [.ref 1860, .int a0, .int a1] K F I L (zQe (.inl (some (.int r.1))) K F r.2 L) := by
  refine zMet.of (by decide +kernel) htr (Nat.le_of_ble_eq_true rfl) ?_
  change zW l G MX7_band 3 68 0 0 0 [(0, .ref 1860), (1, .int a0), (2, .int a1)] [] K F I L (zQe (.inl (some (.int r.1))) K F r.2 L)
  unfold F_X7_band at hF
  refine z_aload_n (n := 1) dX7_band_0 rfl 0 rfl rfl ?_
  refine z_iconst (n := 2) (v := 0) dX7_band_1 rfl (by decide) ?_
  obtain ⟨I_1, e_2, hF⟩ := zlet_ob hF
  refine z_putIE (n := 5) dX7_band_2 rfl zok6 fX7_150 (Or.inl ⟨_, rfl, rfl⟩) rfl ⟨rfl, rfl⟩ hM.1 (by decide) e_2 ?_
  refine z_aload_n (n := 6) dX7_band_5 rfl 0 rfl rfl ?_
  refine z_iload_n (n := 7) dX7_band_6 rfl 1 rfl rfl ?_
  obtain ⟨x_4, c_3, hF⟩ := zb1_some hF
  refine z_cV (n := 10) (st := []) (C_X7_isBand htr hM c_3) dX7_band_7 rfl (lw_V q2045 q2047 qs78 q131 q2048) hcee_X7_isBand rfl (by decide) hM.1 rfl rfl rfl (Nat.le_of_ble_eq_true rfl) (Nat.le_refl _) (Nat.le_refl _) ?_
  refine z_if_ne (n := 13) (t := 19) dX7_band_10 rfl (by decide) (fun hc => ?_) (fun hc => ?_)
  · replace hF := (if_pos hc).symm.trans hF
    refine z_iload_n (n := 20) dX7_band_19 rfl 2 rfl rfl ?_
    by_cases ht0 : a1 = 0
    · replace hF := (if_pos ht0).symm.trans hF
      refine z_tableIn (off := 44) (t := 64) dX7_band_20 (by rw [ht0]; decide) (by rw [ht0]; decide) (by rw [ht0]; rfl) (by decide) ?_
      refine z_aload_n (n := 65) dX7_band_64 rfl 0 rfl rfl ?_
      refine z_getRS (n := 68) dX7_band_65 rfl zok6 fX7_48 rfl hM.1 (Or.inl (by decide)) (mF_8 hM) ?_
      refine z_iload_n (n := 69) dX7_band_68 rfl 1 rfl rfl ?_
      obtain ⟨h_5, hF⟩ := zg_some hF
      refine z_ialdK (n := 70) a0.toNatClampNeg rfl dX7_band_69 rfl (mK_8 hM) (zin_ok h_5) ?_
      have hF := Option.some.inj hF; subst hF
      exact z_iret dX7_band_70 rfl rfl ⟨rfl, rfl, rfl, rfl, rfl⟩
    replace hF := (if_neg ht0).symm.trans hF
    by_cases ht1 : a1 = 1
    · replace hF := (if_pos ht1).symm.trans hF
      refine z_tableIn (off := 51) (t := 71) dX7_band_20 (by rw [ht1]; decide) (by rw [ht1]; decide) (by rw [ht1]; rfl) (by decide) ?_
      refine z_aload_n (n := 72) dX7_band_71 rfl 0 rfl rfl ?_
      refine z_getRS (n := 75) dX7_band_72 rfl zok6 fX7_80 rfl hM.1 (Or.inl (by decide)) (mF_28 hM) ?_
      refine z_iload_n (n := 76) dX7_band_75 rfl 1 rfl rfl ?_
      obtain ⟨h_6, hF⟩ := zg_some hF
      refine z_ialdK (n := 77) a0.toNatClampNeg rfl dX7_band_76 rfl (mK_28 hM) (zin_ok h_6) ?_
      have hF := Option.some.inj hF; subst hF
      exact z_iret dX7_band_77 rfl rfl ⟨rfl, rfl, rfl, rfl, rfl⟩
    replace hF := (if_neg ht1).symm.trans hF
    by_cases ht2 : a1 = 2
    · replace hF := (if_pos ht2).symm.trans hF
      refine z_tableIn (off := 58) (t := 78) dX7_band_20 (by rw [ht2]; decide) (by rw [ht2]; decide) (by rw [ht2]; rfl) (by decide) ?_
      refine z_aload_n (n := 79) dX7_band_78 rfl 0 rfl rfl ?_
      refine z_getRS (n := 82) dX7_band_79 rfl zok6 fX7_83 rfl hM.1 (Or.inl (by decide)) (mF_29 hM) ?_
      refine z_iload_n (n := 83) dX7_band_82 rfl 1 rfl rfl ?_
      obtain ⟨h_7, hF⟩ := zg_some hF
      refine z_ialdK (n := 84) a0.toNatClampNeg rfl dX7_band_83 rfl (mK_29 hM) (zin_ok h_7) ?_
      have hF := Option.some.inj hF; subst hF
      exact z_iret dX7_band_84 rfl rfl ⟨rfl, rfl, rfl, rfl, rfl⟩
    replace hF := (if_neg ht2).symm.trans hF
    by_cases ht3 : a1 = 3
    · replace hF := (if_pos ht3).symm.trans hF
      refine z_tableIn (off := 65) (t := 85) dX7_band_20 (by rw [ht3]; decide) (by rw [ht3]; decide) (by rw [ht3]; rfl) (by decide) ?_
      refine z_aload_n (n := 86) dX7_band_85 rfl 0 rfl rfl ?_
      refine z_getRS (n := 89) dX7_band_86 rfl zok6 fX7_86 rfl hM.1 (Or.inl (by decide)) (mF_30 hM) ?_
      refine z_iload_n (n := 90) dX7_band_89 rfl 1 rfl rfl ?_
      obtain ⟨h_8, hF⟩ := zg_some hF
      refine z_ialdK (n := 91) a0.toNatClampNeg rfl dX7_band_90 rfl (mK_30 hM) (zin_ok h_8) ?_
      have hF := Option.some.inj hF; subst hF
      exact z_iret dX7_band_91 rfl rfl ⟨rfl, rfl, rfl, rfl, rfl⟩
    replace hF := (if_neg ht3).symm.trans hF
    by_cases ht4 : a1 = 4
    · replace hF := (if_pos ht4).symm.trans hF
      refine z_tableIn (off := 72) (t := 92) dX7_band_20 (by rw [ht4]; decide) (by rw [ht4]; decide) (by rw [ht4]; rfl) (by decide) ?_
      refine z_aload_n (n := 93) dX7_band_92 rfl 0 rfl rfl ?_
      refine z_getRS (n := 96) dX7_band_93 rfl zok6 fX7_88 rfl hM.1 (Or.inl (by decide)) (mF_31 hM) ?_
      refine z_iload_n (n := 97) dX7_band_96 rfl 1 rfl rfl ?_
      obtain ⟨h_9, hF⟩ := zg_some hF
      refine z_ialdK (n := 98) a0.toNatClampNeg rfl dX7_band_97 rfl (mK_31 hM) (zin_ok h_9) ?_
      have hF := Option.some.inj hF; subst hF
      exact z_iret dX7_band_98 rfl rfl ⟨rfl, rfl, rfl, rfl, rfl⟩
    replace hF := (if_neg ht4).symm.trans hF
    by_cases ht5 : a1 = 5
    · replace hF := (if_pos ht5).symm.trans hF
      refine z_tableIn (off := 79) (t := 99) dX7_band_20 (by rw [ht5]; decide) (by rw [ht5]; decide) (by rw [ht5]; rfl) (by decide) ?_
      refine z_aload_n (n := 100) dX7_band_99 rfl 0 rfl rfl ?_
      refine z_getRS (n := 103) dX7_band_100 rfl zok6 fX7_90 rfl hM.1 (Or.inl (by decide)) (mF_32 hM) ?_
      refine z_iload_n (n := 104) dX7_band_103 rfl 1 rfl rfl ?_
      obtain ⟨h_10, hF⟩ := zg_some hF
      refine z_ialdK (n := 105) a0.toNatClampNeg rfl dX7_band_104 rfl (mK_32 hM) (zin_ok h_10) ?_
      have hF := Option.some.inj hF; subst hF
      exact z_iret dX7_band_105 rfl rfl ⟨rfl, rfl, rfl, rfl, rfl⟩
    replace hF := (if_neg ht5).symm.trans hF
    by_cases ht6 : a1 = 6
    · replace hF := (if_pos ht6).symm.trans hF
      refine z_tableIn (off := 86) (t := 106) dX7_band_20 (by rw [ht6]; decide) (by rw [ht6]; decide) (by rw [ht6]; rfl) (by decide) ?_
      refine z_aload_n (n := 107) dX7_band_106 rfl 0 rfl rfl ?_
      refine z_iload_n (n := 108) dX7_band_107 rfl 1 rfl rfl ?_
      obtain ⟨x_12, I_13, c_11, hF⟩ := zb2_some hF
      refine z_cV (n := 111) (st := []) (C_X7_takes htr hM c_11) dX7_band_108 rfl (lw_V q2049 q2051 qs79 q131 q2052) hcee_X7_takes rfl (by decide) hM.1 rfl rfl rfl (Nat.le_of_ble_eq_true rfl) (Nat.le_refl _) (Nat.le_refl _) ?_
      have hF := Option.some.inj hF; subst hF
      exact z_iret dX7_band_111 rfl rfl ⟨rfl, rfl, rfl, rfl, rfl⟩
    replace hF := (if_neg ht6).symm.trans hF
    refine z_tableOut (t := 112) dX7_band_20 (by have := lv_neT (a := 0) ht0 (by decide); have := lv_neT (a := 1) ht1 (by decide); have := lv_neT (a := 2) ht2 (by decide); have := lv_neT (a := 3) ht3 (by decide); have := lv_neT (a := 4) ht4 (by decide); have := lv_neT (a := 5) ht5 (by decide); have := lv_neT (a := 6) ht6 (by decide); omega) (by decide) ?_
    refine z_aload_n (n := 113) dX7_band_112 rfl 0 rfl rfl ?_
    refine z_iconst (n := 114) (v := 1) dX7_band_113 rfl (by decide) ?_
    obtain ⟨x_15, I_16, c_14, hF⟩ := zb2_some hF
    refine z_cV (n := 117) (st := []) (C_X7_fail htr hM c_14) dX7_band_114 rfl (lw_V q1879 q1881 qs48 q131 q1882) hcee_X7_fail rfl (by decide) hM.1 rfl rfl rfl (Nat.le_of_ble_eq_true rfl) (Nat.le_refl _) (Nat.le_refl _) ?_
    have hF := Option.some.inj hF; subst hF
    exact z_iret dX7_band_117 rfl rfl ⟨rfl, rfl, rfl, rfl, rfl⟩
  · replace hF := (if_neg hc).symm.trans hF
    refine z_aload_n (n := 14) dX7_band_13 rfl 0 rfl rfl ?_
    refine z_iconst (n := 15) (v := 1) dX7_band_14 rfl (by decide) ?_
    obtain ⟨x_18, I_19, c_17, hF⟩ := zb2_some hF
    refine z_cV (n := 18) (st := []) (C_X7_fail htr hM c_17) dX7_band_15 rfl (lw_V q1879 q1881 qs48 q131 q1882) hcee_X7_fail rfl (by decide) hM.1 rfl rfl rfl (Nat.le_of_ble_eq_true rfl) (Nat.le_refl _) (Nat.le_refl _) ?_
    have hF := Option.some.inj hF; subst hF
    exact z_iret dX7_band_18 rfl rfl ⟨rfl, rfl, rfl, rfl, rfl⟩
abbrev MX7_refuse : zM := (RX7, cX7_refuse, 2, (some .int), "refuse", [])
noncomputable def F_X7_refuse (a0 : Int32) (I : zId) : Option (Int32 × zId) := zg (zin a0 3) (zg (zin a0 3) (zlet (zu I 1873 a0.toNatClampNeg ((I 1873 a0.toNatClampNeg) + 1)) (fun I_3 => some ((-1), I_3))))
set_option maxHeartbeats 1000000 in
theorem C_X7_refuse {l : Launch} {G : zGt} (htr : l.stackTraces = false) {K : zKd} {F : zFd} {L : zLd} {a0 : Int32} (hM : zMLay K F) {I : zId} {r : Int32 × zId} (hF : F_X7_refuse a0 I = some r) : zMet l G yX7_refuse (ws_ yX7_refuse cX7_refuse 2 (some .int)) 0 0 0 0 [.ref 1860, .int a0] K F I L (zQe (.inl (some (.int r.1))) K F r.2 L) := by
  refine zMet.of (by decide +kernel) htr (Nat.le_of_ble_eq_true rfl) ?_
  change zW l G MX7_refuse 0 0 0 0 0 [(0, .ref 1860), (1, .int a0)] [] K F I L (zQe (.inl (some (.int r.1))) K F r.2 L)
  unfold F_X7_refuse at hF
  refine z_aload_n (n := 1) dX7_refuse_0 rfl 0 rfl rfl ?_
  refine z_getRS (n := 4) dX7_refuse_1 rfl zok6 fX7_62 rfl hM.1 (Or.inl (by decide)) (mF_13 hM) ?_
  refine z_iload_n (n := 5) dX7_refuse_4 rfl 1 rfl rfl ?_
  refine z_dup2 (n := 6) dX7_refuse_5 rfl rfl rfl ?_
  obtain ⟨h_1, hF⟩ := zg_some hF
  refine z_ialdK (n := 7) a0.toNatClampNeg rfl dX7_refuse_6 rfl (mK_13 hM) (zin_ok h_1) ?_
  refine z_iconst (n := 8) (v := 1) dX7_refuse_7 rfl (by decide) ?_
  refine z_iadd (n := 9) dX7_refuse_8 rfl ?_
  obtain ⟨h_2, hF⟩ := zg_some hF
  obtain ⟨I_3, e_4, hF⟩ := zlet_ob hF
  refine z_iastK (n := 10) a0.toNatClampNeg rfl dX7_refuse_9 rfl (mK_13 hM) (by decide) (zin_ok h_2) e_4 ?_
  refine z_iconst (n := 11) (v := (-1)) dX7_refuse_10 rfl (by decide) ?_
  have hF := Option.some.inj hF; subst hF
  exact z_iret dX7_refuse_11 rfl rfl ⟨rfl, rfl, rfl, rfl, rfl⟩
abbrev MX7_pack : zM := (RX7, cX7_pack, 5, none, "pack", [])
noncomputable def F_X7_pack_L27 (a0 : Nat) (n0 : Nat) (a1 : Int32) (v3_10 : Int32) (I_11 : zId) : Option ((Int32 × zId) ⊕ (zId)) := if 8 ≤ v3_10 then some (.inr (I_11)) else zg (zin v3_10 8) (zg (zin ((a1 + 3) + v3_10) n0) (zlet (zu I_11 a0 (((a1 + 3) + v3_10).toNatClampNeg) (I_11 1875 v3_10.toNatClampNeg)) (fun I_14 => zg (zin v3_10 8) (zg (zin (((a1 + 3) + 8) + v3_10) n0) (zlet (zu I_14 a0 ((((a1 + 3) + 8) + v3_10).toNatClampNeg) (I_14 1876 v3_10.toNatClampNeg)) (fun I_18 => zg (zin v3_10 8) (zg (zin (((a1 + 3) + 16) + v3_10) n0) (zlet (zu I_18 a0 ((((a1 + 3) + 16) + v3_10).toNatClampNeg) (I_18 1877 v3_10.toNatClampNeg)) (fun I_22 => zlet (v3_10 + 1) (fun v3_24 => some (.inl (v3_24, I_22))))))))))))
noncomputable def F_X7_pack_L94 (a0 : Nat) (n0 : Nat) (v3_28 : Int32) (v4_30 : Int32) (I_31 : zId) : Option ((Int32 × zId) ⊕ (zId)) := if 6 ≤ v4_30 then some (.inr (I_31)) else zg (zin v4_30 6) (zg (zin (v3_28 + v4_30) n0) (zlet (zu I_31 a0 ((v3_28 + v4_30).toNatClampNeg) (I_31 1878 v4_30.toNatClampNeg)) (fun I_34 => zg (zin v4_30 6) (zg (zin ((v3_28 + 6) + v4_30) n0) (zlet (zu I_34 a0 (((v3_28 + 6) + v4_30).toNatClampNeg) (I_34 1879 v4_30.toNatClampNeg)) (fun I_38 => zg (zin v4_30 6) (zg (zin ((v3_28 + 12) + v4_30) n0) (zlet (zu I_38 a0 (((v3_28 + 12) + v4_30).toNatClampNeg) (I_38 1880 v4_30.toNatClampNeg)) (fun I_42 => zg (zin v4_30 6) (zg (zin ((v3_28 + 18) + v4_30) n0) (zlet (zu I_42 a0 (((v3_28 + 18) + v4_30).toNatClampNeg) (I_42 1881 v4_30.toNatClampNeg)) (fun I_46 => zg (zin v4_30 6) (zg (zin ((v3_28 + 24) + v4_30) n0) (zlet (zu I_46 a0 (((v3_28 + 24) + v4_30).toNatClampNeg) (I_46 1882 v4_30.toNatClampNeg)) (fun I_50 => zlet (v4_30 + 1) (fun v4_52 => some (.inl (v4_52, I_50))))))))))))))))))
noncomputable def F_X7_pack (a0 : Nat) (n0 : Nat) (a1 : Int32) (I : zId) : Option (zId) := zg (zin a1 n0) (zlet (zu I a0 a1.toNatClampNeg (I 1860 34)) (fun I_2 => zg (zin (a1 + 1) n0) (zlet (zu I_2 a0 ((a1 + 1).toNatClampNeg) (I_2 1860 35)) (fun I_5 => zg (zin (a1 + 2) n0) (zlet (zu I_5 a0 ((a1 + 2).toNatClampNeg) (I_5 1860 36)) (fun I_8 => zb1 (zloop (fun s : Int32 × zId => F_X7_pack_L27 a0 n0 a1 s.1 s.2) (0, I_8)) (fun I_26 => zlet ((a1 + 3) + 24) (fun v3_28 => zb1 (zloop (fun s : Int32 × zId => F_X7_pack_L94 a0 n0 v3_28 s.1 s.2) (0, I_26)) (fun I_54 => some I_54)))))))))
set_option maxHeartbeats 1000000 in
theorem W_X7_pack_L27 {l : Launch} {G : zGt} (htr : l.stackTraces = false) {K : zKd} {F : zFd} {L : zLd} {Q : zQt} {a0 : Nat} {n0 : Nat} {a1 : Int32} {v3_10 : Int32} {I_11 : zId} (hM : zMLay K F) (hk0 : K a0 = some (64, n0)) (hb0 : zNC ≤ a0) {r : (Int32 × zId) ⊕ (zId)} (hF : F_X7_pack_L27 a0 n0 a1 v3_10 I_11 = some r) (kl : ∀ (z0 : Int32) (z1 : zId), r = .inl (z0, z1) → zW l G MX7_pack 0 0 0 0 27 [(0, .ref 1860), (1, .ref a0), (2, .int a1), (3, .int z0)] [] K F z1 L Q) (kx : ∀ (y0 : zId), r = .inr y0 → zW l G MX7_pack 0 0 0 0 84 [(0, .ref 1860), (1, .ref a0), (2, .int a1)] [] K F y0 L Q)  : zW l G MX7_pack 0 0 0 0 27 [(0, .ref 1860), (1, .ref a0), (2, .int a1), (3, .int v3_10)] [] K F I_11 L Q := by
  unfold F_X7_pack_L27 at hF
  refine z_iload_n (n := 28) dX7_pack_27 rfl 3 rfl rfl ?_
  refine z_bipush (n := 30) (v := 8) dX7_pack_28 rfl (by decide) ?_
  refine z_icmp_ge (n := 33) (t := 84) dX7_pack_30 rfl (by decide) (fun hc => ?_) (fun hc => ?_)
  · replace hF := (if_pos hc).symm.trans hF
    refine z_sub [0, 1, 2] rfl ?_
    have hF := Option.some.inj hF; subst hF
    exact kx _ rfl
  · replace hF := (if_neg hc).symm.trans hF
    refine z_aload_n (n := 34) dX7_pack_33 rfl 1 rfl rfl ?_
    refine z_iload_n (n := 35) dX7_pack_34 rfl 2 rfl rfl ?_
    refine z_iconst (n := 36) (v := 3) dX7_pack_35 rfl (by decide) ?_
    refine z_iadd (n := 37) dX7_pack_36 rfl ?_
    refine z_iload_n (n := 38) dX7_pack_37 rfl 3 rfl rfl ?_
    refine z_iadd (n := 39) dX7_pack_38 rfl ?_
    refine z_aload_n (n := 40) dX7_pack_39 rfl 0 rfl rfl ?_
    refine z_getRS (n := 43) dX7_pack_40 rfl zok6 fX7_72 rfl hM.1 (Or.inl (by decide)) (mF_25 hM) ?_
    refine z_iload_n (n := 44) dX7_pack_43 rfl 3 rfl rfl ?_
    obtain ⟨h_12, hF⟩ := zg_some hF
    refine z_ialdK (n := 45) v3_10.toNatClampNeg rfl dX7_pack_44 rfl (mK_25 hM) (zin_ok h_12) ?_
    obtain ⟨h_13, hF⟩ := zg_some hF
    obtain ⟨I_14, e_15, hF⟩ := zlet_ob hF
    refine z_iastK (n := 46) (((a1 + 3) + v3_10).toNatClampNeg) rfl dX7_pack_45 rfl hk0 hb0 (zin_ok h_13) e_15 ?_
    refine z_aload_n (n := 47) dX7_pack_46 rfl 1 rfl rfl ?_
    refine z_iload_n (n := 48) dX7_pack_47 rfl 2 rfl rfl ?_
    refine z_iconst (n := 49) (v := 3) dX7_pack_48 rfl (by decide) ?_
    refine z_iadd (n := 50) dX7_pack_49 rfl ?_
    refine z_bipush (n := 52) (v := 8) dX7_pack_50 rfl (by decide) ?_
    refine z_iadd (n := 53) dX7_pack_52 rfl ?_
    refine z_iload_n (n := 54) dX7_pack_53 rfl 3 rfl rfl ?_
    refine z_iadd (n := 55) dX7_pack_54 rfl ?_
    refine z_aload_n (n := 56) dX7_pack_55 rfl 0 rfl rfl ?_
    refine z_getRS (n := 59) dX7_pack_56 rfl zok6 fX7_74 rfl hM.1 (Or.inl (by decide)) (mF_26 hM) ?_
    refine z_iload_n (n := 60) dX7_pack_59 rfl 3 rfl rfl ?_
    obtain ⟨h_16, hF⟩ := zg_some hF
    refine z_ialdK (n := 61) v3_10.toNatClampNeg rfl dX7_pack_60 rfl (mK_26 hM) (zin_ok h_16) ?_
    obtain ⟨h_17, hF⟩ := zg_some hF
    obtain ⟨I_18, e_19, hF⟩ := zlet_ob hF
    refine z_iastK (n := 62) ((((a1 + 3) + 8) + v3_10).toNatClampNeg) rfl dX7_pack_61 rfl hk0 hb0 (zin_ok h_17) e_19 ?_
    refine z_aload_n (n := 63) dX7_pack_62 rfl 1 rfl rfl ?_
    refine z_iload_n (n := 64) dX7_pack_63 rfl 2 rfl rfl ?_
    refine z_iconst (n := 65) (v := 3) dX7_pack_64 rfl (by decide) ?_
    refine z_iadd (n := 66) dX7_pack_65 rfl ?_
    refine z_bipush (n := 68) (v := 16) dX7_pack_66 rfl (by decide) ?_
    refine z_iadd (n := 69) dX7_pack_68 rfl ?_
    refine z_iload_n (n := 70) dX7_pack_69 rfl 3 rfl rfl ?_
    refine z_iadd (n := 71) dX7_pack_70 rfl ?_
    refine z_aload_n (n := 72) dX7_pack_71 rfl 0 rfl rfl ?_
    refine z_getRS (n := 75) dX7_pack_72 rfl zok6 fX7_77 rfl hM.1 (Or.inl (by decide)) (mF_27 hM) ?_
    refine z_iload_n (n := 76) dX7_pack_75 rfl 3 rfl rfl ?_
    obtain ⟨h_20, hF⟩ := zg_some hF
    refine z_ialdK (n := 77) v3_10.toNatClampNeg rfl dX7_pack_76 rfl (mK_27 hM) (zin_ok h_20) ?_
    obtain ⟨h_21, hF⟩ := zg_some hF
    obtain ⟨I_22, e_23, hF⟩ := zlet_ob hF
    refine z_iastK (n := 78) ((((a1 + 3) + 16) + v3_10).toNatClampNeg) rfl dX7_pack_77 rfl hk0 hb0 (zin_ok h_21) e_23 ?_
    obtain ⟨v3_24, e_25, hF⟩ := zlet_ob hF
    refine z_iincE (n := 81) (w := 1) (v := v3_24) (lv' := [(3, .int v3_24), (0, .ref 1860), (1, .ref a0), (2, .int a1)]) dX7_pack_78 rfl 3 rfl (by decide) e_25 (by decide) rfl ?_
    refine z_goto (t := 27) dX7_pack_81 (by decide) ?_
    refine z_sub [1, 2, 3, 0] rfl ?_
    have hF := Option.some.inj hF; subst hF
    exact kl _ _ rfl
set_option maxHeartbeats 1000000 in
theorem W_X7_pack_L94 {l : Launch} {G : zGt} (htr : l.stackTraces = false) {K : zKd} {F : zFd} {L : zLd} {Q : zQt} {a0 : Nat} {n0 : Nat} {a1 : Int32} {v3_28 : Int32} {v4_30 : Int32} {I_31 : zId} (hM : zMLay K F) (hk0 : K a0 = some (64, n0)) (hb0 : zNC ≤ a0) {r : (Int32 × zId) ⊕ (zId)} (hF : F_X7_pack_L94 a0 n0 v3_28 v4_30 I_31 = some r) (kl : ∀ (z0 : Int32) (z1 : zId), r = .inl (z0, z1) → zW l G MX7_pack 0 0 0 0 94 [(0, .ref 1860), (1, .ref a0), (3, .int v3_28), (4, .int z0)] [] K F z1 L Q) (kx : ∀ (y0 : zId), r = .inr y0 → zW l G MX7_pack 0 0 0 0 184 [] [] K F y0 L Q)  : zW l G MX7_pack 0 0 0 0 94 [(0, .ref 1860), (1, .ref a0), (3, .int v3_28), (4, .int v4_30)] [] K F I_31 L Q := by
  unfold F_X7_pack_L94 at hF
  refine z_iload (n := 96) dX7_pack_94 rfl 3 rfl ?_
  refine z_bipush (n := 98) (v := 6) dX7_pack_96 rfl (by decide) ?_
  refine z_icmp_ge (n := 101) (t := 184) dX7_pack_98 rfl (by decide) (fun hc => ?_) (fun hc => ?_)
  · replace hF := (if_pos hc).symm.trans hF
    refine z_sub [] rfl ?_
    have hF := Option.some.inj hF; subst hF
    exact kx _ rfl
  · replace hF := (if_neg hc).symm.trans hF
    refine z_aload_n (n := 102) dX7_pack_101 rfl 1 rfl rfl ?_
    refine z_iload_n (n := 103) dX7_pack_102 rfl 2 rfl rfl ?_
    refine z_iload (n := 105) dX7_pack_103 rfl 3 rfl ?_
    refine z_iadd (n := 106) dX7_pack_105 rfl ?_
    refine z_aload_n (n := 107) dX7_pack_106 rfl 0 rfl rfl ?_
    refine z_getRS (n := 110) dX7_pack_107 rfl zok6 fX7_80 rfl hM.1 (Or.inl (by decide)) (mF_28 hM) ?_
    refine z_iload (n := 112) dX7_pack_110 rfl 3 rfl ?_
    obtain ⟨h_32, hF⟩ := zg_some hF
    refine z_ialdK (n := 113) v4_30.toNatClampNeg rfl dX7_pack_112 rfl (mK_28 hM) (zin_ok h_32) ?_
    obtain ⟨h_33, hF⟩ := zg_some hF
    obtain ⟨I_34, e_35, hF⟩ := zlet_ob hF
    refine z_iastK (n := 114) ((v3_28 + v4_30).toNatClampNeg) rfl dX7_pack_113 rfl hk0 hb0 (zin_ok h_33) e_35 ?_
    refine z_aload_n (n := 115) dX7_pack_114 rfl 1 rfl rfl ?_
    refine z_iload_n (n := 116) dX7_pack_115 rfl 2 rfl rfl ?_
    refine z_bipush (n := 118) (v := 6) dX7_pack_116 rfl (by decide) ?_
    refine z_iadd (n := 119) dX7_pack_118 rfl ?_
    refine z_iload (n := 121) dX7_pack_119 rfl 3 rfl ?_
    refine z_iadd (n := 122) dX7_pack_121 rfl ?_
    refine z_aload_n (n := 123) dX7_pack_122 rfl 0 rfl rfl ?_
    refine z_getRS (n := 126) dX7_pack_123 rfl zok6 fX7_83 rfl hM.1 (Or.inl (by decide)) (mF_29 hM) ?_
    refine z_iload (n := 128) dX7_pack_126 rfl 3 rfl ?_
    obtain ⟨h_36, hF⟩ := zg_some hF
    refine z_ialdK (n := 129) v4_30.toNatClampNeg rfl dX7_pack_128 rfl (mK_29 hM) (zin_ok h_36) ?_
    obtain ⟨h_37, hF⟩ := zg_some hF
    obtain ⟨I_38, e_39, hF⟩ := zlet_ob hF
    refine z_iastK (n := 130) (((v3_28 + 6) + v4_30).toNatClampNeg) rfl dX7_pack_129 rfl hk0 hb0 (zin_ok h_37) e_39 ?_
    refine z_aload_n (n := 131) dX7_pack_130 rfl 1 rfl rfl ?_
    refine z_iload_n (n := 132) dX7_pack_131 rfl 2 rfl rfl ?_
    refine z_bipush (n := 134) (v := 12) dX7_pack_132 rfl (by decide) ?_
    refine z_iadd (n := 135) dX7_pack_134 rfl ?_
    refine z_iload (n := 137) dX7_pack_135 rfl 3 rfl ?_
    refine z_iadd (n := 138) dX7_pack_137 rfl ?_
    refine z_aload_n (n := 139) dX7_pack_138 rfl 0 rfl rfl ?_
    refine z_getRS (n := 142) dX7_pack_139 rfl zok6 fX7_86 rfl hM.1 (Or.inl (by decide)) (mF_30 hM) ?_
    refine z_iload (n := 144) dX7_pack_142 rfl 3 rfl ?_
    obtain ⟨h_40, hF⟩ := zg_some hF
    refine z_ialdK (n := 145) v4_30.toNatClampNeg rfl dX7_pack_144 rfl (mK_30 hM) (zin_ok h_40) ?_
    obtain ⟨h_41, hF⟩ := zg_some hF
    obtain ⟨I_42, e_43, hF⟩ := zlet_ob hF
    refine z_iastK (n := 146) (((v3_28 + 12) + v4_30).toNatClampNeg) rfl dX7_pack_145 rfl hk0 hb0 (zin_ok h_41) e_43 ?_
    refine z_aload_n (n := 147) dX7_pack_146 rfl 1 rfl rfl ?_
    refine z_iload_n (n := 148) dX7_pack_147 rfl 2 rfl rfl ?_
    refine z_bipush (n := 150) (v := 18) dX7_pack_148 rfl (by decide) ?_
    refine z_iadd (n := 151) dX7_pack_150 rfl ?_
    refine z_iload (n := 153) dX7_pack_151 rfl 3 rfl ?_
    refine z_iadd (n := 154) dX7_pack_153 rfl ?_
    refine z_aload_n (n := 155) dX7_pack_154 rfl 0 rfl rfl ?_
    refine z_getRS (n := 158) dX7_pack_155 rfl zok6 fX7_88 rfl hM.1 (Or.inl (by decide)) (mF_31 hM) ?_
    refine z_iload (n := 160) dX7_pack_158 rfl 3 rfl ?_
    obtain ⟨h_44, hF⟩ := zg_some hF
    refine z_ialdK (n := 161) v4_30.toNatClampNeg rfl dX7_pack_160 rfl (mK_31 hM) (zin_ok h_44) ?_
    obtain ⟨h_45, hF⟩ := zg_some hF
    obtain ⟨I_46, e_47, hF⟩ := zlet_ob hF
    refine z_iastK (n := 162) (((v3_28 + 18) + v4_30).toNatClampNeg) rfl dX7_pack_161 rfl hk0 hb0 (zin_ok h_45) e_47 ?_
    refine z_aload_n (n := 163) dX7_pack_162 rfl 1 rfl rfl ?_
    refine z_iload_n (n := 164) dX7_pack_163 rfl 2 rfl rfl ?_
    refine z_bipush (n := 166) (v := 24) dX7_pack_164 rfl (by decide) ?_
    refine z_iadd (n := 167) dX7_pack_166 rfl ?_
    refine z_iload (n := 169) dX7_pack_167 rfl 3 rfl ?_
    refine z_iadd (n := 170) dX7_pack_169 rfl ?_
    refine z_aload_n (n := 171) dX7_pack_170 rfl 0 rfl rfl ?_
    refine z_getRS (n := 174) dX7_pack_171 rfl zok6 fX7_90 rfl hM.1 (Or.inl (by decide)) (mF_32 hM) ?_
    refine z_iload (n := 176) dX7_pack_174 rfl 3 rfl ?_
    obtain ⟨h_48, hF⟩ := zg_some hF
    refine z_ialdK (n := 177) v4_30.toNatClampNeg rfl dX7_pack_176 rfl (mK_32 hM) (zin_ok h_48) ?_
    obtain ⟨h_49, hF⟩ := zg_some hF
    obtain ⟨I_50, e_51, hF⟩ := zlet_ob hF
    refine z_iastK (n := 178) (((v3_28 + 24) + v4_30).toNatClampNeg) rfl dX7_pack_177 rfl hk0 hb0 (zin_ok h_49) e_51 ?_
    obtain ⟨v4_52, e_53, hF⟩ := zlet_ob hF
    refine z_iincE (n := 181) (w := 1) (v := v4_52) (lv' := [(4, .int v4_52), (0, .ref 1860), (1, .ref a0), (3, .int v3_28)]) dX7_pack_178 rfl 3 rfl (by decide) e_53 (by decide) rfl ?_
    refine z_goto (t := 94) dX7_pack_181 (by decide) ?_
    refine z_sub [1, 2, 3, 0] rfl ?_
    have hF := Option.some.inj hF; subst hF
    exact kl _ _ rfl
set_option maxHeartbeats 1000000 in
theorem C_X7_pack {l : Launch} {G : zGt} (htr : l.stackTraces = false) {K : zKd} {F : zFd} {L : zLd} {a0 : Nat} {n0 : Nat} {a1 : Int32} (hM : zMLay K F) (hk0 : K a0 = some (64, n0)) (hb0 : zNC ≤ a0) {I : zId} {r : zId} (hF : F_X7_pack a0 n0 a1 I = some r) : zMet l G yX7_pack (ws_ yX7_pack cX7_pack 5 none) 0 0 0 0 [.ref 1860, .ref a0, .int a1] K F I L (zQe (.inl none) K F r L) := by
  refine zMet.of (by decide +kernel) htr (Nat.le_of_ble_eq_true rfl) ?_
  change zW l G MX7_pack 0 0 0 0 0 [(0, .ref 1860), (1, .ref a0), (2, .int a1)] [] K F I L (zQe (.inl none) K F r L)
  unfold F_X7_pack at hF
  refine z_aload_n (n := 1) dX7_pack_0 rfl 1 rfl rfl ?_
  refine z_iload_n (n := 2) dX7_pack_1 rfl 2 rfl rfl ?_
  refine z_aload_n (n := 3) dX7_pack_2 rfl 0 rfl rfl ?_
  refine z_getI (n := 6) dX7_pack_3 rfl zok6 fX7_316 rfl hM.1 (Or.inl (by decide)) ?_
  obtain ⟨h_1, hF⟩ := zg_some hF
  obtain ⟨I_2, e_3, hF⟩ := zlet_ob hF
  refine z_iastK (n := 7) a1.toNatClampNeg rfl dX7_pack_6 rfl hk0 hb0 (zin_ok h_1) e_3 ?_
  refine z_aload_n (n := 8) dX7_pack_7 rfl 1 rfl rfl ?_
  refine z_iload_n (n := 9) dX7_pack_8 rfl 2 rfl rfl ?_
  refine z_iconst (n := 10) (v := 1) dX7_pack_9 rfl (by decide) ?_
  refine z_iadd (n := 11) dX7_pack_10 rfl ?_
  refine z_aload_n (n := 12) dX7_pack_11 rfl 0 rfl rfl ?_
  refine z_getI (n := 15) dX7_pack_12 rfl zok6 fX7_318 rfl hM.1 (Or.inl (by decide)) ?_
  obtain ⟨h_4, hF⟩ := zg_some hF
  obtain ⟨I_5, e_6, hF⟩ := zlet_ob hF
  refine z_iastK (n := 16) ((a1 + 1).toNatClampNeg) rfl dX7_pack_15 rfl hk0 hb0 (zin_ok h_4) e_6 ?_
  refine z_aload_n (n := 17) dX7_pack_16 rfl 1 rfl rfl ?_
  refine z_iload_n (n := 18) dX7_pack_17 rfl 2 rfl rfl ?_
  refine z_iconst (n := 19) (v := 2) dX7_pack_18 rfl (by decide) ?_
  refine z_iadd (n := 20) dX7_pack_19 rfl ?_
  refine z_aload_n (n := 21) dX7_pack_20 rfl 0 rfl rfl ?_
  refine z_getI (n := 24) dX7_pack_21 rfl zok6 fX7_321 rfl hM.1 (Or.inl (by decide)) ?_
  obtain ⟨h_7, hF⟩ := zg_some hF
  obtain ⟨I_8, e_9, hF⟩ := zlet_ob hF
  refine z_iastK (n := 25) ((a1 + 2).toNatClampNeg) rfl dX7_pack_24 rfl hk0 hb0 (zin_ok h_7) e_9 ?_
  refine z_iconst (n := 26) (v := 0) dX7_pack_25 rfl (by decide) ?_
  refine z_istore_nE (n := 27) (lv' := [(3, .int 0), (0, .ref 1860), (1, .ref a0), (2, .int a1)]) dX7_pack_26 rfl rfl rfl (by decide) rfl ?_
  refine z_sub [1, 2, 3, 0] rfl ?_
  obtain ⟨t_58, e_27, hF⟩ := zb1_some hF
  obtain ⟨I_26, rfl⟩ : ∃ z, z = t_58 := ⟨_, rfl⟩
  have H_59 : zW l G MX7_pack 0 0 0 0 84 [(0, .ref 1860), (1, .ref a0), (2, .int a1)] [] K F I_26 L (zQe (.inl none) K F r L) := by
    refine z_iload_n (n := 85) dX7_pack_84 rfl 2 rfl rfl ?_
    refine z_iconst (n := 86) (v := 3) dX7_pack_85 rfl (by decide) ?_
    refine z_iadd (n := 87) dX7_pack_86 rfl ?_
    refine z_bipush (n := 89) (v := 24) dX7_pack_87 rfl (by decide) ?_
    refine z_iadd (n := 90) dX7_pack_89 rfl ?_
    obtain ⟨v3_28, e_29, hF⟩ := zlet_ob hF
    refine z_istore_nE (n := 91) (lv' := [(3, .int v3_28), (0, .ref 1860), (1, .ref a0), (2, .int a1)]) dX7_pack_90 rfl e_29 rfl (by decide) rfl ?_
    refine z_iconst (n := 92) (v := 0) dX7_pack_91 rfl (by decide) ?_
    refine z_istoreE (n := 94) (lv' := [(4, .int 0), (3, .int v3_28), (0, .ref 1860), (1, .ref a0), (2, .int a1)]) dX7_pack_92 rfl rfl (by decide) rfl ?_
    refine z_sub [2, 3, 1, 0] rfl ?_
    obtain ⟨t_56, e_55, hF⟩ := zb1_some hF
    obtain ⟨I_54, rfl⟩ : ∃ z, z = t_56 := ⟨_, rfl⟩
    have H_57 : zW l G MX7_pack 0 0 0 0 184 [] [] K F I_54 L (zQe (.inl none) K F r L) := by
      have hF := Option.some.inj hF; subst hF
      exact z_vret dX7_pack_184 rfl ⟨rfl, rfl, rfl, rfl, rfl⟩
    refine zloop_ind (P := fun s : Int32 × zId => zW l G MX7_pack 0 0 0 0 94 [(0, .ref 1860), (1, .ref a0), (3, .int v3_28), (4, .int s.1)] [] K F s.2 L (zQe (.inl none) K F r L)) (fun s r hb kl kr => ?_) e_55
    exact W_X7_pack_L94 (a0 := a0) (n0 := n0) (a1 := a1) htr hM hk0 hb0 hb (fun z0 z1 e => kl _ e) (fun y0 e => by cases kr _ e; exact H_57)
  refine zloop_ind (P := fun s : Int32 × zId => zW l G MX7_pack 0 0 0 0 27 [(0, .ref 1860), (1, .ref a0), (2, .int a1), (3, .int s.1)] [] K F s.2 L (zQe (.inl none) K F r L)) (fun s r hb kl kr => ?_) e_27
  exact W_X7_pack_L27 (a0 := a0) (n0 := n0) (a1 := a1) htr hM hk0 hb0 hb (fun z0 z1 e => kl _ e) (fun y0 e => by cases kr _ e; exact H_59)
theorem fX7_93 : zFld RX7 93 6 33 := ⟨_, rfl, by decide, _, Or.inl q1710, Or.inl rfl⟩
theorem hcee_X7_pack : zCee yX7_pack RX7 2 := ⟨rfl, by decide +kernel, by decide +kernel, by decide +kernel⟩
abbrev MX7_keep : zM := (RX7, cX7_keep, 2, none, "keep", [])
noncomputable def F_X7_keep_L12 (v1_9 : Int32) (I_10 : zId) : Option ((Int32 × zId) ⊕ (zId)) := if 2280 ≤ v1_9 then some (.inr (I_10)) else zg (zin v1_9 2280) (zg (zin (v1_9 - 57) 2280) (zlet (zu I_10 1883 ((v1_9 - 57).toNatClampNeg) (I_10 1883 v1_9.toNatClampNeg)) (fun I_13 => zlet (v1_9 + 1) (fun v1_15 => some (.inl (v1_15, I_13))))))
noncomputable def F_X7_keep (I : zId) : Option (zId) := zlet (fun (I_1 : zId) => zb1 (F_X7_pack 1883 2280 ((57 : Int32) * (I_1 1860 37)) I_1) (fun I_6 => zlet (zu I_6 1860 37 ((I_6 1860 37) + 1)) (fun I_7 => some I_7))) (fun k_2 => if ¬ (I 1860 37) = 40 then k_2 I else zb1 (zloop (fun s : Int32 × zId => F_X7_keep_L12 s.1 s.2) (57, I)) (fun I_17 => zlet (zu I_17 1860 37 ((I_17 1860 37) - 1)) (fun I_19 => k_2 I_19)))
set_option maxHeartbeats 1000000 in
theorem W_X7_keep_L12 {l : Launch} {G : zGt} (htr : l.stackTraces = false) {K : zKd} {F : zFd} {L : zLd} {Q : zQt} {v1_9 : Int32} {I_10 : zId} (hM : zMLay K F) {r : (Int32 × zId) ⊕ (zId)} (hF : F_X7_keep_L12 v1_9 I_10 = some r) (kl : ∀ (z0 : Int32) (z1 : zId), r = .inl (z0, z1) → zW l G MX7_keep 1 24 0 0 12 [(0, .ref 1860), (1, .int z0)] [] K F z1 L Q) (kx : ∀ (y0 : zId), r = .inr y0 → zW l G MX7_keep 1 24 0 0 42 [(0, .ref 1860)] [] K F y0 L Q)  : zW l G MX7_keep 1 24 0 0 12 [(0, .ref 1860), (1, .int v1_9)] [] K F I_10 L Q := by
  unfold F_X7_keep_L12 at hF
  refine z_iload_n (n := 13) dX7_keep_12 rfl 1 rfl rfl ?_
  refine z_aload_n (n := 14) dX7_keep_13 rfl 0 rfl rfl ?_
  refine z_getRS (n := 17) dX7_keep_14 rfl zok6 fX7_93 rfl hM.1 (Or.inl (by decide)) (mF_33 hM) ?_
  refine z_alenK (n := 18) 0 (by decide) dX7_keep_17 rfl (mK_33 hM) (v := 2280) (by decide) ?_
  refine z_icmp_ge (n := 21) (t := 42) dX7_keep_18 rfl (by decide) (fun hc => ?_) (fun hc => ?_)
  · replace hF := (if_pos hc).symm.trans hF
    refine z_sub [0] rfl ?_
    have hF := Option.some.inj hF; subst hF
    exact kx _ rfl
  · replace hF := (if_neg hc).symm.trans hF
    refine z_aload_n (n := 22) dX7_keep_21 rfl 0 rfl rfl ?_
    refine z_getRS (n := 25) dX7_keep_22 rfl zok6 fX7_93 rfl hM.1 (Or.inl (by decide)) (mF_33 hM) ?_
    refine z_iload_n (n := 26) dX7_keep_25 rfl 1 rfl rfl ?_
    refine z_bipush (n := 28) (v := 57) dX7_keep_26 rfl (by decide) ?_
    refine z_isub (n := 29) dX7_keep_28 rfl ?_
    refine z_aload_n (n := 30) dX7_keep_29 rfl 0 rfl rfl ?_
    refine z_getRS (n := 33) dX7_keep_30 rfl zok6 fX7_93 rfl hM.1 (Or.inl (by decide)) (mF_33 hM) ?_
    refine z_iload_n (n := 34) dX7_keep_33 rfl 1 rfl rfl ?_
    obtain ⟨h_11, hF⟩ := zg_some hF
    refine z_ialdK (n := 35) v1_9.toNatClampNeg rfl dX7_keep_34 rfl (mK_33 hM) (zin_ok h_11) ?_
    obtain ⟨h_12, hF⟩ := zg_some hF
    obtain ⟨I_13, e_14, hF⟩ := zlet_ob hF
    refine z_iastK (n := 36) ((v1_9 - 57).toNatClampNeg) rfl dX7_keep_35 rfl (mK_33 hM) (by decide) (zin_ok h_12) e_14 ?_
    obtain ⟨v1_15, e_16, hF⟩ := zlet_ob hF
    refine z_iincE (n := 39) (w := 1) (v := v1_15) (lv' := [(1, .int v1_15), (0, .ref 1860)]) dX7_keep_36 rfl 1 rfl (by decide) e_16 (by decide) rfl ?_
    refine z_goto (t := 12) dX7_keep_39 (by decide) ?_
    refine z_sub [1, 0] rfl ?_
    have hF := Option.some.inj hF; subst hF
    exact kl _ _ rfl
set_option maxHeartbeats 1000000 in
theorem C_X7_keep {l : Launch} {G : zGt} (htr : l.stackTraces = false) {K : zKd} {F : zFd} {L : zLd} (hM : zMLay K F) {I : zId} {r : zId} (hF : F_X7_keep I = some r) : zMet l G yX7_keep (ws_ yX7_keep cX7_keep 2 none) 1 24 0 0 [.ref 1860] K F I L (zQe (.inl none) K F r L) := by
  refine zMet.of (by decide +kernel) htr (Nat.le_of_ble_eq_true rfl) ?_
  change zW l G MX7_keep 1 24 0 0 0 [(0, .ref 1860)] [] K F I L (zQe (.inl none) K F r L)
  unfold F_X7_keep at hF
  refine z_aload_n (n := 1) dX7_keep_0 rfl 0 rfl rfl ?_
  refine z_getI (n := 4) dX7_keep_1 rfl zok6 fX7_324 rfl hM.1 (Or.inl (by decide)) ?_
  refine z_bipush (n := 6) (v := 40) dX7_keep_4 rfl (by decide) ?_
  obtain ⟨k_2, e_3, hF⟩ := zlet_ob hF
  have H_4 : ∀ (I_1 : zId), k_2 I_1 = some r → zW l G MX7_keep 1 24 0 0 52 [(0, .ref 1860)] [] K F I_1 L (zQe (.inl none) K F r L) := by
    intro I_1 hF
    subst e_3
    dsimp only at hF
    refine z_aload_n (n := 53) dX7_keep_52 rfl 0 rfl rfl ?_
    refine z_aload_n (n := 54) dX7_keep_53 rfl 0 rfl rfl ?_
    refine z_getRS (n := 57) dX7_keep_54 rfl zok6 fX7_93 rfl hM.1 (Or.inl (by decide)) (mF_33 hM) ?_
    refine z_bipush (n := 59) (v := 57) dX7_keep_57 rfl (by decide) ?_
    refine z_aload_n (n := 60) dX7_keep_59 rfl 0 rfl rfl ?_
    refine z_getI (n := 63) dX7_keep_60 rfl zok6 fX7_324 rfl hM.1 (Or.inl (by decide)) ?_
    refine z_imul (n := 64) dX7_keep_63 rfl ?_
    obtain ⟨I_6, c_5, hF⟩ := zb1_some hF
    refine z_cV (n := 67) (st := []) (C_X7_pack htr hM (mK_33 hM) (by decide) c_5) dX7_keep_64 rfl (lw_V q2081 q2083 qs84 q131 q2084) hcee_X7_pack rfl (by decide) hM.1 rfl rfl rfl (Nat.le_of_ble_eq_true rfl) (Nat.le_refl _) (Nat.le_refl _) ?_
    refine z_aload_n (n := 68) dX7_keep_67 rfl 0 rfl rfl ?_
    refine z_dup (n := 69) dX7_keep_68 rfl rfl ?_
    refine z_getI (n := 72) dX7_keep_69 rfl zok6 fX7_324 rfl hM.1 (Or.inl (by decide)) ?_
    refine z_iconst (n := 73) (v := 1) dX7_keep_72 rfl (by decide) ?_
    refine z_iadd (n := 74) dX7_keep_73 rfl ?_
    obtain ⟨I_7, e_8, hF⟩ := zlet_ob hF
    refine z_putIE (n := 77) dX7_keep_74 rfl zok6 fX7_324 (Or.inl ⟨_, rfl, rfl⟩) rfl ⟨rfl, rfl⟩ hM.1 (by decide) e_8 ?_
    have hF := Option.some.inj hF; subst hF
    exact z_vret dX7_keep_77 rfl ⟨rfl, rfl, rfl, rfl, rfl⟩
  clear e_3
  refine z_icmp_ne (n := 9) (t := 52) dX7_keep_6 rfl (by decide) (fun hc => ?_) (fun hc => ?_)
  · replace hF := (if_pos hc).symm.trans hF
    exact H_4 _ hF
  · replace hF := (if_neg hc).symm.trans hF
    refine z_bipush (n := 11) (v := 57) dX7_keep_9 rfl (by decide) ?_
    refine z_istore_nE (n := 12) (lv' := [(1, .int 57), (0, .ref 1860)]) dX7_keep_11 rfl rfl rfl (by decide) rfl ?_
    refine z_sub [1, 0] rfl ?_
    obtain ⟨t_21, e_18, hF⟩ := zb1_some hF
    obtain ⟨I_17, rfl⟩ : ∃ z, z = t_21 := ⟨_, rfl⟩
    have H_22 : zW l G MX7_keep 1 24 0 0 42 [(0, .ref 1860)] [] K F I_17 L (zQe (.inl none) K F r L) := by
      refine z_aload_n (n := 43) dX7_keep_42 rfl 0 rfl rfl ?_
      refine z_dup (n := 44) dX7_keep_43 rfl rfl ?_
      refine z_getI (n := 47) dX7_keep_44 rfl zok6 fX7_324 rfl hM.1 (Or.inl (by decide)) ?_
      refine z_iconst (n := 48) (v := 1) dX7_keep_47 rfl (by decide) ?_
      refine z_isub (n := 49) dX7_keep_48 rfl ?_
      obtain ⟨I_19, e_20, hF⟩ := zlet_ob hF
      refine z_putIE (n := 52) dX7_keep_49 rfl zok6 fX7_324 (Or.inl ⟨_, rfl, rfl⟩) rfl ⟨rfl, rfl⟩ hM.1 (by decide) e_20 ?_
      exact H_4 _ hF
    refine zloop_ind (P := fun s : Int32 × zId => zW l G MX7_keep 1 24 0 0 12 [(0, .ref 1860), (1, .int s.1)] [] K F s.2 L (zQe (.inl none) K F r L)) (fun s r hb kl kr => ?_) e_18
    exact W_X7_keep_L12 htr hM hb (fun z0 z1 e => kl _ e) (fun y0 e => by cases kr _ e; exact H_22)
theorem fX7_355 : zFld RX7 355 6 41 := ⟨_, rfl, by decide, _, Or.inl q1718, Or.inl rfl⟩
abbrev MX7_hunt : zM := (RX7, cX7_hunt, 5, none, "hunt", [])
noncomputable def F_X7_hunt (a0 : Int32) (I : zId) : Option (zId) := zg (zin a0 6) (zlet (I 1878 a0.toNatClampNeg) (fun v2_2 => zb2 (F_X7_takes a0 I) (fun x_5 I_6 => if ¬ x_5 = 0 then zg (zin v2_2 8) (zg (zin v2_2 8) (zg (!(decide (I_6 1875 v2_2.toNatClampNeg = 0))) (zlet (((I_6 1876 v2_2.toNatClampNeg) * x_5) / (I_6 1875 v2_2.toNatClampNeg)) (fun v4_10 => zlet (fun (I_12 : zId) => zg (zin v2_2 8) (zg (zin v2_2 8) (zlet (zu I_12 1876 v2_2.toNatClampNeg ((I_12 1876 v2_2.toNatClampNeg) - v4_10)) (fun I_18 => zg (zin v2_2 8) (zg (zin v2_2 8) (zlet (zu I_18 1875 v2_2.toNatClampNeg ((I_18 1875 v2_2.toNatClampNeg) - x_5)) (fun I_22 => zg (zin a0 6) (zg (zin a0 6) (zlet (zu I_22 1880 a0.toNatClampNeg (zmin 9999 ((I_22 1880 a0.toNatClampNeg) + x_5))) (fun I_26 => some I_26)))))))))) (fun k_13 => if v4_10 ≤ 0 then k_13 I_6 else zlet (zu I_6 1860 41 v2_2) (fun I_28 => k_13 I_28)))))) else some I_6)))
set_option maxHeartbeats 1000000 in
theorem C_X7_hunt {l : Launch} {G : zGt} (htr : l.stackTraces = false) {K : zKd} {F : zFd} {L : zLd} {a0 : Int32} (hM : zMLay K F) {I : zId} {r : zId} (hF : F_X7_hunt a0 I = some r) : zMet l G yX7_hunt (ws_ yX7_hunt cX7_hunt 5 none) 3 68 0 0 [.ref 1860, .int a0] K F I L (zQe (.inl none) K F r L) := by
  refine zMet.of (by decide +kernel) htr (Nat.le_of_ble_eq_true rfl) ?_
  change zW l G MX7_hunt 3 68 0 0 0 [(0, .ref 1860), (1, .int a0)] [] K F I L (zQe (.inl none) K F r L)
  unfold F_X7_hunt at hF
  refine z_aload_n (n := 1) dX7_hunt_0 rfl 0 rfl rfl ?_
  refine z_getRS (n := 4) dX7_hunt_1 rfl zok6 fX7_80 rfl hM.1 (Or.inl (by decide)) (mF_28 hM) ?_
  refine z_iload_n (n := 5) dX7_hunt_4 rfl 1 rfl rfl ?_
  obtain ⟨h_1, hF⟩ := zg_some hF
  refine z_ialdK (n := 6) a0.toNatClampNeg rfl dX7_hunt_5 rfl (mK_28 hM) (zin_ok h_1) ?_
  obtain ⟨v2_2, e_3, hF⟩ := zlet_ob hF
  refine z_istore_nE (n := 7) (lv' := [(2, .int v2_2), (0, .ref 1860), (1, .int a0)]) dX7_hunt_6 rfl e_3 rfl (by decide) rfl ?_
  refine z_aload_n (n := 8) dX7_hunt_7 rfl 1 rfl rfl ?_
  refine z_iload_n (n := 9) dX7_hunt_8 rfl 2 rfl rfl ?_
  obtain ⟨x_5, I_6, c_4, hF⟩ := zb2_some hF
  refine z_cV (n := 12) (st := []) (C_X7_takes htr hM c_4) dX7_hunt_9 rfl (lw_V q2049 q2051 qs79 q131 q2052) hcee_X7_takes rfl (by decide) hM.1 rfl rfl rfl (Nat.le_of_ble_eq_true rfl) (Nat.le_refl _) (Nat.le_refl _) ?_
  refine z_istore_nE (n := 13) (lv' := [(3, .int x_5), (2, .int v2_2), (0, .ref 1860), (1, .int a0)]) dX7_hunt_12 rfl rfl rfl (by decide) rfl ?_
  refine z_iload_n (n := 14) dX7_hunt_13 rfl 0 rfl rfl ?_
  refine z_if_ne (n := 17) (t := 18) dX7_hunt_14 rfl (by decide) (fun hc => ?_) (fun hc => ?_)
  · replace hF := (if_pos hc).symm.trans hF
    refine z_aload_n (n := 19) dX7_hunt_18 rfl 2 rfl rfl ?_
    refine z_getRS (n := 22) dX7_hunt_19 rfl zok6 fX7_74 rfl hM.1 (Or.inl (by decide)) (mF_26 hM) ?_
    refine z_iload_n (n := 23) dX7_hunt_22 rfl 1 rfl rfl ?_
    obtain ⟨h_7, hF⟩ := zg_some hF
    refine z_ialdK (n := 24) v2_2.toNatClampNeg rfl dX7_hunt_23 rfl (mK_26 hM) (zin_ok h_7) ?_
    refine z_iload_n (n := 25) dX7_hunt_24 rfl 0 rfl rfl ?_
    refine z_imul (n := 26) dX7_hunt_25 rfl ?_
    refine z_aload_n (n := 27) dX7_hunt_26 rfl 2 rfl rfl ?_
    refine z_getRS (n := 30) dX7_hunt_27 rfl zok6 fX7_72 rfl hM.1 (Or.inl (by decide)) (mF_25 hM) ?_
    refine z_iload_n (n := 31) dX7_hunt_30 rfl 1 rfl rfl ?_
    obtain ⟨h_8, hF⟩ := zg_some hF
    refine z_ialdK (n := 32) v2_2.toNatClampNeg rfl dX7_hunt_31 rfl (mK_25 hM) (zin_ok h_8) ?_
    obtain ⟨h_9, hF⟩ := zg_some hF
    refine z_idiv (n := 33) dX7_hunt_32 rfl (zneg0 (a := 0) h_9) ?_
    obtain ⟨v4_10, e_11, hF⟩ := zlet_ob hF
    refine z_istoreE (n := 35) (lv' := [(4, .int v4_10), (3, .int x_5), (2, .int v2_2), (0, .ref 1860), (1, .int a0)]) dX7_hunt_33 rfl e_11 (by decide) rfl ?_
    refine z_iload (n := 37) dX7_hunt_35 rfl 0 rfl ?_
    obtain ⟨k_13, e_14, hF⟩ := zlet_ob hF
    have H_15 : ∀ (I_12 : zId), k_13 I_12 = some r → zW l G MX7_hunt 3 68 0 0 45 [(0, .ref 1860), (1, .int a0), (2, .int v2_2), (3, .int x_5), (4, .int v4_10)] [] K F I_12 L (zQe (.inl none) K F r L) := by
      intro I_12 hF
      subst e_14
      dsimp only at hF
      refine z_aload_n (n := 46) dX7_hunt_45 rfl 0 rfl rfl ?_
      refine z_getRS (n := 49) dX7_hunt_46 rfl zok6 fX7_74 rfl hM.1 (Or.inl (by decide)) (mF_26 hM) ?_
      refine z_iload_n (n := 50) dX7_hunt_49 rfl 2 rfl rfl ?_
      refine z_dup2 (n := 51) dX7_hunt_50 rfl rfl rfl ?_
      obtain ⟨h_16, hF⟩ := zg_some hF
      refine z_ialdK (n := 52) v2_2.toNatClampNeg rfl dX7_hunt_51 rfl (mK_26 hM) (zin_ok h_16) ?_
      refine z_iload (n := 54) dX7_hunt_52 rfl 4 rfl ?_
      refine z_isub (n := 55) dX7_hunt_54 rfl ?_
      obtain ⟨h_17, hF⟩ := zg_some hF
      obtain ⟨I_18, e_19, hF⟩ := zlet_ob hF
      refine z_iastK (n := 56) v2_2.toNatClampNeg rfl dX7_hunt_55 rfl (mK_26 hM) (by decide) (zin_ok h_17) e_19 ?_
      refine z_aload_n (n := 57) dX7_hunt_56 rfl 0 rfl rfl ?_
      refine z_getRS (n := 60) dX7_hunt_57 rfl zok6 fX7_72 rfl hM.1 (Or.inl (by decide)) (mF_25 hM) ?_
      refine z_iload_n (n := 61) dX7_hunt_60 rfl 2 rfl rfl ?_
      refine z_dup2 (n := 62) dX7_hunt_61 rfl rfl rfl ?_
      obtain ⟨h_20, hF⟩ := zg_some hF
      refine z_ialdK (n := 63) v2_2.toNatClampNeg rfl dX7_hunt_62 rfl (mK_25 hM) (zin_ok h_20) ?_
      refine z_iload_n (n := 64) dX7_hunt_63 rfl 3 rfl rfl ?_
      refine z_isub (n := 65) dX7_hunt_64 rfl ?_
      obtain ⟨h_21, hF⟩ := zg_some hF
      obtain ⟨I_22, e_23, hF⟩ := zlet_ob hF
      refine z_iastK (n := 66) v2_2.toNatClampNeg rfl dX7_hunt_65 rfl (mK_25 hM) (by decide) (zin_ok h_21) e_23 ?_
      refine z_aload_n (n := 67) dX7_hunt_66 rfl 0 rfl rfl ?_
      refine z_getRS (n := 70) dX7_hunt_67 rfl zok6 fX7_86 rfl hM.1 (Or.inl (by decide)) (mF_30 hM) ?_
      refine z_iload_n (n := 71) dX7_hunt_70 rfl 1 rfl rfl ?_
      refine z_sipush (n := 74) (v := 9999) dX7_hunt_71 rfl (by decide) ?_
      refine z_aload_n (n := 75) dX7_hunt_74 rfl 0 rfl rfl ?_
      refine z_getRS (n := 78) dX7_hunt_75 rfl zok6 fX7_86 rfl hM.1 (Or.inl (by decide)) (mF_30 hM) ?_
      refine z_iload_n (n := 79) dX7_hunt_78 rfl 1 rfl rfl ?_
      obtain ⟨h_24, hF⟩ := zg_some hF
      refine z_ialdK (n := 80) a0.toNatClampNeg rfl dX7_hunt_79 rfl (mK_30 hM) (zin_ok h_24) ?_
      refine z_iload_n (n := 81) dX7_hunt_80 rfl 3 rfl rfl ?_
      refine z_iadd (n := 82) dX7_hunt_81 rfl ?_
      refine z_min (n := 85) dX7_hunt_82 rfl q1898 q290 q119 q291 (by decide) (Nat.le_of_ble_eq_true rfl) ?_
      obtain ⟨h_25, hF⟩ := zg_some hF
      obtain ⟨I_26, e_27, hF⟩ := zlet_ob hF
      refine z_iastK (n := 86) a0.toNatClampNeg rfl dX7_hunt_85 rfl (mK_30 hM) (by decide) (zin_ok h_25) e_27 ?_
      have hF := Option.some.inj hF; subst hF
      exact z_vret dX7_hunt_86 rfl ⟨rfl, rfl, rfl, rfl, rfl⟩
    clear e_14
    refine z_if_le (n := 40) (t := 45) dX7_hunt_37 rfl (by decide) (fun hc => ?_) (fun hc => ?_)
    · replace hF := (if_pos hc).symm.trans hF
      refine z_sub [3, 4, 2, 1, 0] rfl ?_
      exact H_15 _ hF
    · replace hF := (if_neg hc).symm.trans hF
      refine z_aload_n (n := 41) dX7_hunt_40 rfl 3 rfl rfl ?_
      refine z_iload_n (n := 42) dX7_hunt_41 rfl 2 rfl rfl ?_
      obtain ⟨I_28, e_29, hF⟩ := zlet_ob hF
      refine z_putIE (n := 45) dX7_hunt_42 rfl zok6 fX7_355 (Or.inl ⟨_, rfl, rfl⟩) rfl ⟨rfl, rfl⟩ hM.1 (by decide) e_29 ?_
      refine z_sub [3, 4, 2, 1, 0] rfl ?_
      exact H_15 _ hF
  · replace hF := (if_neg hc).symm.trans hF
    have hF := Option.some.inj hF; subst hF
    exact z_vret dX7_hunt_17 rfl ⟨rfl, rfl, rfl, rfl, rfl⟩
abbrev MX7_pay : zM := (RX7, cX7_pay, 5, none, "pay", [])
noncomputable def F_X7_pay (a0 : Int32) (I : zId) : Option (zId) := zb1 (F_X7_due a0 I) (fun x_2 => zg (zin a0 6) (zlet (x_2 + (I 1881 a0.toNatClampNeg)) (fun v2_4 => zg (zin a0 6) (zlet (zmin v2_4 (I 1880 a0.toNatClampNeg)) (fun v3_7 => zg (zin a0 6) (zg (zin a0 6) (zlet (zu I 1880 a0.toNatClampNeg ((I 1880 a0.toNatClampNeg) - v3_7)) (fun I_11 => zlet (zu I_11 1860 35 ((I_11 1860 35) + v3_7)) (fun I_13 => zg (zin a0 6) (zlet (zu I_13 1881 a0.toNatClampNeg (zmin 9999 (v2_4 - v3_7))) (fun I_16 => zg (zin a0 6) (if (I_16 1862 6) < (I_16 1881 a0.toNatClampNeg) then zg (zin a0 6) (zlet (((I_16 1881 a0.toNatClampNeg) - (I_16 1862 6)) / 2) (fun v4_20 => zlet (zu I_16 1860 36 ((I_16 1860 36) + ((I_16 1862 5) * v4_20))) (fun I_22 => zg (zin a0 6) (zg (zin a0 6) (zlet (zu I_22 1881 a0.toNatClampNeg ((I_22 1881 a0.toNatClampNeg) - v4_20)) (fun I_26 => zg (zin a0 6) (zg (zin a0 6) (zlet (zu I_26 1882 a0.toNatClampNeg ((I_26 1882 a0.toNatClampNeg) + 1)) (fun I_30 => some I_30))))))))) else some I_16))))))))))))
set_option maxHeartbeats 1000000 in
theorem C_X7_pay {l : Launch} {G : zGt} (htr : l.stackTraces = false) {K : zKd} {F : zFd} {L : zLd} {a0 : Int32} (hM : zMLay K F) {I : zId} {r : zId} (hF : F_X7_pay a0 I = some r) : zMet l G yX7_pay (ws_ yX7_pay cX7_pay 5 none) 1 24 0 0 [.ref 1860, .int a0] K F I L (zQe (.inl none) K F r L) := by
  refine zMet.of (by decide +kernel) htr (Nat.le_of_ble_eq_true rfl) ?_
  change zW l G MX7_pay 1 24 0 0 0 [(0, .ref 1860), (1, .int a0)] [] K F I L (zQe (.inl none) K F r L)
  unfold F_X7_pay at hF
  refine z_aload_n (n := 1) dX7_pay_0 rfl 0 rfl rfl ?_
  refine z_iload_n (n := 2) dX7_pay_1 rfl 1 rfl rfl ?_
  obtain ⟨x_2, c_1, hF⟩ := zb1_some hF
  refine z_cV (n := 5) (st := []) (C_X7_due htr hM c_1) dX7_pay_2 rfl (lw_V q2053 q2055 qs80 q131 q2056) hcee_X7_due rfl (by decide) hM.1 rfl rfl rfl (Nat.le_of_ble_eq_true rfl) (Nat.le_refl _) (Nat.le_refl _) ?_
  refine z_aload_n (n := 6) dX7_pay_5 rfl 0 rfl rfl ?_
  refine z_getRS (n := 9) dX7_pay_6 rfl zok6 fX7_88 rfl hM.1 (Or.inl (by decide)) (mF_31 hM) ?_
  refine z_iload_n (n := 10) dX7_pay_9 rfl 1 rfl rfl ?_
  obtain ⟨h_3, hF⟩ := zg_some hF
  refine z_ialdK (n := 11) a0.toNatClampNeg rfl dX7_pay_10 rfl (mK_31 hM) (zin_ok h_3) ?_
  refine z_iadd (n := 12) dX7_pay_11 rfl ?_
  obtain ⟨v2_4, e_5, hF⟩ := zlet_ob hF
  refine z_istore_nE (n := 13) (lv' := [(2, .int v2_4), (0, .ref 1860), (1, .int a0)]) dX7_pay_12 rfl e_5 rfl (by decide) rfl ?_
  refine z_iload_n (n := 14) dX7_pay_13 rfl 0 rfl rfl ?_
  refine z_aload_n (n := 15) dX7_pay_14 rfl 1 rfl rfl ?_
  refine z_getRS (n := 18) dX7_pay_15 rfl zok6 fX7_86 rfl hM.1 (Or.inl (by decide)) (mF_30 hM) ?_
  refine z_iload_n (n := 19) dX7_pay_18 rfl 2 rfl rfl ?_
  obtain ⟨h_6, hF⟩ := zg_some hF
  refine z_ialdK (n := 20) a0.toNatClampNeg rfl dX7_pay_19 rfl (mK_30 hM) (zin_ok h_6) ?_
  refine z_min (n := 23) dX7_pay_20 rfl q1898 q290 q119 q291 (by decide) (Nat.le_of_ble_eq_true rfl) ?_
  obtain ⟨v3_7, e_8, hF⟩ := zlet_ob hF
  refine z_istore_nE (n := 24) (lv' := [(3, .int v3_7), (2, .int v2_4), (0, .ref 1860), (1, .int a0)]) dX7_pay_23 rfl e_8 rfl (by decide) rfl ?_
  refine z_aload_n (n := 25) dX7_pay_24 rfl 2 rfl rfl ?_
  refine z_getRS (n := 28) dX7_pay_25 rfl zok6 fX7_86 rfl hM.1 (Or.inl (by decide)) (mF_30 hM) ?_
  refine z_iload_n (n := 29) dX7_pay_28 rfl 3 rfl rfl ?_
  refine z_dup2 (n := 30) dX7_pay_29 rfl rfl rfl ?_
  obtain ⟨h_9, hF⟩ := zg_some hF
  refine z_ialdK (n := 31) a0.toNatClampNeg rfl dX7_pay_30 rfl (mK_30 hM) (zin_ok h_9) ?_
  refine z_iload_n (n := 32) dX7_pay_31 rfl 0 rfl rfl ?_
  refine z_isub (n := 33) dX7_pay_32 rfl ?_
  obtain ⟨h_10, hF⟩ := zg_some hF
  obtain ⟨I_11, e_12, hF⟩ := zlet_ob hF
  refine z_iastK (n := 34) a0.toNatClampNeg rfl dX7_pay_33 rfl (mK_30 hM) (by decide) (zin_ok h_10) e_12 ?_
  refine z_aload_n (n := 35) dX7_pay_34 rfl 2 rfl rfl ?_
  refine z_dup (n := 36) dX7_pay_35 rfl rfl ?_
  refine z_getI (n := 39) dX7_pay_36 rfl zok6 fX7_318 rfl hM.1 (Or.inl (by decide)) ?_
  refine z_iload_n (n := 40) dX7_pay_39 rfl 0 rfl rfl ?_
  refine z_iadd (n := 41) dX7_pay_40 rfl ?_
  obtain ⟨I_13, e_14, hF⟩ := zlet_ob hF
  refine z_putIE (n := 44) dX7_pay_41 rfl zok6 fX7_318 (Or.inl ⟨_, rfl, rfl⟩) rfl ⟨rfl, rfl⟩ hM.1 (by decide) e_14 ?_
  refine z_aload_n (n := 45) dX7_pay_44 rfl 2 rfl rfl ?_
  refine z_getRS (n := 48) dX7_pay_45 rfl zok6 fX7_88 rfl hM.1 (Or.inl (by decide)) (mF_31 hM) ?_
  refine z_iload_n (n := 49) dX7_pay_48 rfl 3 rfl rfl ?_
  refine z_sipush (n := 52) (v := 9999) dX7_pay_49 rfl (by decide) ?_
  refine z_iload_n (n := 53) dX7_pay_52 rfl 1 rfl rfl ?_
  refine z_iload_n (n := 54) dX7_pay_53 rfl 0 rfl rfl ?_
  refine z_isub (n := 55) dX7_pay_54 rfl ?_
  refine z_min (n := 58) dX7_pay_55 rfl q1898 q290 q119 q291 (by decide) (Nat.le_of_ble_eq_true rfl) ?_
  obtain ⟨h_15, hF⟩ := zg_some hF
  obtain ⟨I_16, e_17, hF⟩ := zlet_ob hF
  refine z_iastK (n := 59) a0.toNatClampNeg rfl dX7_pay_58 rfl (mK_31 hM) (by decide) (zin_ok h_15) e_17 ?_
  refine z_aload_n (n := 60) dX7_pay_59 rfl 2 rfl rfl ?_
  refine z_getRS (n := 63) dX7_pay_60 rfl zok6 fX7_88 rfl hM.1 (Or.inl (by decide)) (mF_31 hM) ?_
  refine z_iload_n (n := 64) dX7_pay_63 rfl 3 rfl rfl ?_
  obtain ⟨h_18, hF⟩ := zg_some hF
  refine z_ialdK (n := 65) a0.toNatClampNeg rfl dX7_pay_64 rfl (mK_31 hM) (zin_ok h_18) ?_
  refine z_aload_n (n := 66) dX7_pay_65 rfl 2 rfl rfl ?_
  refine z_getRS (n := 69) dX7_pay_66 rfl zok6 fX7_29 rfl hM.1 (Or.inl (by decide)) (mF_2 hM) ?_
  refine z_bipush (n := 71) (v := 6) dX7_pay_69 rfl (by decide) ?_
  refine z_ialdK (n := 72) 6 (by decide) dX7_pay_71 rfl (mK_2 hM) (zin_ok (i := 6) (n := 16) rfl) ?_
  refine z_icmp_gt (n := 75) (t := 76) dX7_pay_72 rfl (by decide) (fun hc => ?_) (fun hc => ?_)
  · replace hF := (if_pos hc).symm.trans hF
    refine z_aload_n (n := 77) dX7_pay_76 rfl 2 rfl rfl ?_
    refine z_getRS (n := 80) dX7_pay_77 rfl zok6 fX7_88 rfl hM.1 (Or.inl (by decide)) (mF_31 hM) ?_
    refine z_iload_n (n := 81) dX7_pay_80 rfl 3 rfl rfl ?_
    obtain ⟨h_19, hF⟩ := zg_some hF
    refine z_ialdK (n := 82) a0.toNatClampNeg rfl dX7_pay_81 rfl (mK_31 hM) (zin_ok h_19) ?_
    refine z_aload_n (n := 83) dX7_pay_82 rfl 2 rfl rfl ?_
    refine z_getRS (n := 86) dX7_pay_83 rfl zok6 fX7_29 rfl hM.1 (Or.inl (by decide)) (mF_2 hM) ?_
    refine z_bipush (n := 88) (v := 6) dX7_pay_86 rfl (by decide) ?_
    refine z_ialdK (n := 89) 6 (by decide) dX7_pay_88 rfl (mK_2 hM) (zin_ok (i := 6) (n := 16) rfl) ?_
    refine z_isub (n := 90) dX7_pay_89 rfl ?_
    refine z_iconst (n := 91) (v := 2) dX7_pay_90 rfl (by decide) ?_
    refine z_idiv (n := 92) dX7_pay_91 rfl (by decide) ?_
    obtain ⟨v4_20, e_21, hF⟩ := zlet_ob hF
    refine z_istoreE (n := 94) (lv' := [(4, .int v4_20), (3, .int v3_7), (2, .int v2_4), (0, .ref 1860), (1, .int a0)]) dX7_pay_92 rfl e_21 (by decide) rfl ?_
    refine z_aload_n (n := 95) dX7_pay_94 rfl 3 rfl rfl ?_
    refine z_dup (n := 96) dX7_pay_95 rfl rfl ?_
    refine z_getI (n := 99) dX7_pay_96 rfl zok6 fX7_321 rfl hM.1 (Or.inl (by decide)) ?_
    refine z_aload_n (n := 100) dX7_pay_99 rfl 3 rfl rfl ?_
    refine z_getRS (n := 103) dX7_pay_100 rfl zok6 fX7_29 rfl hM.1 (Or.inl (by decide)) (mF_2 hM) ?_
    refine z_iconst (n := 104) (v := 5) dX7_pay_103 rfl (by decide) ?_
    refine z_ialdK (n := 105) 5 (by decide) dX7_pay_104 rfl (mK_2 hM) (zin_ok (i := 5) (n := 16) rfl) ?_
    refine z_iload (n := 107) dX7_pay_105 rfl 0 rfl ?_
    refine z_imul (n := 108) dX7_pay_107 rfl ?_
    refine z_iadd (n := 109) dX7_pay_108 rfl ?_
    obtain ⟨I_22, e_23, hF⟩ := zlet_ob hF
    refine z_putIE (n := 112) dX7_pay_109 rfl zok6 fX7_321 (Or.inl ⟨_, rfl, rfl⟩) rfl ⟨rfl, rfl⟩ hM.1 (by decide) e_23 ?_
    refine z_aload_n (n := 113) dX7_pay_112 rfl 3 rfl rfl ?_
    refine z_getRS (n := 116) dX7_pay_113 rfl zok6 fX7_88 rfl hM.1 (Or.inl (by decide)) (mF_31 hM) ?_
    refine z_iload_n (n := 117) dX7_pay_116 rfl 4 rfl rfl ?_
    refine z_dup2 (n := 118) dX7_pay_117 rfl rfl rfl ?_
    obtain ⟨h_24, hF⟩ := zg_some hF
    refine z_ialdK (n := 119) a0.toNatClampNeg rfl dX7_pay_118 rfl (mK_31 hM) (zin_ok h_24) ?_
    refine z_iload (n := 121) dX7_pay_119 rfl 0 rfl ?_
    refine z_isub (n := 122) dX7_pay_121 rfl ?_
    obtain ⟨h_25, hF⟩ := zg_some hF
    obtain ⟨I_26, e_27, hF⟩ := zlet_ob hF
    refine z_iastK (n := 123) a0.toNatClampNeg rfl dX7_pay_122 rfl (mK_31 hM) (by decide) (zin_ok h_25) e_27 ?_
    refine z_aload_n (n := 124) dX7_pay_123 rfl 3 rfl rfl ?_
    refine z_getRS (n := 127) dX7_pay_124 rfl zok6 fX7_90 rfl hM.1 (Or.inl (by decide)) (mF_32 hM) ?_
    refine z_iload_n (n := 128) dX7_pay_127 rfl 4 rfl rfl ?_
    refine z_dup2 (n := 129) dX7_pay_128 rfl rfl rfl ?_
    obtain ⟨h_28, hF⟩ := zg_some hF
    refine z_ialdK (n := 130) a0.toNatClampNeg rfl dX7_pay_129 rfl (mK_32 hM) (zin_ok h_28) ?_
    refine z_iconst (n := 131) (v := 1) dX7_pay_130 rfl (by decide) ?_
    refine z_iadd (n := 132) dX7_pay_131 rfl ?_
    obtain ⟨h_29, hF⟩ := zg_some hF
    obtain ⟨I_30, e_31, hF⟩ := zlet_ob hF
    refine z_iastK (n := 133) a0.toNatClampNeg rfl dX7_pay_132 rfl (mK_32 hM) (by decide) (zin_ok h_29) e_31 ?_
    have hF := Option.some.inj hF; subst hF
    exact z_vret dX7_pay_133 rfl ⟨rfl, rfl, rfl, rfl, rfl⟩
  · replace hF := (if_neg hc).symm.trans hF
    have hF := Option.some.inj hF; subst hF
    exact z_vret dX7_pay_75 rfl ⟨rfl, rfl, rfl, rfl, rfl⟩
